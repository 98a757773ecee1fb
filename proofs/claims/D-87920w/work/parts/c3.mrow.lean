/-! the model's rows stand for the span's rows -/
set_option maxRecDepth 100000
set_option linter.unusedVariables false
/-- a row's numbers by the model's cells -/
def mpx (n : Nat) (tc : Nat → Nat) (X : xV) (j : Nat) : Rat := if n ≤ j ∧ j < 35 then 0 else X (sqx tc j)
theorem mpx_col {n j : Nat} {tc : Nat → Nat} {X : xV} (hj : j < n) (hn : n ≤ 35) : mpx n tc X j = X (tc j) := by
  unfold mpx sqx
  rw [if_neg (by omega), if_pos (by omega)]
theorem mpx_mark {n u : Nat} {tc : Nat → Nat} {X : xV} : mpx n tc X (35 + u) = X (455 + u) := by
  unfold mpx sqx
  rw [if_neg (by omega), if_neg (by omega)]
  congr 1; omega
def mprim (V : Nat → Int) : Prop := ∀ m : Nat, 1 < m → ∃ j, j < 70 ∧ ¬ (m : Int) ∣ V j
/-- V is a primitive multiple of X -/
def mrow (n : Nat) (tc : Nat → Nat) (X : xV) (V : Nat → Int) : Prop := (∃ ρ : Rat, ρ ≠ 0 ∧ ∀ j, j < 70 → (V j : Rat) = ρ * mpx n tc X j) ∧ mprim V
theorem den_qmul (q : Rat) : q * ((q.den : Int) : Rat) = (q.num : Rat) := by
  have h := Rat.num_divInt_den q
  have h0 : (q.den : Int) ≠ 0 := by have := q.den_pos; omega
  have h1 : q = (q.num : Rat) / ((q.den : Int) : Rat) := by
    rw [← Rat.divInt_eq_div]; exact h.symm
  have h2 : ((q.den : Int) : Rat) ≠ 0 := fun w => h0 (Rat.intCast_inj.mp w)
  have h3 : (q.num : Rat) / ((q.den : Int) : Rat) * ((q.den : Int) : Rat) = q.num := Rat.div_mul_cancel h2
  rw [← h1] at h3
  exact h3
theorem prim_le {V z : Nat → Int} {X : Nat → Rat} {ρ δ : Rat} (hρ : ρ ≠ 0) (hδ : δ ≠ 0) (h : ∀ j, j < 70 → (V j : Rat) = ρ * X j) (hp : mprim V) (hz : ∀ j, j < 70 → (z j : Rat) = δ * X j) : ∀ j, j < 70 → (V j).natAbs ≤ (z j).natAbs := by
  have e : ∀ j, j < 70 → (δ / ρ).den * z j = (δ / ρ).num * V j := fun j hj => by
    refine Rat.intCast_inj.mp ?_
    rw [Rat.intCast_mul, Rat.intCast_mul, h j hj, hz j hj]
    have h1 : (((δ / ρ).den : Int) : Rat) * (δ / ρ) = ((δ / ρ).num : Rat) := by
      rw [Rat.mul_comm]; exact den_qmul _
    rw [← h1]
    have h2 : δ / ρ * ρ = δ := Rat.div_mul_cancel hρ
    have h3 : (((δ / ρ).den : Int) : Rat) * (δ / ρ) * (ρ * X j) = (((δ / ρ).den : Int) : Rat) * (δ / ρ * ρ) * X j := by grind
    rw [h3, h2]; grind
  have hn : (δ / ρ).num ≠ 0 := fun w => by
    have h2 : δ / ρ * ρ = δ := Rat.div_mul_cancel hρ
    have h3 : δ / ρ = 0 := Rat.num_eq_zero.mp w
    rw [h3, Rat.zero_mul] at h2
    exact hδ h2.symm
  have hd : (δ / ρ).den = 1 := by
    refine Classical.byContradiction fun w => ?_
    have h0 : 0 < (δ / ρ).den := (δ / ρ).den_pos
    obtain ⟨j, hj, hj2⟩ := hp (δ / ρ).den (by omega)
    refine hj2 ?_
    have h1 : ((δ / ρ).den : Int) ∣ (δ / ρ).num * V j := ⟨z j, (e j hj).symm⟩
    have h2 : (δ / ρ).den ∣ ((δ / ρ).num * V j).natAbs := Int.ofNat_dvd_left.mp h1
    rw [Int.natAbs_mul] at h2
    exact Int.ofNat_dvd_left.mpr (Nat.Coprime.dvd_of_dvd_mul_left (δ / ρ).reduced.symm h2)
  intro j hj
  have e1 := e j hj
  rw [hd] at e1
  have e2 : z j = (δ / ρ).num * V j := by rw [← e1]; exact (Int.one_mul _).symm
  rw [e2, Int.natAbs_mul]
  have : 0 < (δ / ρ).num.natAbs := Int.natAbs_pos.mpr hn
  exact Nat.le_mul_of_pos_left _ this
theorem mrow.le {n : Nat} {tc : Nat → Nat} {X : xV} {V : Nat → Int} {δ : Rat} {H : Int} (h : mrow n tc X V) (hδ : δ ≠ 0) (hH : 0 < H) (htc : ∀ j, j < 70 → (n ≤ j ∧ j < 35) ∨ ∃ z : Int, (z : Rat) = δ * X (sqx tc j) ∧ (z.natAbs : Int) < H) : ∀ j, j < 70 → ((V j).natAbs : Int) < H := by
  obtain ⟨⟨ρ, h1, h2⟩, h3⟩ := h
  have w : ∀ j, ∃ z : Int, j < 70 → (z : Rat) = δ * mpx n tc X j ∧ (z.natAbs : Int) < H := fun j => by
    by_cases hj : j < 70
    · by_cases q : n ≤ j ∧ j < 35
      · refine ⟨0, fun _ => ⟨?_, hH⟩⟩
        unfold mpx; rw [if_pos q, Rat.mul_zero]; rfl
      · rcases htc j hj with x | ⟨z, z1, z2⟩
        · exact absurd x q
        · refine ⟨z, fun _ => ⟨?_, z2⟩⟩
          unfold mpx; rw [if_neg q]; exact z1
    · exact ⟨0, fun x => absurd x hj⟩
  obtain ⟨z, hz⟩ := Classical.skolem.mp w
  intro j hj
  have := prim_le (z := z) h1 hδ h2 h3 (fun j hj => (hz j hj).1) j hj
  have := (hz j hj).2
  omega
theorem mrow.zero {n c : Nat} {tc : Nat → Nat} {X : xV} {V : Nat → Int} (h : mrow n tc X V) (hc : c < n) (hn : n ≤ 35) : V c = 0 ↔ X (tc c) = 0 := by
  obtain ⟨⟨ρ, h1, h2⟩, h3⟩ := h
  have e := h2 c (by omega)
  rw [mpx_col hc hn] at e
  constructor
  · intro w
    rw [w] at e
    have e0 : ρ * X (tc c) = 0 := e.symm
    rcases Rat.mul_eq_zero.mp e0 with q | q
    · exact absurd q h1
    · exact q
  · intro w
    rw [w, Rat.mul_zero] at e
    exact Rat.intCast_inj.mp e
theorem mrow.scale {n : Nat} {tc : Nat → Nat} {X : xV} {V : Nat → Int} (h : mrow n tc X V) {y : Rat} (hy : y ≠ 0) : mrow n tc (fun i => X i / y) V := by
  obtain ⟨⟨ρ, h1, h2⟩, h3⟩ := h
  refine ⟨⟨ρ * y, fun w => ?_, fun j hj => ?_⟩, h3⟩
  · rcases Rat.mul_eq_zero.mp w with q | q
    · exact h1 q
    · exact hy q
  · rw [h2 j hj]
    unfold mpx
    split
    · grind
    · have : X (sqx tc j) / y * y = X (sqx tc j) := Rat.div_mul_cancel hy
      show ρ * X (sqx tc j) = ρ * y * (X (sqx tc j) / y)
      generalize X (sqx tc j) / y = Q at *
      rw [← this]; grind
theorem mrow.step {n c : Nat} {tc : Nat → Nat} {X Y : xV} {V W V' : Nat → Int} (hX : mrow n tc X V) (hY : mrow n tc Y W) (hc : c < n) (hn : n ≤ 35) (hW : W c ≠ 0) (h : tkR V W V' c) (hz : ∃ j, j < 70 ∧ mpx n tc X j - X (tc c) / Y (tc c) * mpx n tc Y j ≠ 0) : mrow n tc (fun i => X i - X (tc c) / Y (tc c) * Y i) V' := by
  have hY0 : Y (tc c) ≠ 0 := fun w => hW ((hY.zero hc hn).mpr w)
  obtain ⟨⟨ρ, p1, p2⟩, p3⟩ := hX
  obtain ⟨⟨σ, q1, q2⟩, q3⟩ := hY
  obtain ⟨a, b, G, t1, t2, t3, t4⟩ := h
  have e1 := p2 c (by omega)
  have e2 := q2 c (by omega)
  rw [mpx_col hc hn] at e1 e2
  have hab : (a : Rat) * (ρ * X (tc c)) = b * (σ * Y (tc c)) := by
    rw [← e1, ← e2, ← Rat.intCast_mul, ← Rat.intCast_mul, t2]
  have hb : (b : Rat) * σ = a * ρ * (X (tc c) / Y (tc c)) := by
    have h1 : X (tc c) / Y (tc c) * Y (tc c) = X (tc c) := Rat.div_mul_cancel hY0
    have h2 : (b : Rat) * σ * Y (tc c) = a * ρ * (X (tc c) / Y (tc c)) * Y (tc c) := by
      rw [Rat.mul_assoc ((a : Rat) * ρ), h1]
      rw [Rat.mul_assoc, ← hab]; grind
    have h3 : ((b : Rat) * σ - a * ρ * (X (tc c) / Y (tc c))) * Y (tc c) = 0 := by grind
    rcases Rat.mul_eq_zero.mp h3 with q | q
    · grind
    · exact absurd q hY0
  have ha0 : (a : Rat) ≠ 0 := fun w => t1 (Rat.intCast_inj.mp w)
  have key : ∀ k, k < 70 → (G : Rat) * (V' k : Rat) = a * ρ * (mpx n tc X k - X (tc c) / Y (tc c) * mpx n tc Y k) := fun k hk => by
    rw [← Rat.intCast_mul, ← t3 k hk, Rat.intCast_sub, Rat.intCast_mul, Rat.intCast_mul, p2 k hk, q2 k hk]
    have : σ * mpx n tc Y k * (b : Rat) = (b : Rat) * σ * mpx n tc Y k := by grind
    rw [this, hb]; grind
  have hap : (a : Rat) * ρ ≠ 0 := fun w => by
    rcases Rat.mul_eq_zero.mp w with q | q
    · exact ha0 q
    · exact p1 q
  rcases t4 with t4 | ⟨g0, t4⟩
  · exfalso
    obtain ⟨j, hj, hj2⟩ := hz
    have e := key j hj
    rw [← Rat.intCast_mul, ← t3 j hj, (t4 j hj).1] at e
    have e0 : (a : Rat) * ρ * (mpx n tc X j - X (tc c) / Y (tc c) * mpx n tc Y j) = 0 := e.symm
    rcases Rat.mul_eq_zero.mp e0 with q | q
    · exact hap q
    · exact hj2 q
  · have hG : (G : Rat) ≠ 0 := fun w => g0 (Rat.intCast_inj.mp w)
    refine ⟨⟨a * ρ / G, fun w => ?_, fun j hj => ?_⟩, t4⟩
    · have h1 : (a : Rat) * ρ / G * G = a * ρ := Rat.div_mul_cancel hG
      rw [w, Rat.zero_mul] at h1
      exact hap h1.symm
    · have e := key j hj
      have em : mpx n tc (fun i => X i - X (tc c) / Y (tc c) * Y i) j = mpx n tc X j - X (tc c) / Y (tc c) * mpx n tc Y j := by
        unfold mpx
        split
        · grind
        · rfl
      rw [em]
      have h1 : (a : Rat) * ρ / G * G = a * ρ := Rat.div_mul_cancel hG
      have h2 : ((V' j : Rat) - a * ρ / G * (mpx n tc X j - X (tc c) / Y (tc c) * mpx n tc Y j)) * G = 0 := by
        generalize mpx n tc X j - X (tc c) / Y (tc c) * mpx n tc Y j = Z at *
        generalize (a : Rat) * ρ / G = A at *
        rw [← h1] at e
        grind
      rcases Rat.mul_eq_zero.mp h2 with q | q
      · grind
      · exact absurd q hG
/-- a partly reduced multiple is whole and small over the divisor -/
theorem xred_bd {st : spst} {v : Nat → Int} (hO : spOK st) (hv : spW v) : ∀ k, k ≤ st.1 → ∀ i, i < 490 → ∃ z : Int, (z : Rat) = st.2.2.2.1 * xred st.2.1 st.2.2.1 (spV v st.1) k i ∧ (z.natAbs : Int) ≤ 99 * ((k : Int) + 1) * 1000000000 ^ 11 := by
  have hp := pw_pos 11
  generalize hH : (1000000000 : Int) ^ 11 = H at *
  intro k
  induction k with
  | zero =>
    intro _ i hi
    obtain ⟨d, d1, d2, d3⟩ := hO.div
    rw [hH] at d3
    have hs : ∃ s : Int, (s : Rat) = spV v st.1 i ∧ s.natAbs ≤ 99 := by
      unfold spV
      split
      · rename_i w; exact ⟨v i, rfl, by have := hv.1 i w; omega⟩
      · split
        · exact ⟨1, rfl, by decide⟩
        · exact ⟨0, rfl, by decide⟩
    obtain ⟨s, s1, s2⟩ := hs
    refine ⟨d * s, by simp only [xred]; rw [Rat.intCast_mul, d1, s1], ?_⟩
    rw [Int.natAbs_mul]
    have h1 : d.natAbs * s.natAbs ≤ d.natAbs * 99 := Nat.mul_le_mul_left _ s2
    omega
  | succ k ih =>
    intro hk i hi
    obtain ⟨z, z1, z2⟩ := ih (by omega) i hi
    obtain ⟨r, r1, r2⟩ := hO.cell (r := k) (i := i) (by omega) hi
    rw [hH] at r2
    have hp2 := (hO.piv (a := k) (by omega)).1
    have hs := hv.1 _ hp2
    refine ⟨z - v (st.2.2.1 k) * r, ?_, ?_⟩
    · simp only [xred]
      rw [Rat.intCast_sub, Rat.intCast_mul, z1, r1]
      have : spV v st.1 (st.2.2.1 k) = (v (st.2.2.1 k) : Rat) := by unfold spV; rw [if_pos hp2]
      rw [this]; grind
    · have h1 : (v (st.2.2.1 k) * r).natAbs ≤ 99 * r.natAbs := by
        rw [Int.natAbs_mul]
        exact Nat.mul_le_mul_right _ (by omega)
      have e : 99 * (((k + 1 : Nat) : Int) + 1) * H = 99 * ((k : Int) + 1) * H + 99 * H := by
        rw [show (((k + 1 : Nat) : Int) + 1) = ((k : Int) + 1) + 1 by omega]; grind
      rw [e]
      generalize 99 * ((k : Int) + 1) * H = Q at *
      generalize v (st.2.2.1 k) * r = Y at *
      omega
theorem xred_mark {st : spst} {v : Nat → Int} (h : spOK st) : ∀ k, k ≤ st.1 → xred st.2.1 st.2.2.1 (spV v st.1) k (455 + st.1) = 1 := by
  intro k
  induction k with
  | zero => intro _; simp only [xred, spV]; simp; omega
  | succ k ih =>
    intro hk
    simp only [xred]
    rw [ih (by omega), (h.2.2 k (by omega)).1 _ (Nat.le_refl _)]; grind
/-- the rows' terms are of degree d at most -/
def spD (d : Nat) (st : spst) : Prop := ∀ r t, r < st.1 → t < 455 → d < tdg t → st.2.1 r t = 0
theorem spX_zd {st : spst} {v : Nat → Int} {d : Nat} (hd : spD d st) (hv : ∀ t, t < 455 → d < tdg t → v t = 0) : ∀ k, k ≤ st.1 → ∀ t, t < 455 → d < tdg t → xred st.2.1 st.2.2.1 (spV v st.1) k t = 0 := by
  intro k
  induction k with
  | zero => intro _ t ht h; simp only [xred, spV]; rw [if_pos ht, hv t ht h]; rfl
  | succ k ih =>
    intro hk t ht h
    simp only [xred]
    rw [ih (by omega) t ht h, hd k t (by omega) ht h]; grind
theorem spD.take {c g : Nat} (ho : ordOK c g) {st : spst} {v : Nat → Int} {d : Nat} (hd : spD d st) (hv : ∀ t, t < 455 → d < tdg t → v t = 0) (u : Nat × Nat) : spD d (spTake c g st v u) := by
  unfold spTake
  split
  · exact hd
  · intro r t hr ht h
    have hr' : r < st.1 + 1 := hr
    have hx : spX st v t = 0 := spX_zd hd hv st.1 (Nat.le_refl _) t ht h
    show gjR st.1 st.2.1 (spX st v) _ r t = 0
    unfold gjR
    by_cases w : r < st.1
    · rw [if_pos w, hd r t w ht h, hx]; grind
    · rw [if_neg w, hx]; grind
theorem tc_inj {c g d n : Nat} {tc : Nat → Nat} (ho : ordOK c g) (h : isColM c g d n tc) {i j : Nat} (hi : i < n) (hj : j < n) (e : tc i = tc j) : i = j := by
  rcases Nat.lt_trichotomy i j with w | w | w
  · have := h.2.1 i j w hj; rw [e, rank_self ho] at this; omega
  · exact w
  · have := h.2.1 j i w hi; rw [e, rank_self ho] at this; omega
/-- as many rows as columns at most, and nothing is left then -/
theorem spk_le {c g d n : Nat} {tc : Nat → Nat} (ho : ordOK c g) (h : isColM c g d n tc) {st : spst} (hO : spOK st) {pm : Nat → Nat} (hp : ∀ r, r < st.1 → pm r < n ∧ tc (pm r) = st.2.2.1 r) : st.1 ≤ n := by
  rcases Nat.lt_or_ge n st.1 with w | w
  · exfalso
    obtain ⟨i, j, hij, hj, he⟩ := pigeon n st.1 pm w fun i hi => (hp i hi).1
    have a1 := (hO.piv (a := i) (by omega)).2.2 i (by omega)
    have a2 := (hO.piv (a := j) hj).2.2 i (by omega)
    rw [← (hp i (by omega)).2, he, (hp j hj).2, a2, if_pos rfl, if_neg (by omega)] at a1
    exact absurd a1 (by decide)
  · exact w
theorem spk_full {c g d n : Nat} {tc : Nat → Nat} (ho : ordOK c g) (h : isColM c g d n tc) {st : spst} {v : Nat → Int} (hO : spOK st) (hd : spD d st) (hv : ∀ t, t < 455 → d < tdg t → v t = 0) {pm : Nat → Nat} (hp : ∀ r, r < st.1 → pm r < n ∧ tc (pm r) = st.2.2.1 r) (hk : st.1 = n) : ∀ t, t < 455 → spX st v t = 0 := by
  intro t ht
  rcases Nat.lt_or_ge d (tdg t) with w | w
  · exact spX_zd hd hv st.1 (Nat.le_refl _) t ht w
  obtain ⟨q, hq, rfl⟩ := h.2.2.1 t ht w
  refine Classical.byContradiction fun hne => ?_
  obtain ⟨i, j, hij, hj, he⟩ := pigeon n (n + 1) (fun i => if i < n then pm i else q) (by omega) fun i hi => by
    show (if i < n then _ else _) < n
    split
    · exact (hp i (by omega)).1
    · exact hq
  have he' : (if i < n then pm i else q) = (if j < n then pm j else q) := he
  rw [if_pos (by omega)] at he'
  by_cases x : j < n
  · rw [if_pos x] at he'
    have a1 := (hO.piv (a := i) (by omega)).2.2 i (by omega)
    have a2 := (hO.piv (a := j) (by omega)).2.2 i (by omega)
    rw [← (hp i (by omega)).2, he', (hp j (by omega)).2, a2, if_pos rfl, if_neg (by omega)] at a1
    exact absurd a1 (by decide)
  · rw [if_neg x] at he'
    rw [← he', (hp i (by omega)).2] at hne
    exact hne (spX_piv hO (by omega))
/-- the first reduction: row r is taken off -/
theorem mrow_red {c g d n : Nat} {tc : Nat → Nat} (ho : ordOK c g) (hT : isColM c g d n tc) {st : spst} {v : Nat → Int} (hO : spOK st) {r p : Nat} (h35 : st.1 < 35) (hr : r < st.1) (hp : p < n) (htp : tc p = st.2.2.1 r) {V W V' : Nat → Int} (hV : mrow n tc (xred st.2.1 st.2.2.1 (spV v st.1) r) V) (hW : mrow n tc (st.2.1 r) W) (h : tkR V W V' p) : mrow n tc (xred st.2.1 st.2.2.1 (spV v st.1) (r + 1)) V' := by
  have a1 := (hO.piv (a := r) hr).2.2 r hr
  rw [if_pos rfl] at a1
  have hx := xred_piv (R := st.2.1) (P := st.2.2.1) (v := spV v st.1) (m := st.1) (a := r) (fun a ha b hb => (hO.piv ha).2.2 b hb) hr r (by omega)
  rw [if_neg (Nat.lt_irrefl _)] at hx
  have e : (fun i => xred st.2.1 st.2.2.1 (spV v st.1) r i - xred st.2.1 st.2.2.1 (spV v st.1) r (tc p) / st.2.1 r (tc p) * st.2.1 r i) = xred st.2.1 st.2.2.1 (spV v st.1) (r + 1) := by
    funext i
    simp only [xred]
    rw [htp, a1, hx]
    have : spV v st.1 (st.2.2.1 r) / 1 = spV v st.1 (st.2.2.1 r) := by rw [Rat.div_def]; have : (1 : Rat)⁻¹ = 1 := by decide +kernel
                                                                       rw [this, Rat.mul_one]
    rw [this]
  have hs := mrow.step hV hW hp hT.2.2.2 (fun w => by
    have := (hW.zero hp hT.2.2.2).mp w
    rw [htp, a1] at this; exact absurd this (by decide)) h ⟨35 + st.1, ?_, ?_⟩
  · rw [e] at hs; exact hs
  · omega
  · have hm : mpx n tc (xred st.2.1 st.2.2.1 (spV v st.1) (r + 1)) (35 + st.1) = 1 := by rw [mpx_mark]; exact xred_mark hO (r + 1) (by omega)
    rw [← e] at hm
    have h2 : mpx n tc (fun i => xred st.2.1 st.2.2.1 (spV v st.1) r i - xred st.2.1 st.2.2.1 (spV v st.1) r (tc p) / st.2.1 r (tc p) * st.2.1 r i) (35 + st.1) = mpx n tc (xred st.2.1 st.2.2.1 (spV v st.1) r) (35 + st.1) - xred st.2.1 st.2.2.1 (spV v st.1) r (tc p) / st.2.1 r (tc p) * mpx n tc (st.2.1 r) (35 + st.1) := by
      rw [mpx_mark, mpx_mark, mpx_mark]
    rw [← h2, hm]; decide
