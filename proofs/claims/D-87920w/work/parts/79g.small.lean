/-! a primitive remainder is small -/
-- pure
-- needs: 71.poly 72.siegel 73.gauss 74.anal 75.cells 76.sturm 77.sep 79f.size
set_option maxRecDepth 100000
set_option linter.unusedVariables false
theorem zsum_split (a x : Nat → Int) (n : Nat) : ∀ m, zsum a x (n + m) = zsum a x n + zsum (fun j => a (n + j)) (fun j => x (n + j)) m := by
  intro m
  induction m with
  | zero => simp [zsum]
  | succ m ih => rw [← Nat.add_assoc]; simp only [zsum]; rw [ih]; omega
theorem zcv_zsum (g a : Nat → Int) (k : Nat) : ∀ n, zcv g a n k = zsum (fun t => if k < t then 0 else a (k - t)) g n := by
  intro n
  induction n with
  | zero => rfl
  | succ n ih =>
    simp only [zcv, zsum]
    rw [ih]
    split <;> simp [Int.mul_comm]
theorem zsum_congr {a b x y : Nat → Int} : ∀ n, (∀ j, j < n → a j = b j ∧ x j = y j) → zsum a x n = zsum b y n := by
  intro n
  induction n with
  | zero => intro _; rfl
  | succ n ih => intro h; simp only [zsum]; rw [ih fun j hj => h j (by omega), (h n (by omega)).1, (h n (by omega)).2]
theorem EX.cancel_const {v r : Rat → Rat} {d : Nat} (hv : EX v d) (hr : PP r) (h : PF (d + 1) (fun x => r x * v x)) : ∃ ρ : Rat, ∀ x, r x = ρ := by
  obtain ⟨nr, hr⟩ := hr
  rcases hr.cases with w | ⟨k, _, w⟩
  · exact ⟨0, w⟩
  · have h1 := w.mul hv
    have hk : k = 0 := by
      rcases Nat.eq_zero_or_pos k with q | q
      · exact q
      · exact (h1.no (h.mono (by omega))).elim
    subst hk
    obtain ⟨c, hc, _⟩ := w
    exact ⟨c 0, fun x => by rw [hc]; simp only [ps, Rat.pow_zero]; grind⟩
set_option maxHeartbeats 2000000 in
theorem chain_small {F : Nat → pf} {n : Nat → Nat} {m : Nat} (hq : ∀ i, 1 ≤ i → i + 1 < m → ∃ (c : Rat) (q : pf), 0 < c ∧ PP q ∧ ∀ x, c * F (i - 1) x = q x * F i x - F (i + 1) x) (hE : ∀ i, i < m → EX (F i) (n i)) (h01 : n 1 ≤ n 0) (hd : ∀ i, 1 ≤ i → i + 1 < m → n (i + 1) < n i)
    {f0 f1 : Nat → Int} {A : Nat} (hA : 1 ≤ A) (b0 : ∀ k, -(A : Int) ≤ f0 k ∧ f0 k ≤ A) (b1 : ∀ k, -(A : Int) ≤ f1 k ∧ f1 k ≤ A) (z0 : ∀ k, n 0 < k → f0 k = 0) (z1 : ∀ k, n 1 < k → f1 k = 0) (e0 : ∀ x, F 0 x = ps (zq f0) (n 0 + 1) x) (e1 : ∀ x, F 1 x = ps (zq f1) (n 1 + 1) x)
    {i : Nat} (hi : 2 ≤ i) (him : i < m) {g : Nat → Int} (eg : ∀ x, F i x = ps (zq g) (n i + 1) x) (hp : zprim g (n i + 1)) {M : Nat} (hM : M = n 0 + n 1 - 2 * n (i - 1) + 1) : ∀ k, k ≤ n i → ((g k).natAbs : Int) ≤ ((M + 1 : Nat) : Int) * ((A : Int) * ((2 * (M + 1) * A) ^ M : Nat)) := by
  obtain ⟨u, v, u', v', δ, d0, hu', hv', hu, hv, f1', f2, f3, f4, -⟩ := chain_uv hq hE h01 hd i (by omega) him
  have hP1 : n (i - 1) ≤ n 1 := by
    have key : ∀ j, 1 ≤ j → j < m → n j ≤ n 1 := by
      intro j
      induction j with
      | zero => intro h; omega
      | succ j ih =>
        intro _ hj
        rcases Nat.eq_zero_or_pos j with w | w
        · subst w; exact Nat.le_refl _
        · have := hd j w hj; have := ih w (by omega); omega
    exact key (i - 1) (by omega) (by omega)
  have hPi : n i < n (i - 1) := by
    have := hd (i - 1) (by omega) (by omega)
    rwa [show i - 1 + 1 = i by omega] at this
  generalize hP : n (i - 1) = P at *
  -- the unknowns
  let N1 := n 1 - P + 1
  let N2 := n 0 - P + 1
  have hN : N1 + N2 = M + 1 := by show n 1 - P + 1 + (n 0 - P + 1) = M + 1; omega
  let a : Nat → Nat → Int := fun e j => if j < N1 then (if P + e < j then 0 else f0 (P + e - j)) else (if P + e < j - N1 then 0 else f1 (P + e - (j - N1)))
  have ha : ∀ e j, -(A : Int) ≤ a e j ∧ a e j ≤ A := fun e j => by
    show -(A : Int) ≤ (if j < N1 then _ else _) ∧ (if j < N1 then _ else _) ≤ (A : Int)
    split <;> split
    · omega
    · exact b0 _
    · omega
    · exact b1 _
  obtain ⟨x, ⟨j, hj1, hj2⟩, xb, xz⟩ := siegel hA a fun e j _ _ => ha e j
  let V : Nat → Int := fun j => x (N1 + j)
  let w : Nat → Int := fun k => zcv x f0 N1 k + zcv V f1 N2 k
  have hw : ∀ e : Nat, w (P + e) = zsum (a e) x (M + 1) := fun e => by
    show zcv x f0 N1 (P + e) + zcv V f1 N2 (P + e) = _
    rw [← hN, zsum_split, zcv_zsum, zcv_zsum]
    congr 1
    · exact zsum_congr _ fun j hj => ⟨by show _ = if j < N1 then _ else _; rw [if_pos hj], rfl⟩
    · exact zsum_congr _ fun j hj => ⟨by show _ = if N1 + j < N1 then _ else _; rw [if_neg (show ¬ N1 + j < N1 by omega), Nat.add_sub_cancel_left], rfl⟩
  have hwz : ∀ k, P ≤ k → w k = 0 := fun k hk => by
    rcases Nat.lt_or_ge k (P + M) with q | q
    · obtain ⟨e, rfl⟩ : ∃ e, k = P + e := ⟨k - P, by omega⟩
      rw [hw e]; exact xz e (by omega)
    · show zcv x f0 N1 k + zcv V f1 N2 k = 0
      have zz : ∀ (y : Nat → Int) (n : Nat), zsum (fun _ => 0) y n = 0 := fun y n => by
        induction n with
        | zero => rfl
        | succ n ih => simp only [zsum]; rw [ih]; omega
      have g1 : zcv x f0 N1 k = 0 := by
        rw [zcv_zsum, zsum_congr (b := fun _ => 0) (y := x) N1 fun j hj => ⟨?_, rfl⟩]
        · exact zz _ _
        · have hj' : j < n 1 - P + 1 := hj
          show (if k < j then 0 else f0 (k - j)) = 0
          split
          · rfl
          · exact z0 _ (by omega)
      have g2 : zcv V f1 N2 k = 0 := by
        rw [zcv_zsum, zsum_congr (b := fun _ => 0) (y := V) N2 fun j hj => ⟨?_, rfl⟩]
        · exact zz _ _
        · have hj' : j < n 0 - P + 1 := hj
          show (if k < j then 0 else f1 (k - j)) = 0
          split
          · rfl
          · exact z1 _ (by omega)
      rw [g1, g2]; rfl
  have hwb : ∀ k, ((w k).natAbs : Int) ≤ ((M + 1 : Nat) : Int) * ((A : Int) * ((2 * (M + 1) * A) ^ M : Nat)) := fun k => by
    have e2 : w k = zsum (fun j => if j < N1 then (if k < j then 0 else f0 (k - j)) else (if k < j - N1 then 0 else f1 (k - (j - N1)))) x (M + 1) := by
      show zcv x f0 N1 k + zcv V f1 N2 k = _
      rw [← hN, zsum_split, zcv_zsum, zcv_zsum]
      congr 1
      · exact zsum_congr _ fun j hj => ⟨by rw [if_pos hj], rfl⟩
      · exact zsum_congr _ fun j hj => ⟨by rw [if_neg (show ¬ N1 + j < N1 by omega), Nat.add_sub_cancel_left], rfl⟩
    rw [e2]
    have := zsum_abs (A := (A : Int)) (H := (((2 * (M + 1) * A) ^ M : Nat) : Int)) (by omega) (by omega) (M + 1) (a := fun j => if j < N1 then (if k < j then 0 else f0 (k - j)) else (if k < j - N1 then 0 else f1 (k - (j - N1)))) (x := x) (fun j _ => by
      show -(A : Int) ≤ (if j < N1 then _ else _) ∧ (if j < N1 then _ else _) ≤ (A : Int)
      split <;> split
      · omega
      · exact b0 _
      · omega
      · exact b1 _) xb
    omega
  -- as functions
  let fU : pf := ps (zq x) N1
  let fV : pf := ps (zq V) N2
  let fW : pf := ps (zq w) P
  have hW : ∀ y, fW y = fU y * F 0 y + fV y * F 1 y := fun y => by
    have k1 := zcv_ps x f0 (n 0 + 1) (fun k hk => z0 k (by omega)) y N1
    have k2 := zcv_ps V f1 (n 1 + 1) (fun k hk => z1 k (by omega)) y N2
    rw [show N2 + (n 1 + 1) = N1 + (n 0 + 1) by show n 0 - P + 1 + (n 1 + 1) = n 1 - P + 1 + (n 0 + 1); omega] at k2
    have k3 : ps (zq w) (N1 + (n 0 + 1)) y = ps (zq (zcv x f0 N1)) (N1 + (n 0 + 1)) y + ps (zq (zcv V f1 N2)) (N1 + (n 0 + 1)) y := by
      have := ps_lin (zq (zcv x f0 N1)) (zq (zcv V f1 N2)) 1 1 (N1 + (n 0 + 1)) y
      rw [Rat.one_mul, Rat.one_mul] at this
      rw [← this]
      refine ps_congr (fun k _ => ?_) y
      show ((w k : Int) : Rat) = 1 * ((zcv x f0 N1 k : Int) : Rat) + 1 * ((zcv V f1 N2 k : Int) : Rat)
      rw [Rat.one_mul, Rat.one_mul, ← Rat.intCast_add]
    have k4 : ps (zq w) (N1 + (n 0 + 1)) y = ps (zq w) P y := by
      have hle : P ≤ N1 + (n 0 + 1) := by show P ≤ n 1 - P + 1 + (n 0 + 1); omega
      obtain ⟨d, hd⟩ : ∃ d, N1 + (n 0 + 1) = P + d := ⟨N1 + (n 0 + 1) - P, by omega⟩
      rw [hd]
      exact ps_ext d (fun k hk _ => by show ((w k : Int) : Rat) = 0; rw [hwz k hk]; rfl) y
    show ps (zq w) P y = ps (zq x) N1 y * F 0 y + ps (zq V) N2 y * F 1 y
    rw [← k4, k3, k1, k2, e0, e1]
  have pU : PF N1 fU := ⟨_, fun _ => rfl⟩
  have pV : PF N2 fV := ⟨_, fun _ => rfl⟩
  have pW : PF P fW := ⟨_, fun _ => rfl⟩
  have hFi := hE i him
  -- the two pairs are in proportion
  have hΔ : ∀ y, u y * fV y - fU y * v y = 0 := by
    have h1 : PF (n 0) (fun y => (u y * fV y - fU y * v y) * F 0 y) := by
      have g1 : PF (n 0) (fun y => v y * fW y) := by
        have := pW.mul hv.pf
        exact (this.mono (by omega)).congr fun y => by grind
      have g2 : PF (n 0) (fun y => fV y * F i y) := by
        have := pV.mul hFi.pf
        exact this.mono (by show n 0 - P + 1 + n i ≤ n 0; omega)
      exact (g2.sub g1).congr fun y => by
        have := hW y; have := f1' y
        show _ = fV y * F i y - v y * fW y
        grind
    have hPP : PP (fun y => u y * fV y - fU y * v y) := by
      obtain ⟨nu, hu⟩ := hu
      exact ⟨_, ((hu.mono (Nat.le_refl _)).mul (pV.mono (m := N2 + 1) (by omega)) |>.mono (m := nu + N2 + (N1 + (n 0 - P))) (by omega)).sub ((pU.mul hv.pf).mono (by omega))⟩
    obtain ⟨nd, hPP⟩ := hPP
    rcases hPP.cases with q | ⟨d, _, q⟩
    · exact q
    · exact ((q.mul (hE 0 (by omega))).no (h1.mono (by omega))).elim
  -- and so the combination is a multiple
  obtain ⟨ρ, hρ⟩ : ∃ ρ : Rat, ∀ y, fV y = ρ * v y ∧ fU y = ρ * u y := by
    have hr : PP (fun y => δ⁻¹ * (fV y * u' y - fU y * v' y)) := by
      obtain ⟨a1, hu'⟩ := hu'
      obtain ⟨a2, hv'⟩ := hv'
      have p1 : PP fV := ⟨_, pV⟩
      have p2 : PP fU := ⟨_, pU⟩
      exact ((p1.mul ⟨a1, hu'⟩).sub (p2.mul ⟨a2, hv'⟩)).smul _
    have hδ : δ * δ⁻¹ = 1 := Rat.mul_inv_cancel _ d0
    have key : ∀ y, fV y = (δ⁻¹ * (fV y * u' y - fU y * v' y)) * v y ∧ fU y = (δ⁻¹ * (fV y * u' y - fU y * v' y)) * u y := fun y => by
      have g1 := f3 y
      have g2 := hΔ y
      have g3 : fV y * δ = (fV y * u' y - fU y * v' y) * v y := by rw [← g1]; grind
      have g4 : fU y * δ = (fV y * u' y - fU y * v' y) * u y := by rw [← g1]; grind
      constructor
      · have : fV y = δ⁻¹ * (fV y * δ) := by grind
        rw [this, g3]; grind
      · have : fU y = δ⁻¹ * (fU y * δ) := by grind
        rw [this, g4]; grind
    obtain ⟨ρ, hρ⟩ := EX.cancel_const hv hr (pV.congr (fun y => ((key y).1).symm) |>.mono (by show n 0 - P + 1 ≤ _; omega))
    exact ⟨ρ, fun y => by have := key y; rw [hρ y] at this; exact this⟩
  have hWF : ∀ y, fW y = ρ * F i y := fun y => by
    have := hW y; have := hρ y; have := f1' y; grind
  have hρ0 : ρ ≠ 0 := fun q => by
    rw [q] at hρ
    have zU := ps_id (n := N1) (c := zq x) fun y => by have := (hρ y).2; rw [Rat.zero_mul] at this; exact this
    have zV := ps_id (n := N2) (c := zq V) fun y => by have := (hρ y).1; rw [Rat.zero_mul] at this; exact this
    rcases Nat.lt_or_ge j N1 with r | r
    · exact hj2 (Rat.intCast_inj.mp (zU j r))
    · have := zV (j - N1) (by omega)
      have e5 : V (j - N1) = x j := by show x (N1 + (j - N1)) = x j; congr 1; omega
      have e6 : ((V (j - N1) : Int) : Rat) = 0 := this
      rw [e5] at e6
      exact hj2 (Rat.intCast_inj.mp e6)
  -- a whole multiple
  obtain ⟨z, hz⟩ := gaussQ (g := g) (p := w) (q := fun _ => ρ) (n := n i + 1) (m := 1) hp fun y => by
    have e2 := hWF y
    rw [eg] at e2
    have e3 : ps (zq w) (n i + 1 + 1) y = fW y := by
      rcases Nat.lt_or_ge P (n i + 1 + 1) with q | q
      · obtain ⟨d, hd⟩ : ∃ d, n i + 1 + 1 = P + d := ⟨n i + 2 - P, by omega⟩
        rw [hd]
        exact ps_ext d (fun k hk _ => by show ((w k : Int) : Rat) = 0; rw [hwz k hk]; rfl) y
      · -- the combination has no more than g has
        have hc : ∀ k, k < P → zq w k = if k < n i + 1 then ρ * zq g k else 0 := by
          refine ps_inj fun y => ?_
          have e2 := hWF y
          rw [eg] at e2
          show fW y = _
          rw [e2]
          obtain ⟨d, hd⟩ : ∃ d, P = (n i + 1) + d := ⟨P - (n i + 1), by omega⟩
          rw [hd, ps_ext d (fun k hk _ => if_neg (by omega)) y, ps_congr (d := fun k => ρ * zq g k) (fun k hk => if_pos hk) y]
          have := ps_lin (zq g) (zq g) ρ 0 (n i + 1) y
          have e9 : (fun k => ρ * zq g k + 0 * zq g k) = fun k => ρ * zq g k := funext fun k => by grind
          rw [e9] at this
          rw [this]; grind
        show _ = ps (zq w) P y
        obtain ⟨d, hd⟩ : ∃ d, P = (n i + 1 + 1) + d := ⟨P - (n i + 2), by omega⟩
        rw [hd]
        refine (ps_ext d (fun k hk hk2 => ?_) y).symm
        rw [hc k (by omega), if_neg (by omega)]
    rw [e3, e2]
    simp only [ps, Rat.pow_zero]; grind
  have hz0 := hz 0 (by omega)
  have hwg : ∀ k, k ≤ n i → w k = z 0 * g k := fun k hk => by
    have : ∀ k, k < P → zq w k = (fun k => if k < n i + 1 then ρ * zq g k else 0) k := by
      refine ps_inj fun y => ?_
      have e2 := hWF y
      rw [eg] at e2
      show fW y = _
      rw [e2]
      obtain ⟨d, hd⟩ : ∃ d, P = (n i + 1) + d := ⟨P - (n i + 1), by omega⟩
      rw [hd, ps_ext d (fun k hk _ => if_neg (by omega)) y, ps_congr (d := fun k => ρ * zq g k) (fun k hk => if_pos hk) y]
      have := ps_lin (zq g) (zq g) ρ 0 (n i + 1) y
      have e9 : (fun k => ρ * zq g k + 0 * zq g k) = fun k => ρ * zq g k := funext fun k => by grind
      rw [e9] at this
      rw [this]; grind
    have h1 := this k (by omega)
    simp only [] at h1
    rw [if_pos (by omega)] at h1
    have h2 : ((w k : Int) : Rat) = (z 0 : Rat) * ((g k : Int) : Rat) := by rw [← hz0]; exact h1
    rw [← Rat.intCast_mul] at h2
    exact Rat.intCast_inj.mp h2
  have hz1 : z 0 ≠ 0 := fun q => by rw [q] at hz0; exact hρ0 hz0
  intro k hk
  have h1 := hwb k
  rw [hwg k hk, Int.natAbs_mul] at h1
  have h2 : (g k).natAbs ≤ (z 0).natAbs * (g k).natAbs := Nat.le_mul_of_pos_left _ (by omega)
  omega
