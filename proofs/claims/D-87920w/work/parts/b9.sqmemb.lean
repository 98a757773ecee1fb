/-! the component's square: members -/
set_option maxRecDepth 100000
set_option linter.unusedVariables false
/-- what was used: by whom, no pair twice -/
def spU (m : Nat) (st : spst) : Prop := (∀ u, u < st.1 → (st.2.2.2.2 u).1 < m ∧ (st.2.2.2.2 u).2 < 455) ∧ ∀ u v, u < st.1 → v < st.1 → st.2.2.2.2 u = st.2.2.2.2 v → u = v
theorem spTake_U {c g : Nat} {st : spst} {v : Nat → Int} {u : Nat × Nat} : (spTake c g st v u).1 = st.1 ∧ (spTake c g st v u).2.2.2.2 = st.2.2.2.2 ∨ (spTake c g st v u).1 = st.1 + 1 ∧ (spTake c g st v u).2.2.2.2 = uup st.2.2.2.2 st.1 u := by
  unfold spTake
  split
  · exact .inl ⟨rfl, rfl⟩
  · exact .inr ⟨rfl, rfl⟩
theorem spF_U {c g : Nat} {I : Nat → Int} {k m : Nat} (hkm : k < m) : ∀ (L : List Nat) (st : spst), (∀ t, t ∈ L → t < 455) → L.Nodup → (∀ u, u < st.1 → ∀ t, t ∈ L → st.2.2.2.2 u ≠ (k, t)) → spU m st → spU m (spF c g I k L st) := by
  intro L
  induction L with
  | nil => intro st _ _ _ h; exact h
  | cons a L ih =>
    intro st h1 h2 h3 h4
    obtain ⟨n1, n2⟩ := List.nodup_cons.mp h2
    show spU m (spF c g I k L (spTake c g st (mulV I a) (k, a)))
    rcases spTake_U (c := c) (g := g) (st := st) (v := mulV I a) (u := (k, a)) with ⟨e1, e2⟩ | ⟨e1, e2⟩
    · refine ih _ (fun t ht => h1 t (List.mem_cons_of_mem _ ht)) n2 (fun u hu t ht => ?_) ⟨fun u hu => ?_, fun u v hu hv => ?_⟩
      · rw [e2]; exact h3 u (by omega) t (List.mem_cons_of_mem _ ht)
      · rw [e2]; exact h4.1 u (by omega)
      · rw [e2]; exact h4.2 u v (by omega) (by omega)
    · refine ih _ (fun t ht => h1 t (List.mem_cons_of_mem _ ht)) n2 (fun u hu t ht => ?_) ⟨fun u hu => ?_, fun u v hu hv => ?_⟩
      · rw [e2]
        unfold uup
        by_cases w : u = st.1
        · rw [if_pos w]
          intro x
          have x2 := congrArg Prod.snd x
          have x3 : a = t := x2
          rw [x3] at n1; exact n1 ht
        · rw [if_neg w]; exact h3 u (by omega) t (List.mem_cons_of_mem _ ht)
      · rw [e2]
        unfold uup
        by_cases w : u = st.1
        · rw [if_pos w]; exact ⟨hkm, h1 a (List.mem_cons_self ..)⟩
        · rw [if_neg w]; exact h4.1 u (by omega)
      · rw [e2]
        unfold uup
        by_cases w : u = st.1 <;> by_cases y : v = st.1
        · intro _; omega
        · rw [if_pos w, if_neg y]
          intro x; exact absurd x.symm (h3 v (by omega) a (List.mem_cons_self ..))
        · rw [if_neg w, if_pos y]
          intro x; exact absurd x (h3 u (by omega) a (List.mem_cons_self ..))
        · rw [if_neg w, if_neg y]; exact h4.2 u v (by omega) (by omega)
theorem asc_nodup {c g : Nat} (ho : ordOK c g) {L : List Nat} (h : isAsc c g L) : L.Nodup := by
  refine List.Pairwise.imp (fun {a b} hab => ?_) h
  intro e
  rw [e, rank_self ho] at hab; omega
theorem spR_U {c g : Nat} (ho : ordOK c g) {I : Nat → Nat → Int} {d : Int} {m : Nat} : ∀ k st, k ≤ m → spR c g I d k st → spU m st ∧ ∀ u, u < st.1 → (st.2.2.2.2 u).1 < k := by
  intro k
  induction k with
  | zero =>
    intro st _ h
    rw [h]
    exact ⟨⟨fun u hu => absurd hu (Nat.not_lt_zero u), fun u v hu => absurd hu (Nat.not_lt_zero u)⟩, fun u hu => absurd hu (Nat.not_lt_zero u)⟩
  | succ k ih =>
    rintro st hk ⟨s0, L, h1, h2, h3, rfl⟩
    obtain ⟨a1, a2⟩ := ih s0 (by omega) h1
    have hLt : ∀ t, t ∈ L → t < 455 := fun t ht => ((h3 t).mp ht).1
    refine ⟨spF_U (by omega) L s0 hLt (asc_nodup ho h2) (fun u hu t _ e => by have := a2 u hu; rw [e] at this; exact Nat.lt_irrefl _ this) a1, ?_⟩
    have a3 : spU (k + 1) s0 := ⟨fun u hu => ⟨by have := a2 u hu; omega, (a1.1 u hu).2⟩, a1.2⟩
    have := spF_U (c := c) (g := g) (I := I k) (k := k) (m := k + 1) (by omega) L s0 hLt (asc_nodup ho h2) (fun u hu t _ e => by have := a2 u hu; rw [e] at this; exact Nat.lt_irrefl _ this) a3
    exact fun u hu => (this.1 u hu).1
/-- a polynomial as a row -/
def spP (φ : Nat → Rat) : xV := fun i => if i < 455 then φ i else 0
def spRest (st : spst) (φ : Nat → Rat) : Nat → Rat := fun t => if t < 455 then xred st.2.1 st.2.2.1 (spP φ) st.1 t else 0
/-- what a member takes of the u-th used multiple -/
def spWv (st : spst) (φ : Nat → Rat) (u : Nat) : Nat → Rat
  | 0 => 0
  | n + 1 => spWv st φ u n + φ (st.2.2.1 n) * st.2.1 n (455 + u)
def spWay (st : spst) (φ : Nat → Rat) : Nat → Nat → Nat → Rat
  | 0 => fun _ _ => 0
  | u + 1 => xupd (spWay st φ u) (st.2.2.2.2 u).1 (st.2.2.2.2 u).2 (spWv st φ u st.1)
/-- small whole numbers, of degree 4 at most -/
def spSm (φ : Nat → Rat) : Prop := (∀ t, t < 455 → (φ t).den = 1 ∧ ((φ t).num.natAbs : Int) ≤ 999) ∧ ∀ t, t < 455 → 4 < tdg t → φ t = 0
theorem rat_num {x : Rat} (h : x.den = 1) : x = (x.num : Rat) := by
  have := rat_self x
  rw [h] at this
  rw [← this]
  show Rat.divInt x.num 1 = _
  rw [Rat.divInt_eq_div]
  have : ((1 : Int) : Rat) = 1 := rfl
  rw [this, Rat.div_def]
  have e : (1 : Rat)⁻¹ = 1 := by decide +kernel
  rw [e]
  have e2 : (Rat.divInt x.num ((1 : Nat) : Int)).num = x.num := by
    rw [← h]; rw [rat_self]
  rw [Rat.mul_one, e2]
theorem memb_rat {c g : Nat} {tc : Nat → Nat} {st : spst} {d : Int} {P : Nat → Nat} {cl : Nat → Nat → Int} {φ : Nat → Rat} (hO : spOK st) (hc : isCols c g tc) (hR : sqRel tc st d P cl) (hP : ∀ r, r < 35 → P r < 35) (hφ : spSm φ) {i : Nat} (hi : i < 35) : ∀ k, k ≤ st.1 → (redI d (fun c => (φ (tc c)).num) P cl k i : Rat) = st.2.2.2.1 * xred st.2.1 st.2.2.1 (spP φ) k (tc i) := by
  intro k
  have hk35 := hO.1
  have b0 := hc.1 i hi
  induction k with
  | zero =>
    intro _
    simp only [redI, xred]
    rw [Rat.intCast_mul, hR.1, if_pos hi]
    congr 1
    unfold spP
    rw [if_pos b0.1]
    exact (rat_num (hφ.1 _ b0.1).1).symm
  | succ k ih =>
    intro hk
    simp only [redI, xred]
    have e1 := hR.2.2 k (by omega) i (by omega)
    have ex : sqx tc i = tc i := by unfold sqx; rw [if_pos hi]
    rw [ex] at e1
    have e2 := hR.2.1 k (by omega)
    have hPk := hc.1 _ (hP k (by omega))
    rw [Rat.intCast_sub, Rat.intCast_mul, ih (by omega), e1]
    have e3 : spP φ (st.2.2.1 k) = ((φ (tc (P k))).num : Rat) := by
      unfold spP
      rw [← e2, if_pos hPk.1]
      exact rat_num (hφ.1 _ hPk.1).1
    rw [e3]; grind
/-- a way's number, as the square goes -/
def wayI (v : Nat → Int) (P : Nat → Nat) (cl : Nat → Nat → Int) (u : Nat) : Nat → Int
  | 0 => 0
  | n + 1 => wayI v P cl u n + cl n (35 + u) * v (P n)
theorem wayI_lim {H : Int} {v : Nat → Int} {P : Nat → Nat} {cl : Nat → Nat → Int} {u : Nat} (hH : 0 < H) (hv : ∀ c, c < 35 → ((v c).natAbs : Int) ≤ 999) (hP : ∀ r, r < 35 → P r < 35) (hcl : ∀ r, r < 35 → ((cl r (35 + u)).natAbs : Int) < H) : ∀ k : Nat, k ≤ 35 → ((wayI v P cl u k).natAbs : Int) ≤ k * (999 * H) := by
  intro k
  induction k with
  | zero => intro _; simp [wayI]
  | succ k ih =>
    intro hk
    have h1 := ih (by omega)
    have h2 := mul_lim (hcl k (by omega)) (hv (P k) (hP k (by omega)))
    simp only [wayI]
    have e : ((k + 1 : Nat) : Int) = (k : Int) + 1 := by omega
    rw [e, Int.add_mul]
    generalize (k : Int) * (999 * H) = X at *
    generalize wayI v P cl u k = Y at *
    generalize cl k (35 + u) * v (P k) = Z at *
    omega
theorem wayI_b {v : Nat → Int} {P : Nat → Nat} {cl : Nat → Nat → Int} {u : Nat} (hv : ∀ c, c < 35 → ((v c).natAbs : Int) ≤ 999) (hP : ∀ r, r < 35 → P r < 35) (hcl : ∀ r, r < 35 → ((cl r (35 + u)).natAbs : Int) < 1000000000 ^ 11) {k : Nat} (hk : k ≤ 35) : ((wayI v P cl u k).natAbs : Int) < 1000000000 ^ 12 := by
  have h := wayI_lim (pw_pos 11) hv hP hcl k hk
  have h1 : (k : Int) * (999 * 1000000000 ^ 11) ≤ 36 * (999 * 1000000000 ^ 11) := Int.mul_le_mul_of_nonneg_right (by omega) (by decide)
  have h2 : (36 : Int) * (999 * 1000000000 ^ 11) < 1000000000 ^ 12 := by decide
  exact Int.lt_of_le_of_lt (Int.le_trans h h1) h2
theorem way_rat {c g : Nat} {tc : Nat → Nat} {st : spst} {d : Int} {P : Nat → Nat} {cl : Nat → Nat → Int} {φ : Nat → Rat} (hO : spOK st) (hc : isCols c g tc) (hR : sqRel tc st d P cl) (hP : ∀ r, r < 35 → P r < 35) (hφ : spSm φ) {u : Nat} (hu : u < st.1) : ∀ k, k ≤ st.1 → (wayI (fun c => (φ (tc c)).num) P cl u k : Rat) = st.2.2.2.1 * spWv st φ u k := by
  intro k
  have hk35 := hO.1
  induction k with
  | zero => intro _; simp only [wayI, spWv]; show (0 : Rat) = _; grind
  | succ k ih =>
    intro hk
    simp only [wayI, spWv]
    have e1 := hR.2.2 k (by omega) (35 + u) (by omega)
    have ex : sqx tc (35 + u) = 455 + u := by unfold sqx; rw [if_neg (by omega)]; omega
    rw [ex] at e1
    have e2 := hR.2.1 k (by omega)
    have hPk := hc.1 _ (hP k (by omega))
    rw [Rat.intCast_add, Rat.intCast_mul, ih (by omega), e1, ← e2, ← rat_num (hφ.1 _ hPk.1).1]
    grind
