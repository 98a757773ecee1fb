/-! numbers as digits in base 10^9 -/
set_option maxRecDepth 100000
/-- the value of the n lowest digits -/
def dv (f : Int → Int) : Nat → Int
  | 0 => 0
  | n + 1 => dv f n + f n * 1000000000 ^ n
def dok (f : Int → Int) (n : Nat) : Prop := ∀ i : Int, 0 ≤ i → i < n → 0 ≤ f i ∧ f i < 1000000000
theorem pw_pos (n : Nat) : (0 : Int) < 1000000000 ^ n := Int.pow_pos (by decide)
theorem pw_succ (n : Nat) : (1000000000 : Int) ^ (n + 1) = 1000000000 * 1000000000 ^ n := by rw [Int.pow_succ, Int.mul_comm]
theorem dv_congr {f g : Int → Int} {n : Nat} (h : ∀ i : Int, 0 ≤ i → i < n → f i = g i) : dv f n = dv g n := by
  induction n with
  | zero => rfl
  | succ n ih =>
    simp only [dv]
    rw [ih (fun i h0 h1 => h i h0 (by omega)), h n (by omega) (by omega)]
theorem dok.mono {f : Int → Int} {n m : Nat} (h : dok f n) (hm : m ≤ n) : dok f m := fun i h0 h1 => h i h0 (by omega)
theorem dok.congr {f g : Int → Int} {n : Nat} (h : dok f n) (e : ∀ i : Int, 0 ≤ i → i < n → g i = f i) : dok g n := fun i h0 h1 => by rw [e i h0 h1]; exact h i h0 h1
theorem dv_nn {f : Int → Int} {n : Nat} (h : dok f n) : 0 ≤ dv f n ∧ dv f n < 1000000000 ^ n := by
  induction n with
  | zero => simp [dv]
  | succ n ih =>
    obtain ⟨h1, h2⟩ := ih (h.mono (Nat.le_succ n))
    obtain ⟨h3, h4⟩ := h n (by omega) (by omega)
    simp only [dv, pw_succ]
    have hp := pw_pos n
    have h5 : f n * 1000000000 ^ n ≤ 999999999 * 1000000000 ^ n := Int.mul_le_mul_of_nonneg_right (by omega) (by omega)
    have h6 : 0 ≤ f n * 1000000000 ^ n := Int.mul_nonneg h3 (by omega)
    omega
theorem dv_ge {f : Int → Int} {n : Nat} (h : dok f (n + 1)) (ht : f n ≠ 0) : 1000000000 ^ n ≤ dv f (n + 1) := by
  have h1 := dv_nn (h.mono (Nat.le_succ n))
  obtain ⟨h3, h4⟩ := h n (by omega) (by omega)
  simp only [dv]
  have h5 : 1 * 1000000000 ^ n ≤ f n * 1000000000 ^ n := Int.mul_le_mul_of_nonneg_right (by omega) (by have := pw_pos n; omega)
  omega
theorem pw_mono {n m : Nat} (h : n ≤ m) : (1000000000 : Int) ^ n ≤ 1000000000 ^ m := by
  induction m with
  | zero => rw [Nat.le_zero.mp h]; exact Int.le_refl _
  | succ m ih =>
    rcases Nat.lt_or_ge n (m + 1) with h1 | h1
    · have h2 := ih (by omega)
      have := pw_pos m
      rw [pw_succ]; omega
    · rw [Nat.le_antisymm h h1]; exact Int.le_refl _
theorem pw_inj {n m : Nat} (h : (1000000000 : Int) ^ n < 1000000000 ^ m) : n < m := by
  rcases Nat.lt_or_ge n m with h1 | h1
  · exact h1
  · exact absurd (pw_mono h1) (by omega)
/-- canonical: no leading 0 -/
def dcan (f : Int → Int) (n : Nat) : Prop := dok f n ∧ (0 < n → f ((n : Int) - 1) ≠ 0)
theorem dcan.top {f : Int → Int} {n : Nat} (h : dcan f (n + 1)) : f n ≠ 0 := by
  have := h.2 (Nat.succ_pos n)
  rwa [show ((n + 1 : Nat) : Int) - 1 = n by omega] at this
theorem dcan.size_le {f : Int → Int} {n r : Nat} (h : dcan f n) (hv : dv f n < 1000000000 ^ r) : n ≤ r := by
  cases n with
  | zero => exact Nat.zero_le _
  | succ n => exact pw_inj (Int.lt_of_le_of_lt (dv_ge h.1 h.top) hv)
theorem dcan.zero {f : Int → Int} {n : Nat} (h : dcan f n) (hv : dv f n = 0) : n = 0 := Nat.le_zero.mp (h.size_le (r := 0) (by rw [hv]; decide))
/-- digits of equal numbers are equal -/
theorem dv_inj {f g : Int → Int} : ∀ {n : Nat}, dok f n → dok g n → dv f n = dv g n → ∀ i : Int, 0 ≤ i → i < n → f i = g i := by
  intro n
  induction n with
  | zero => intro _ _ _ i h0 h1; omega
  | succ n ih =>
    intro hf hg he i h0 h1
    simp only [dv] at he
    have a1 := dv_nn (hf.mono (Nat.le_succ n))
    have a2 := dv_nn (hg.mono (Nat.le_succ n))
    have hp := pw_pos n
    have e1 : f n = g n := by
      have b1 : (dv f n + f n * 1000000000 ^ n) / 1000000000 ^ n = f n := by
        rw [Int.add_mul_ediv_right _ _ (by omega), Int.ediv_eq_zero_of_lt a1.1 a1.2]; omega
      have b2 : (dv g n + g n * 1000000000 ^ n) / 1000000000 ^ n = g n := by
        rw [Int.add_mul_ediv_right _ _ (by omega), Int.ediv_eq_zero_of_lt a2.1 a2.2]; omega
      rw [← b1, ← b2, he]
    rw [e1] at he
    by_cases hi : i = n
    · rw [hi]; exact e1
    · exact ih (hf.mono (Nat.le_succ n)) (hg.mono (Nat.le_succ n)) (by omega) i h0 (by omega)
theorem dcan_uniq {f g : Int → Int} {n m : Nat} (hf : dcan f n) (hg : dcan g m) (he : dv f n = dv g m) : n = m := by
  have h1 : n ≤ m := hf.size_le (by rw [he]; exact (dv_nn hg.1).2)
  have h2 : m ≤ n := hg.size_le (by rw [← he]; exact (dv_nn hf.1).2)
  omega
/-- a whole number's cells: the statics (c: its kind) and the data (kn, ks: the places of size and sign) -/
def wS (c : Nat) (S : Stat) (w r : Nat) : Prop := S.1 w = some (c, 0) ∧ S.2.1 w 0 = some (w + 1) ∧ S.1 (w + 1) = some (100, r)
def wD (kn ks : Int) (D : Dat) (w : Nat) (z : Int) : Prop := ∃ n : Nat, D w kn = n ∧ dcan (D (w + 1)) n ∧ D w ks = Int.sign z ∧ (z.natAbs : Int) = dv (D (w + 1)) n
theorem wD.congr {kn ks : Int} {D D' : Dat} {w : Nat} {z : Int} (h : wD kn ks D w z) (h1 : ∀ i, D' w i = D w i) (h2 : ∀ i, D' (w + 1) i = D (w + 1) i) : wD kn ks D' w z := by
  obtain ⟨n, a1, a2, a3, a4⟩ := h
  have e : D' (w + 1) = D (w + 1) := funext h2
  exact ⟨n, by rw [h1, a1], by rw [e]; exact a2, by rw [h1, a3], by rw [e]; exact a4⟩
theorem wS.apart {c c' : Nat} {S : Stat} {v w r q : Nat} (hc : c < 100) (hc' : c' < 100) (hv : wS c S v r) (hw : wS c' S w q) (hne : v ≠ w) : v ≠ w + 1 ∧ v + 1 ≠ w ∧ v + 1 ≠ w + 1 := by
  refine ⟨fun h => ?_, fun h => ?_, by omega⟩
  · have h1 := hv.1
    rw [h, hw.2.2] at h1
    simp at h1; omega
  · have h1 := hv.2.2
    rw [h, hw.1] at h1
    simp at h1; omega
/-- D' differs from D in the number w alone -/
def wO (D D' : Dat) (w : Nat) : Prop := ∀ a i, a ≠ w → a ≠ w + 1 → D' a i = D a i
theorem wD.off {kn ks : Int} {D D' : Dat} {v w : Nat} {z : Int} {c c' : Nat} {S : Stat} {r q : Nat} (h : wD kn ks D v z) (ho : wO D D' w) (hc : c < 100) (hc' : c' < 100) (hv : wS c S v r) (hw : wS c' S w q) (hne : v ≠ w) : wD kn ks D' v z := by
  obtain ⟨h1, h2, h3⟩ := wS.apart hc hc' hv hw hne
  exact h.congr (fun i => ho v i hne h1) (fun i => ho (v + 1) i h2 h3)
theorem wD.nat {kn ks : Int} {D : Dat} {w : Nat} {z : Int} (h : wD kn ks D w z) {r : Nat} (hz : (z.natAbs : Int) < 1000000000 ^ r) : ∃ n : Nat, n ≤ r ∧ D w kn = n ∧ dcan (D (w + 1)) n ∧ D w ks = Int.sign z ∧ (z.natAbs : Int) = dv (D (w + 1)) n := by
  obtain ⟨n, a1, a2, a3, a4⟩ := h
  exact ⟨n, a2.size_le (by rw [← a4]; exact hz), a1, a2, a3, a4⟩
theorem sgn_cases (z : Int) : (Int.sign z = 1 ∧ z.natAbs = z ∧ 0 < z) ∨ (Int.sign z = 0 ∧ z = 0) ∨ (Int.sign z = -1 ∧ (z.natAbs : Int) = -z ∧ z < 0) := by
  rcases Int.lt_trichotomy z 0 with h | h | h
  · exact Or.inr (Or.inr ⟨Int.sign_eq_neg_one_of_neg h, by omega, h⟩)
  · exact Or.inr (Or.inl ⟨by rw [h]; rfl, h⟩)
  · exact Or.inl ⟨Int.sign_eq_one_of_pos h, by omega, h⟩
/-- digits and a sign make the number -/
theorem wD.mk {kn ks : Int} {D : Dat} {w n : Nat} {s : Int} (hn : D w kn = n) (hd : dcan (D (w + 1)) n) (hs : D w ks = s) (h : (n = 0 ∧ s = 0) ∨ (0 < n ∧ (s = 1 ∨ s = -1))) : wD kn ks D w (s * dv (D (w + 1)) n) := by
  have h0 := dv_nn hd.1
  refine ⟨n, hn, hd, ?_, ?_⟩
  · rcases h with ⟨h1, h2⟩ | ⟨h1, h2⟩
    · subst h1; subst h2; rw [hs]; rfl
    · have hp : 0 < dv (D (w + 1)) n := by
        rcases Int.lt_or_le 0 (dv (D (w + 1)) n) with q | q
        · exact q
        · have := hd.zero (by omega); omega
      rw [hs, Int.sign_mul, Int.sign_eq_one_of_pos hp]
      rcases h2 with rfl | rfl <;> rfl
  · rcases h with ⟨h1, h2⟩ | ⟨h1, h2⟩
    · subst h1; subst h2; simp [dv]
    · rcases h2 with rfl | rfl <;> omega
/-- a number read off digits that are known elsewhere -/
theorem wD.of {kn ks : Int} {D : Dat} {w n : Nat} {z : Int} {g : Int → Int} (hn : D w kn = n) (hs : D w ks = Int.sign z) (hd : ∀ i : Int, 0 ≤ i → i < n → D (w + 1) i = g i) (hg : dcan g n) (hv : (z.natAbs : Int) = dv g n) : wD kn ks D w z :=
  ⟨n, hn, ⟨hg.1.congr hd, fun h => by rw [hd _ (by omega) (by omega)]; exact hg.2 h⟩, hs, by rw [hv]; exact dv_congr fun i h0 h1 => (hd i h0 h1).symm⟩
theorem lcmp_ge (x y : Int) : (0 ≤ lcmpI x y) = (y ≤ x) := by unfold lcmpI; split <;> (try split) <;> simp <;> omega
theorem lcmp_lt (x y : Int) : (lcmpI x y < 0) = (x < y) := by unfold lcmpI; split <;> (try split) <;> simp <;> omega
theorem lcmp_le (x y : Int) : (lcmpI x y ≤ 0) = (x ≤ y) := by unfold lcmpI; split <;> (try split) <;> simp <;> omega
theorem lcmp_gt (x y : Int) : (0 < lcmpI x y) = (y < x) := by unfold lcmpI; split <;> (try split) <;> simp <;> omega
theorem lcmp_eq (x y : Int) : (lcmpI x y = 0) = (x = y) := by unfold lcmpI; split <;> (try split) <;> simp <;> omega
theorem tdiv_nn {x y : Int} (h : 0 ≤ x) : x.tdiv y = x / y := Int.tdiv_eq_ediv_of_nonneg h
theorem tmod_nn {x y : Int} (h : 0 ≤ x) : x.tmod y = x % y := Int.tmod_eq_emod_of_nonneg h
theorem ofI_nat (n : Nat) : Int32.ofInt (n : Int) = Int32.ofNat n := rfl
theorem and_nat {a b : Nat} (h : a &&& b < 2147483648) : andI a b = ((a &&& b : Nat) : Int) := by
  unfold andI
  have e : Int32.ofInt (a : Int) &&& Int32.ofInt (b : Int) = Int32.ofInt ((a &&& b : Nat) : Int) := by
    rw [ofI_nat, ofI_nat, ofI_nat]
    refine Int32.toBitVec_inj.mp ?_
    rw [Int32.toBitVec_and, Int32.toBitVec_ofNat', Int32.toBitVec_ofNat', Int32.toBitVec_ofNat']
    exact BitVec.ofNat_and.symm
  rw [e, t32 ⟨by omega, by omega⟩]
theorem and_mask {x : Int} (k : Nat) (h0 : 0 ≤ x) (h1 : x < 2147483648) (hk : k < 31) : andI x ((2 ^ k - 1 : Nat) : Int) = x % (2 ^ k : Nat) := by
  obtain ⟨n, rfl⟩ := Int.eq_ofNat_of_zero_le h0
  have e := Nat.and_two_pow_sub_one_eq_mod n k
  rw [and_nat (by rw [e]; exact Nat.lt_of_le_of_lt (Nat.mod_le _ _) (by omega)), e]
  exact Int.natCast_emod n (2 ^ k)
theorem and1 {x : Int} (h0 : 0 ≤ x) (h1 : x < 2147483648) : andI x 1 = x % 2 := and_mask 1 h0 h1 (by decide)
theorem and15 {x : Int} (h0 : 0 ≤ x) (h1 : x < 2147483648) : andI x 15 = x % 16 := and_mask 4 h0 h1 (by decide)
theorem shr_lit {x : Int} (k : Nat) (h0 : 0 ≤ x) (h1 : x < 2147483648) (hk : k < 31) : shrI x k = x / (2 ^ k : Nat) := by
  unfold shrI
  have e : ((Int32.ofInt (k : Int) &&& 31).toBitVec.smod 32).toNat = k := by
    have h : ∀ n, n < 32 → ((Int32.ofNat n &&& 31).toBitVec.smod 32).toNat = n := by decide +kernel
    exact h k (by omega)
  have h3 : (Int32.ofInt x).toInt = x := t32 ⟨by omega, by omega⟩
  show (Int32.ofInt x >>> (Int32.ofInt (k : Int) &&& 31)).toBitVec.toInt = _
  rw [Int32.toBitVec_shiftRight]
  unfold BitVec.sshiftRight'
  rw [e, BitVec.toInt_sshiftRight]
  show (Int32.ofInt x).toInt >>> k = _
  rw [h3, Int.shiftRight_eq_div_pow]
/-- digits, 0 behind the last -/
def dx (f : Int → Int) (n : Nat) : Int → Int := fun i => if i < n then f i else 0
theorem dx_ok {f : Int → Int} {n : Nat} (h : dok f n) (m : Nat) : dok (dx f n) m := fun i h0 h1 => by
  unfold dx; split
  · exact h i h0 (by omega)
  · omega
theorem dv_dx {f : Int → Int} {n m : Nat} (h : n ≤ m) : dv (dx f n) m = dv f n := by
  induction m with
  | zero => rw [Nat.le_zero.mp h]; rfl
  | succ m ih =>
    by_cases hn : n = m + 1
    · rw [← hn]; exact dv_congr fun i h0 h1 => by simp [dx, h1]
    · simp only [dv]
      rw [ih (by omega)]
      simp [dx, show ¬ ((m : Int) < n) by omega]
theorem dcan_of_ge {f : Int → Int} {n : Nat} (h : dok f n) (hv : ∀ m, n = m + 1 → 1000000000 ^ m ≤ dv f n) : dcan f n := by
  refine ⟨h, fun h0 => ?_⟩
  obtain ⟨m, rfl⟩ : ∃ m, n = m + 1 := ⟨n - 1, by omega⟩
  have h1 := hv m rfl
  have h2 := dv_nn (h.mono (Nat.le_succ m))
  intro q
  rw [show ((m + 1 : Nat) : Int) - 1 = m by omega] at q
  simp only [dv, q] at h1
  omega
theorem sgn_mul_abs (z : Int) : z = Int.sign z * z.natAbs := (Int.sign_mul_natAbs z).symm
theorem dv_set {f g : Int → Int} {n k : Nat} (hk : k < n) (h : ∀ i : Int, i ≠ k → g i = f i) : dv g n = dv f n + (g k - f k) * 1000000000 ^ k := by
  induction n with
  | zero => omega
  | succ n ih =>
    simp only [dv]
    by_cases hn : k = n
    · subst hn
      rw [dv_congr (g := f) fun i h0 h1 => h i (by omega)]
      grind
    · rw [ih (by omega), h n (by omega)]; omega
theorem dv_zero {f : Int → Int} {n : Nat} (h : ∀ i : Int, 0 ≤ i → i < n → f i = 0) : dv f n = 0 := by
  induction n with
  | zero => rfl
  | succ n ih => simp only [dv]; rw [ih fun i h0 h1 => h i h0 (by omega), h n (by omega) (by omega)]; simp
theorem pw_add (a b : Nat) : (1000000000 : Int) ^ (a + b) = 1000000000 ^ a * 1000000000 ^ b := Int.pow_add _ _ _
/-- one step of a product's row -/
theorem mul_step {x y z o : Int} (hx : 0 ≤ x ∧ x < 1000000000) (hy : 0 ≤ y ∧ y < 1000000000) (hz : 0 ≤ z ∧ z < 1000000000) (ho : 0 ≤ o ∧ o < 1000000000) : 0 ≤ x * y + z + o ∧ x * y + z + o < 1000000000000000000 ∧ 0 ≤ (x * y + z + o) / 1000000000 ∧ (x * y + z + o) / 1000000000 < 1000000000 := by
  have h1 : 0 ≤ x * y := Int.mul_nonneg hx.1 hy.1
  have h2 : x * y ≤ 999999999 * 999999999 := Int.mul_le_mul (by omega) (by omega) hy.1 (by decide)
  omega
