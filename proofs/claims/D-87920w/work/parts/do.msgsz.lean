/-! the model's sign: the numbers of the chain (s, s' q mod s) stay small -/
-- needs: dn.csign
set_option maxRecDepth 100000
set_option linter.unusedVariables false
theorem small_num2 {M α : Nat} (h : M ≤ 24) : (M + 1) * (2 ^ α * (2 * (M + 1) * 2 ^ α) ^ M) ≤ 2 ^ (5 + α + (6 + α) * M) := by
  have h1 : M + 1 ≤ 2 ^ 5 := by have : (2 : Nat) ^ 5 = 32 := by decide
                                omega
  have h2 : 2 * (M + 1) * 2 ^ α ≤ 2 ^ (6 + α) := by
    have e : (2 : Nat) ^ (6 + α) = 2 * 2 ^ 5 * 2 ^ α := by rw [Nat.pow_add]
    rw [e]
    exact Nat.mul_le_mul_right _ (Nat.mul_le_mul_left _ h1)
  have h3 := Nat.pow_le_pow_left h2 M
  have e : 2 ^ (5 + α + (6 + α) * M) = 2 ^ 5 * (2 ^ α * (2 ^ (6 + α)) ^ M) := by
    rw [Nat.pow_add, Nat.pow_mul, Nat.pow_add, Nat.mul_assoc]
  rw [e]
  exact Nat.mul_le_mul h1 (Nat.mul_le_mul_left _ h3)
section SGSZ
variable {s R W : Nat → Int} {a nr m0 α : Nat} {F : Nat → Nat → Int} {n : Nat → Nat} {m : Nat}
/-- rows behind the first, as rows of the chain that begins with the product -/
theorem rows_sg (ha : a ≤ m0) (hm0 : m0 + a ≤ 23) (bW : ∀ k, k ≤ m0 → (W k).natAbs ≤ 2 ^ α) (bs : ∀ k, k ≤ a → (s k).natAbs ≤ 2 ^ α) (W0 : W m0 ≠ 0) (hl : ∃ (l : Rat) (μ : pf), 0 < l ∧ PP μ ∧ ∀ z, zp R (nr + 1) z = l * zp W (m0 + 1) z - μ z * zp s (a + 1) z) (hnr : nr < a) (hpR : zprim R (nr + 1)) (e0 : F 0 = s) (e1 : F 1 = R) (en0 : n 0 = a) (en1 : n 1 = nr) (hc : fch (zF F n) n m) (hp : ∀ i, 2 ≤ i → i < m → zprim (F i) (n i + 1)) {i : Nat} (hi : 1 ≤ i) (him : i < m) : ∀ k, k ≤ n i → (F i k).natAbs ≤ 2 ^ (5 + α + (6 + α) * (m0 + a + 1 - 2 * n (i - 1))) := by
  obtain ⟨l, μ, l0, pμ, hR⟩ := hl
  have hzs : zF F n 0 = zp s (a + 1) := by unfold zF; rw [e0, en0]
  have hzR : zF F n 1 = zp R (nr + 1) := by unfold zF; rw [e1, en1]
  have dsc : ∀ j, 1 ≤ j → j < m → n j < n (j - 1) := fun j h1 h2 => by
    rcases Nat.lt_or_ge 1 j with w | w
    · have := (hc.2 (j - 1) (by omega) (by omega)).1
      rwa [show j - 1 + 1 = j by omega] at this
    · have : j = 1 := by omega
      subst this
      show n 1 < n 0
      rw [en0, en1]; exact hnr
  have hle : ∀ j, j < m → n j ≤ a := by
    intro j
    induction j with
    | zero => intro _; rw [en0]; exact Nat.le_refl _
    | succ j ih => intro hj; have := dsc (j + 1) (by omega) hj; have := ih (by omega); simp only [Nat.add_sub_cancel] at *; omega
  have hni := dsc i hi him
  have hna := hle (i - 1) (by omega)
  intro k hk
  have h := chain_small (F := fun j => if j = 0 then (fun z => - zp W (m0 + 1) z) else zF F n (j - 1)) (n := fun j => if j = 0 then m0 else n (j - 1)) (m := m + 1) (A := 2 ^ α) (f0 := fun k => - cut W m0 k) (f1 := cut s a) (M := m0 + a + 1 - 2 * n (i - 1)) (fun j a1 a2 => by
      rcases Nat.lt_or_ge 1 j with w | w
      · obtain ⟨-, c, c0, q, hq, hx⟩ := hc.2 (j - 1) (by omega) (by omega)
        rw [show j - 1 + 1 = j by omega] at hx
        refine ⟨c, q, c0, hq, fun x => ?_⟩
        rw [if_neg (show ¬ j - 1 = 0 by omega), if_neg (show ¬ j = 0 by omega), if_neg (show ¬ j + 1 = 0 by omega), show j + 1 - 1 = j by omega]
        rw [hx]; grind
      · have : j = 1 := by omega
        subst this
        refine ⟨l, fun z => - μ z, l0, pμ.neg, fun x => ?_⟩
        show l * - zp W (m0 + 1) x = - μ x * zF F n 0 x - zF F n 1 x
        rw [hzs, hzR, hR]; grind) (fun j hj => by
      by_cases w : j = 0
      · subst w
        exact (zp_ex W0).neg
      · rw [if_neg w, if_neg w]; exact hc.1 (j - 1) (by omega)) (by show n 0 ≤ m0; rw [en0]; exact ha) (fun j a1 a2 => by
      show (if j + 1 = 0 then m0 else n (j + 1 - 1)) < (if j = 0 then m0 else n (j - 1))
      rw [if_neg (by omega), if_neg (by omega), show j + 1 - 1 = j by omega]
      exact dsc j a1 (by omega)) (Nat.two_pow_pos α) (fun k => by
      show -((2 ^ α : Nat) : Int) ≤ - cut W m0 k ∧ - cut W m0 k ≤ ((2 ^ α : Nat) : Int)
      unfold cut
      generalize 2 ^ α = A at *
      split
      · have := bW k (by assumption); omega
      · omega) (fun k => by
      unfold cut
      generalize 2 ^ α = A at *
      split
      · have := bs k (by assumption); omega
      · omega) (fun k hk => by show - cut W m0 k = 0; unfold cut; rw [if_neg (by show ¬ k ≤ m0; have : m0 < k := hk; omega)]; rfl) (fun k hk => by unfold cut; rw [if_neg (by have : n 0 < k := hk; omega)]) (fun x => by
      show - zp W (m0 + 1) x = zp (fun k => - cut W m0 k) (m0 + 1) x
      rw [zp_neg, cut_zp _ (Nat.le_refl _)]) (fun x => by
      show zF F n 0 x = zp (cut s a) (n 0 + 1) x
      rw [en0, cut_zp _ (Nat.le_refl _), hzs]) (i := i + 1) (by omega) (by omega) (g := F i) (fun x => by
      show zF F n (i + 1 - 1) x = ps (zq (F i)) (n (i + 1 - 1) + 1) x
      rw [show i + 1 - 1 = i by omega]; rfl) (by
      show zprim (F i) (n (i + 1 - 1) + 1)
      rw [show i + 1 - 1 = i by omega]
      rcases Nat.lt_or_ge 1 i with w | w
      · exact hp i w him
      · have : i = 1 := by omega
        subst this
        rw [e1, en1]; exact hpR) (by
      show m0 + a + 1 - 2 * n (i - 1) = m0 + n 0 - 2 * (if i + 1 - 1 = 0 then m0 else n (i + 1 - 1 - 1)) + 1
      rw [show i + 1 - 1 = i by omega, if_neg (by omega), en0]; omega) k (by show k ≤ n (i + 1 - 1); rw [show i + 1 - 1 = i by omega]; exact hk)
  have h2 := small_num2 (M := m0 + a + 1 - 2 * n (i - 1)) (α := α) (by omega)
  have h4 : ((F i k).natAbs : Int) ≤ (((m0 + a + 1 - 2 * n (i - 1) + 1) * (2 ^ α * (2 * (m0 + a + 1 - 2 * n (i - 1) + 1) * 2 ^ α) ^ (m0 + a + 1 - 2 * n (i - 1))) : Nat) : Int) := by
    rw [Int.natCast_mul, Int.natCast_mul]; exact h
  exact Nat.le_trans (Int.ofNat_le.mp h4) h2
theorem sg_bits {α K t u p q : Nat} (h : (α = 60 ∧ K ≤ 22 ∧ t ≤ 6) ∨ (α = 20 ∧ K ≤ 24 ∧ t ≤ 7)) (ht : 1 ≤ t) : 5 + α + (6 + α) * (K - 2 - 2 * t) + (1 + (5 + α + (6 + α) * (K - 2 * t))) * (t + 1 - u) < 29 * 205 ∧ 5 + α + (6 + α) * (K - 2 * t) < 29 * 55 := by
  have hs : t + 1 - u ≤ t + 1 := by omega
  generalize t + 1 - u = s at *
  rcases h with ⟨rfl, hK, h6⟩ | ⟨rfl, hK, h7⟩
  · have e1 : (6 + 60) * (K - 2 - 2 * t) ≤ 66 * (20 - 2 * t) := Nat.mul_le_mul (by omega) (by omega)
    have e2 : (6 + 60) * (K - 2 * t) ≤ 66 * (22 - 2 * t) := Nat.mul_le_mul (by omega) (by omega)
    generalize (6 + 60) * (K - 2 - 2 * t) = X at *
    generalize (6 + 60) * (K - 2 * t) = Y at *
    have e3 : (1 + (5 + 60 + Y)) * s ≤ (66 + 66 * (22 - 2 * t)) * (t + 1) := Nat.mul_le_mul (by omega) hs
    generalize (1 + (5 + 60 + Y)) * s = Z at *
    have : t = 1 ∨ t = 2 ∨ t = 3 ∨ t = 4 ∨ t = 5 ∨ t = 6 := by omega
    rcases this with rfl | rfl | rfl | rfl | rfl | rfl <;> constructor <;> omega
  · have e1 : (6 + 20) * (K - 2 - 2 * t) ≤ 26 * (22 - 2 * t) := Nat.mul_le_mul (by omega) (by omega)
    have e2 : (6 + 20) * (K - 2 * t) ≤ 26 * (24 - 2 * t) := Nat.mul_le_mul (by omega) (by omega)
    generalize (6 + 20) * (K - 2 - 2 * t) = X at *
    generalize (6 + 20) * (K - 2 * t) = Y at *
    have e3 : (1 + (5 + 20 + Y)) * s ≤ (26 + 26 * (24 - 2 * t)) * (t + 1) := Nat.mul_le_mul (by omega) hs
    generalize (1 + (5 + 20 + Y)) * s = Z at *
    have : t = 1 ∨ t = 2 ∨ t = 3 ∨ t = 4 ∨ t = 5 ∨ t = 6 ∨ t = 7 := by omega
    rcases this with rfl | rfl | rfl | rfl | rfl | rfl | rfl <;> constructor <;> omega
theorem mhW_sg (hc8 : (α = 60 ∧ m0 + a + 1 ≤ 22 ∧ a ≤ 7) ∨ (α = 20 ∧ m0 + a + 1 ≤ 24 ∧ a ≤ 8)) (ha1 : 1 ≤ a) (ha : a ≤ m0) (h8 : m0 + 1 ≤ a + 8) (bW : ∀ k, k ≤ m0 → (W k).natAbs ≤ 2 ^ α) (bs : ∀ k, k ≤ a → (s k).natAbs ≤ 2 ^ α) (W0 : W m0 ≠ 0) (hl : ∃ (l : Rat) (μ : pf), 0 < l ∧ PP μ ∧ ∀ z, zp R (nr + 1) z = l * zp W (m0 + 1) z - μ z * zp s (a + 1) z) (hnr : nr < a) (hpR : zprim R (nr + 1)) : mhW s R a nr := by
  intro F n m hm hall e0 e1 en0 en1 hc hp
  have hm23 : m0 + a ≤ 23 := by omega
  have rows := fun {i : Nat} (hi : 1 ≤ i) (him : i < m) => rows_sg (F := F) (n := n) (m := m) ha hm23 bW bs W0 hl hnr hpR e0 e1 en0 en1 hc hp hi him
  have dsc : ∀ j, 1 ≤ j → j < m → n j < n (j - 1) := fun j h1 h2 => by
    rcases Nat.lt_or_ge 1 j with w | w
    · have := (hc.2 (j - 1) (by omega) (by omega)).1
      rwa [show j - 1 + 1 = j by omega] at this
    · have : j = 1 := by omega
      subst this
      show n 1 < n 0
      rw [en0, en1]; exact hnr
  have hle : ∀ j, j < m → n j ≤ a := by
    intro j
    induction j with
    | zero => intro _; rw [en0]; exact Nat.le_refl _
    | succ j ih =>
      intro hj
      have h1 := dsc (j + 1) (by omega) hj
      rw [Nat.add_sub_cancel] at h1
      have := ih (by omega)
      omega
  have hα : α ≤ 60 := by omega
  have row : ∀ i, i < m → ∀ k, k ≤ n i → ((F i k).natAbs : Int) < 1000000000 ^ 130 := fun i hi k hk => by
    rcases Nat.eq_zero_or_pos i with w | w
    · subst w
      rw [e0]
      exact nat_pw (bs k (by omega)) (two_pw (by omega))
    · refine nat_pw (rows w hi k hk) (two_pw ?_)
      have h1 : (6 + α) * (m0 + a + 1 - 2 * n (i - 1)) ≤ 66 * 24 := Nat.mul_le_mul (by omega) (by omega)
      omega
  refine ⟨?_, row⟩
  rcases Nat.lt_or_ge 2 m with w | w
  · have hu := dsc (m - 1) (by omega) (by omega)
    rw [show m - 1 - 1 = m - 2 by omega] at hu
    have hu2 := dsc (m - 2) (by omega) (by omega)
    have hu3 := hle (m - 2 - 1) (by omega)
    obtain ⟨k1, k2⟩ := sg_bits (α := α) (K := m0 + a + 1) (t := n (m - 2)) (u := n (m - 1)) (p := 0) (q := 0) (by omega) (by omega)
    obtain ⟨k3, k4⟩ := chZ_of (s := n (m - 2) + 1 - n (m - 1)) rfl rfl k1 k2
    refine ⟨205, 55, _, _, by omega, by omega, fun k hk => ?_, fun k hk => ?_, k3, k4⟩
    · refine Nat.le_trans (rows (i := m - 2) (by omega) (by omega) k hk) (pw_le2 ?_)
      have h1 : (6 + α) * (m0 + a + 1 - 2 * n (m - 2 - 1)) ≤ (6 + α) * (m0 + a + 1 - 2 - 2 * n (m - 2)) := Nat.mul_le_mul_left _ (by omega)
      omega
    · have := rows (i := m - 1) (by omega) (by omega) k hk
      rwa [show m - 1 - 1 = m - 2 by omega] at this
  · have em : m = 2 := by omega
    subst em
    have h1 : (6 + α) * (m0 + a + 1 - 2 * n 0) ≤ 66 * 8 := by
      rw [en0]
      exact Nat.mul_le_mul (by omega) (by omega)
    have h2 : (1 + (5 + α + (6 + α) * (m0 + a + 1 - 2 * n 0))) * (n 0 + 1 - n 1) ≤ (1 + (65 + 66 * 8)) * 9 := Nat.mul_le_mul (by omega) (by rw [en0]; omega)
    obtain ⟨k3, k4⟩ := chZ_of (H := 2 ^ α) (G := 2 ^ (5 + α + (6 + α) * (m0 + a + 1 - 2 * n 0))) (s := n 0 + 1 - n 1) (p := 205) (q := 55) rfl rfl (by omega) (by omega)
    refine ⟨205, 55, _, _, by omega, by omega, fun k hk => ?_, fun k hk => ?_, k3, k4⟩
    · show (F 0 k).natAbs ≤ 2 ^ α
      rw [e0]; exact bs k (by have : k ≤ n 0 := hk; omega)
    · exact rows (i := 1) (by omega) (by omega) k hk
end SGSZ
