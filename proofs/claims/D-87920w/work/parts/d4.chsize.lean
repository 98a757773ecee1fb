/-! chains: the numbers stay small -/
-- needs: d3.chrun 79j.quot
set_option maxRecDepth 100000
set_option linter.unusedVariables false
theorem two_pw {x p : Nat} (h : x < 29 * p) : ((2 ^ x : Nat) : Int) < 1000000000 ^ p := by
  have h1 : (2 : Nat) ^ x < 2 ^ (29 * p) := Nat.pow_lt_pow_right (by decide) h
  have h2 : (2 : Nat) ^ (29 * p) ≤ 1000000000 ^ p := by
    rw [Nat.pow_mul]
    exact Nat.pow_le_pow_left (Nat.le_of_ble_eq_true rfl) p
  have h3 : ((1000000000 ^ p : Nat) : Int) = (1000000000 : Int) ^ p := by rw [Int.natCast_pow]; rfl
  rw [← h3]
  exact Int.ofNat_lt.mpr (Nat.lt_of_lt_of_le h1 h2)
theorem pw_le2 {x y : Nat} (h : x ≤ y) : 2 ^ x ≤ 2 ^ y := Nat.pow_le_pow_right (by decide) h
/-- how great a row's numbers are, by the degree of the one before -/
def szB (t : Nat) : Nat := 72 + 73 * (17 - 2 * t)
theorem small_num {M : Nat} (h : M ≤ 15) : (M + 1) * (2 ^ 68 * (2 * (M + 1) * 2 ^ 68) ^ M) ≤ 2 ^ (72 + 73 * M) := by
  have h1 : M + 1 ≤ 2 ^ 4 := by have : (2 : Nat) ^ 4 = 16 := by decide
                                omega
  have h2 : 2 * (M + 1) * 2 ^ 68 ≤ 2 ^ 73 := by
    have e : (2 : Nat) ^ 73 = 2 * 2 ^ 4 * 2 ^ 68 := by decide +kernel
    rw [e]
    exact Nat.mul_le_mul_right _ (Nat.mul_le_mul_left _ h1)
  have h3 := Nat.pow_le_pow_left h2 M
  have e : 2 ^ (72 + 73 * M) = 2 ^ 4 * (2 ^ 68 * (2 ^ 73) ^ M) := by
    rw [Nat.pow_add, Nat.pow_mul, ← Nat.mul_assoc]
  rw [e]
  exact Nat.mul_le_mul h1 (Nat.mul_le_mul_left _ h3)
section SZ
variable {f0 f1 : Nat → Int} {n0 n1 : Nat} {F : Nat → Nat → Int} {n : Nat → Nat} {m : Nat}
theorem fch.desc {f : Nat → pf} {n : Nat → Nat} {m : Nat} (h : fch f n m) : ∀ j i, 1 ≤ i → i + j < m → n (i + j) + j ≤ n i := by
  intro j
  induction j with
  | zero => intro i _ _; exact Nat.le_refl _
  | succ j ih =>
    intro i h1 h2
    have := ih i h1 (by omega)
    have := (h.2 (i + j) (by omega) (by omega)).1
    rw [show i + (j + 1) = i + j + 1 by omega]; omega
/-- rows behind the first two -/
theorem rows_small (hn0 : n0 ≤ 8) (h01 : n1 ≤ n0) (b0 : ∀ k, k ≤ n0 → (f0 k).natAbs ≤ 2 ^ 68) (b1 : ∀ k, k ≤ n1 → (f1 k).natAbs ≤ 2 ^ 68) (e0 : F 0 = f0) (e1 : F 1 = f1) (en0 : n 0 = n0) (en1 : n 1 = n1) (hc : fch (zF F n) n m) (hp : ∀ i, 2 ≤ i → i < m → zprim (F i) (n i + 1)) {i : Nat} (hi : 2 ≤ i) (him : i < m) : ∀ k, k ≤ n i → (F i k).natAbs ≤ 2 ^ szB (n (i - 1)) := by
  subst en0; subst en1
  have ha : n i < n (i - 1) := by
    have := (hc.2 (i - 1) (by omega) (by omega)).1
    rwa [show i - 1 + 1 = i by omega] at this
  have hb : n (i - 1) ≤ n 1 := by
    have := hc.desc (i - 2) 1 (by omega) (by omega)
    rw [show 1 + (i - 2) = i - 1 by omega] at this; omega
  intro k hk
  have h := chain_small (F := zF F n) (n := n) (m := m) (A := 2 ^ 68) (f0 := cut f0 (n 0)) (f1 := cut f1 (n 1)) (M := n 0 + n 1 - 2 * n (i - 1) + 1) (fun i a1 a2 => by
      obtain ⟨-, c, c0, q, hq, hx⟩ := hc.2 i a1 a2
      exact ⟨c, q, c0, hq, fun x => by rw [hx]; grind⟩) hc.1 h01 (fun i a1 a2 => (hc.2 i a1 a2).1) (Nat.pos_of_ne_zero (by decide +kernel)) (fun k => by
      unfold cut
      generalize 2 ^ 68 = A at *
      split
      · have := b0 k (by assumption); omega
      · omega) (fun k => by
      unfold cut
      generalize 2 ^ 68 = A at *
      split
      · have := b1 k (by assumption); omega
      · omega) (fun k hk => by unfold cut; rw [if_neg (by omega)]) (fun k hk => by unfold cut; rw [if_neg (by omega)]) (fun x => by
      show zp (F 0) (n 0 + 1) x = zp (cut f0 (n 0)) (n 0 + 1) x
      rw [cut_zp _ (Nat.le_refl _), e0]) (fun x => by
      show zp (F 1) (n 1 + 1) x = zp (cut f1 (n 1)) (n 1 + 1) x
      rw [cut_zp _ (Nat.le_refl _), e1]) hi him (g := F i) (fun x => rfl) (hp i hi him) rfl k hk
  have h15 : n 0 + n 1 - 2 * n (i - 1) + 1 ≤ 15 := by omega
  have h2 := small_num h15
  have h3 : 2 ^ (72 + 73 * (n 0 + n 1 - 2 * n (i - 1) + 1)) ≤ 2 ^ szB (n (i - 1)) := pw_le2 (by unfold szB; omega)
  have h4 : ((F i k).natAbs : Int) ≤ (((n 0 + n 1 - 2 * n (i - 1) + 1 + 1) * (2 ^ 68 * (2 * (n 0 + n 1 - 2 * n (i - 1) + 1 + 1) * 2 ^ 68) ^ (n 0 + n 1 - 2 * n (i - 1) + 1)) : Nat) : Int) := by
    rw [Int.natCast_mul, Int.natCast_mul]; exact h
  exact Nat.le_trans (Int.ofNat_le.mp h4) (Nat.le_trans h2 h3)
theorem chZ_bits {t u : Nat} (ht : 2 ≤ t) (ht8 : t ≤ 8) (hu : 1 ≤ u) : 72 + 73 * (15 - 2 * t) + (1 + szB t) * (t + 1 - u) < 29 * 121 ∧ szB t < 29 * 36 := by
  unfold szB
  have h : t = 2 ∨ t = 3 ∨ t = 4 ∨ t = 5 ∨ t = 6 ∨ t = 7 ∨ t = 8 := by omega
  have hs : t + 1 - u ≤ t := by omega
  generalize t + 1 - u = s at *
  rcases h with rfl | rfl | rfl | rfl | rfl | rfl | rfl <;> constructor <;> omega
theorem chZ_of {H G s x y p q : Nat} (hH : H = 2 ^ x) (hG : G = 2 ^ y) (h1 : x + (1 + y) * s < 29 * p) (h2 : y < 29 * q) : (G : Int) < 1000000000 ^ q ∧ ((H * (2 * G) ^ s : Nat) : Int) < 1000000000 ^ p := by
  subst hH; subst hG
  refine ⟨two_pw h2, ?_⟩
  have e : 2 ^ x * (2 * 2 ^ y) ^ s = 2 ^ (x + (1 + y) * s) := by
    rw [Nat.pow_add, Nat.pow_mul, Nat.pow_add]
  rw [e]
  exact two_pw h1
theorem chW_of (hn0 : n0 ≤ 8) (h01 : n1 ≤ n0) (b0 : ∀ k, k ≤ n0 → (f0 k).natAbs ≤ 2 ^ 68) (b1 : ∀ k, k ≤ n1 → (f1 k).natAbs ≤ 2 ^ 68) : chW f0 f1 n0 n1 := by
  intro F n m hm hall e0 e1 en0 en1 hc hp hpos
  rcases Nat.lt_or_ge 2 m with w | w
  · -- behind the second
    have hu : n (m - 1) < n (m - 2) := by
      have := (hc.2 (m - 2) (by omega) (by omega)).1
      rwa [show m - 2 + 1 = m - 1 by omega] at this
    have ht8 : n (m - 2) ≤ 8 := by have := (hall (m - 2) (by omega)).1; omega
    obtain ⟨k1, k2⟩ := chZ_bits (t := n (m - 2)) (u := n (m - 1)) (by omega) ht8 hpos
    obtain ⟨k3, k4⟩ := chZ_of (s := n (m - 2) + 1 - n (m - 1)) rfl rfl k1 k2
    refine ⟨121, 36, 2 ^ (72 + 73 * (15 - 2 * n (m - 2))), 2 ^ szB (n (m - 2)), by omega, fun k hk => ?_, fun k hk => ?_, k3, k4⟩
    · rcases Nat.lt_or_ge 3 m with w3 | w3
      · have h1 := rows_small hn0 h01 b0 b1 e0 e1 en0 en1 hc hp (i := m - 2) (by omega) (by omega) k hk
        have h2 : n (m - 2) < n (m - 2 - 1) := by
          have := (hc.2 (m - 3) (by omega) (by omega)).1
          rwa [show m - 3 + 1 = m - 2 by omega, show m - 3 = m - 2 - 1 by omega] at this
        exact Nat.le_trans h1 (pw_le2 (by unfold szB; omega))
      · have em : m = 3 := by omega
        subst em
        rw [show 3 - 2 = 1 from rfl] at *
        rw [e1]
        exact Nat.le_trans (b1 k (by omega)) (pw_le2 (by omega))
    · have h1 := rows_small hn0 h01 b0 b1 e0 e1 en0 en1 hc hp (i := m - 1) (by omega) (by omega) k hk
      rwa [show m - 1 - 1 = m - 2 by omega] at h1
  · have em : m = 2 := by omega
    subst em
    rw [show 2 - 1 = 1 from rfl] at *
    obtain ⟨k3, k4⟩ := chZ_of (H := 2 ^ 68) (G := 2 ^ 68) (s := n 0 + 1 - n 1) (p := 22) (q := 3) rfl rfl (by omega) (by omega)
    refine ⟨22, 3, 2 ^ 68, 2 ^ 68, by omega, fun k hk => ?_, fun k hk => ?_, k3, k4⟩
    · rw [show 2 - 2 = 0 from rfl] at *
      rw [e0]; exact b0 k (by omega)
    · rw [show 2 - 1 = 1 from rfl] at *
      rw [e1]; exact b1 k (by omega)
/-- the same where the second one is of a higher degree -/
theorem chW_of' (hn0 : n0 ≤ 8) (hn1 : n1 ≤ 8) (b0 : ∀ k, k ≤ n0 → (f0 k).natAbs ≤ 2 ^ 68) (b1 : ∀ k, k ≤ n1 → (f1 k).natAbs ≤ 2 ^ 68) : chW f0 f1 n0 n1 := by
  rcases Nat.lt_or_ge n0 n1 with w01 | w01
  · intro F n m hm hall e0 e1 en0 en1 hc hp hpos
    rcases Nat.lt_or_ge 2 m with w | w
    · -- the third is the first one again
      have h2 : n 2 < n 1 ∧ prem (zF F n 0) (zF F n 1) (fun x => - zF F n 2 x) := hc.2 1 (by omega) (by omega)
      obtain ⟨l, l0, hl⟩ : ∃ l : Rat, 0 < l ∧ ∀ x, zF F n 0 x = l * - zF F n 2 x := by
        obtain ⟨l, l0, hl⟩ := prem_uniq (a := zF F n 0) (a' := zF F n 0) (g := zF F n 1) (g' := zF F n 1) (α := 1) (γ := 1) (by decide) (by decide) (fun x => by grind) (fun x => by grind) (hc.1 1 (by omega)) h2.2 (prem.refl (zF F n 0) (zF F n 1)) (((hc.1 2 (by omega)).pf.mono (by omega : n 2 + 1 ≤ n 1)).smul (-1) |>.congr fun x => by grind) ((hc.1 0 (by omega)).pf.mono (by omega))
        exact ⟨l, l0, hl⟩
      have n20 : n 2 = n 0 := by
        have h3 := ((hc.1 2 (by omega)).smul (p := -l) (by intro q; grind)).congr (g := zF F n 0) fun x => by rw [hl]; grind
        exact h3.uniq (hc.1 0 (by omega))
      have b2 : ∀ k, k ≤ n 2 → (F 2 k).natAbs ≤ 2 ^ 68 := fun k hk => by
        have h3 := zprim_le (f := F 0) (g := F 2) (d := n 2) (l := -l) (hp 2 (by omega) (by omega)) (hall 2 (by omega)).2 (by rw [n20]; exact (hall 0 (by omega)).2) (fun x => by
          have h4 := hl x
          unfold zF at h4
          rw [n20] at h4 ⊢
          rw [h4]; grind) k hk
        rw [e0] at h3
        exact Nat.le_trans h3 (b0 k (by omega))
      have hh := chW_of (f0 := f1) (f1 := F 2) (n0 := n1) (n1 := n 2) hn1 (by omega) b1 b2 (fun i => F (i + 1)) (fun i => n (i + 1)) (m - 1) (by omega) (fun i hi => hall (i + 1) (by omega)) e1 rfl en1 rfl ⟨fun i hi => hc.1 (i + 1) (by omega), fun i a1 a2 => by
        have := hc.2 (i + 1) (by omega) (by omega)
        rw [Nat.add_sub_cancel] at this
        refine ⟨this.1, ?_⟩
        have h5 : zF (fun i => F (i + 1)) (fun i => n (i + 1)) (i - 1) = zF F n i := by show zF F n (i - 1 + 1) = _; rw [show i - 1 + 1 = i by omega]
        rw [h5]; exact this.2⟩ (fun i a1 a2 => hp (i + 1) (by omega) (by omega)) (by rw [show m - 1 - 1 + 1 = m - 1 by omega]; exact hpos)
      unfold chZ at hh ⊢
      simp only at hh
      rw [show m - 1 - 2 + 1 = m - 2 by omega, show m - 1 - 1 + 1 = m - 1 by omega] at hh
      exact hh
    · have em : m = 2 := by omega
      subst em
      rw [show 2 - 1 = 1 from rfl] at *
      obtain ⟨k3, k4⟩ := chZ_of (H := 2 ^ 68) (G := 2 ^ 68) (s := n 0 + 1 - n 1) (p := 22) (q := 3) rfl rfl (by omega) (by omega)
      refine ⟨22, 3, 2 ^ 68, 2 ^ 68, by omega, fun k hk => ?_, fun k hk => ?_, k3, k4⟩
      · rw [show 2 - 2 = 0 from rfl] at *
        rw [e0]; exact b0 k (by omega)
      · rw [show 2 - 1 = 1 from rfl] at *
        rw [e1]; exact b1 k (by omega)
  · exact chW_of hn0 w01 b0 b1
end SZ
