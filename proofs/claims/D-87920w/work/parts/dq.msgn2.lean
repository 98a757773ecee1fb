/-! the model's sign: the chain (s, s' q mod s) -/
-- needs: dp.msgn
set_option maxRecDepth 100000
set_option linter.unusedVariables false
section MSG2
variable {M : Nat} {S : Stat} {s g : Nat → Int} {a dq : Nat}
/-- from the chain's two rows to the answer -/
def msEnd (s g : Nat → Int) (a dq : Nat) (lo hi : Rat) (τ : Int) : Prop := ∃ (F : Nat → pf) (n : Nat → Nat) (mt : Nat) (l : Rat) (μ : pf), 1 ≤ mt ∧ fch F n mt ∧ fend F mt ∧ F 0 = zp s (a + 1) ∧ 0 < l ∧ PP μ ∧ (2 ≤ mt → ∀ z, F 1 z = l * (zp (zder s) a z * zp g (dq + 1) z) - μ z * zp s (a + 1) z) ∧ (mt = 1 → ∀ z, 0 = l * (zp (zder s) a z * zp g (dq + 1) z) - μ z * zp s (a + 1) z) ∧ τ = cnt F mt lo - cnt F mt hi
/-- the product's row -/
def sgW (s g : Nat → Int) (a dq : Nat) : Nat → Int := zcv (zder s) (cut g dq) a
theorem sgW_zp (ha : 1 ≤ a) (x : Rat) : zp (sgW s g a dq) (a - 1 + dq + 1) x = zp (zder s) a x * zp g (dq + 1) x := by
  have h1 := zcv_ps (zder s) (cut g dq) (dq + 1) (fun k hk => by unfold cut; rw [if_neg (by omega)]) x a
  have h2 : ps (zq (cut g dq)) (dq + 1) x = zp g (dq + 1) x := cut_zp g (Nat.le_refl _) x
  rw [h2] at h1
  have h0 : zcv (zder s) (cut g dq) a (a + dq) = 0 := by
    have key : ∀ n, n ≤ a → zcv (zder s) (cut g dq) n (a + dq) = 0 := by
      intro n
      induction n with
      | zero => intro _; rfl
      | succ n ih =>
        intro hn
        simp only [zcv]
        rw [ih (by omega), if_neg (by omega)]
        unfold cut; rw [if_neg (by omega)]; omega
    exact key a (Nat.le_refl _)
  rw [show a + (dq + 1) = a + dq + 1 by omega] at h1
  have h3 : ps (zq (zcv (zder s) (cut g dq) a)) (a + dq + 1) x = zp (sgW s g a dq) (a + dq) x := zp_drop (f := sgW s g a dq) (n := a + dq) h0 x
  rw [show a - 1 + dq + 1 = a + dq by omega, ← h3, h1]; rfl
theorem sgW_top (ha : 1 ≤ a) : sgW s g a dq (a - 1 + dq) = zder s (a - 1) * g dq := by
  have key : ∀ n, n ≤ a - 1 → zcv (zder s) (cut g dq) n (a - 1 + dq) = 0 := by
    intro n
    induction n with
    | zero => intro _; rfl
    | succ n ih =>
      intro hn
      simp only [zcv]
      rw [ih (by omega), if_neg (by omega)]
      unfold cut; rw [if_neg (by omega)]; omega
  unfold sgW
  obtain ⟨b, rfl⟩ : ∃ b, a = b + 1 := ⟨a - 1, by omega⟩
  simp only [zcv]
  rw [Nat.add_sub_cancel] at key ⊢
  rw [key b (Nat.le_refl _), if_neg (by omega), show b + dq - b = dq by omega]
  unfold cut; rw [if_pos (Nat.le_refl _)]; omega
theorem mhM_sg {R W : Nat → Int} {nr m0 α : Nat} {F : Nat → Nat → Int} {n : Nat → Nat} {m : Nat} (hc8 : (α = 60 ∧ m0 + a + 1 ≤ 22 ∧ a ≤ 7) ∨ (α = 20 ∧ m0 + a + 1 ≤ 24 ∧ a ≤ 8)) (ha : a ≤ m0) (bW : ∀ k, k ≤ m0 → (W k).natAbs ≤ 2 ^ α) (bs : ∀ k, k ≤ a → (s k).natAbs ≤ 2 ^ α) (bs47 : ∀ k, k ≤ a → (s k).natAbs ≤ 2 ^ 47) (W0 : W m0 ≠ 0) (hl : ∃ (l : Rat) (μ : pf), 0 < l ∧ PP μ ∧ ∀ z, zp R (nr + 1) z = l * zp W (m0 + 1) z - μ z * zp s (a + 1) z) (hnr : nr < a) (hpR : zprim R (nr + 1)) (h : chG s R a nr F n m) : mhM F n m := by
  obtain ⟨h1, h2, e0, e1, en0, en1, hc, he, hp⟩ := h
  intro i hi
  rcases Nat.eq_zero_or_pos i with w | w
  · subst w
    rw [e0, en0]
    exact ⟨47, bs47, by unfold mgB; omega, by omega⟩
  · have dsc : n i < n (i - 1) ∧ n i ≤ 7 := by
      have key : ∀ j, 1 ≤ j → j < m → n j < n (j - 1) := fun j h1 h2 => by
        rcases Nat.lt_or_ge 1 j with w | w
        · have := (hc.2 (j - 1) (by omega) (by omega)).1
          rwa [show j - 1 + 1 = j by omega] at this
        · have : j = 1 := by omega
          subst this
          show n 1 < n 0
          rw [en0, en1]; exact hnr
      have hle : ∀ j, 1 ≤ j → j < m → n j + j ≤ a := by
        intro j
        induction j with
        | zero => intro h; omega
        | succ j ih =>
          intro _ hj
          have h1 := key (j + 1) (by omega) hj
          rw [Nat.add_sub_cancel] at h1
          rcases Nat.eq_zero_or_pos j with z | z
          · subst z; rw [en0] at h1; omega
          · have := ih z (by omega); omega
      have := hle i w hi
      exact ⟨key i w hi, by omega⟩
    refine ⟨_, rows_sg (F := F) (n := n) (m := m) ha (by omega) bW bs W0 hl hnr hpR e0 e1 en0 en1 hc hp w hi, ?_, ?_⟩
    · unfold mgB
      have h1 : (6 + α) * (m0 + a + 1 - 2 * n (i - 1)) ≤ (6 + α) * (m0 + a + 1 - 2 - 2 * n i) := Nat.mul_le_mul_left _ (by omega)
      rcases hc8 with ⟨rfl, g1, g2⟩ | ⟨rfl, g1, g2⟩
      · have h2 : (6 + 60) * (m0 + a + 1 - 2 - 2 * n i) ≤ 66 * (20 - 2 * n i) := Nat.mul_le_mul (by omega) (by omega)
        omega
      · have h2 : (6 + 20) * (m0 + a + 1 - 2 - 2 * n i) ≤ 26 * (22 - 2 * n i) := Nat.mul_le_mul (by omega) (by omega)
        omega
    · have h1 : (6 + α) * (m0 + a + 1 - 2 * n (i - 1)) ≤ 66 * 24 := Nat.mul_le_mul (by omega) (by omega)
      omega
end MSG2
