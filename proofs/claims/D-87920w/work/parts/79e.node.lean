/-! numbers of a polynomial out of its values at whole places -/
-- pure
-- needs: 71.poly 72.siegel 73.gauss 74.anal 75.cells 76.sturm 77.sep
set_option maxRecDepth 100000
set_option linter.unusedVariables false
def nbd (R : Rat) : Nat → Rat → Rat
  | 0, _ => 0
  | n + 1, M => M + (1 + R) * nbd R n (2 * M)
theorem nbd_nn {R : Rat} (hR : 0 ≤ R) : ∀ (n : Nat) (M : Rat), 0 ≤ M → 0 ≤ nbd R n M := by
  intro n
  induction n with
  | zero => intro M _; exact Rat.le_refl
  | succ n ih =>
    intro M h
    have := Rat.mul_nonneg (show 0 ≤ 1 + R by grind) (ih (2 * M) (by grind))
    simp only [nbd]; grind
theorem ab_div {x d K : Rat} (h : ab (d * x) K) (hd : 1 ≤ d ∨ d ≤ -1) : ab x K := by
  obtain ⟨h1, h2⟩ := h
  have key : ∀ y : Rat, 0 ≤ y → ∀ e : Rat, 1 ≤ e → e * y ≤ K → y ≤ K := fun y hy e he h => by
    have := Rat.mul_le_mul_of_nonneg_right he hy
    grind
  rcases hd with g | g <;> rcases (Rat.le_total : 0 ≤ x ∨ x ≤ 0) with q | q
  · have := key x q d g h2; unfold ab; grind
  · have := key (-x) (by grind) d g (by grind); unfold ab; grind
  · have := key x q (-d) (by grind) (by grind); unfold ab; grind
  · have := key (-x) (by grind) (-d) (by grind) (by grind); unfold ab; grind
theorem node_bd {R : Rat} (hR : 0 ≤ R) : ∀ (n : Nat) (c a : Nat → Rat) (M : Rat), (∀ i, i < n → ab (a i) R) → (∀ i j, i < j → j < n → 1 ≤ a j - a i ∨ a j - a i ≤ -1) → (∀ i, i < n → ab (ps c n (a i)) M) → ∀ k, k < n → ab (c k) (nbd R n M) := by
  intro n
  induction n with
  | zero => intro c a M _ _ _ k hk; omega
  | succ n ih =>
    intro c a M ha hd hv k hk
    have hM := (hv 0 (by omega)).nn
    have h0 := ha 0 (by omega)
    have hh := ih (pdq c (a 0) n) (fun i => a (i + 1)) (2 * M) (fun i hi => ha (i + 1) (by omega)) (fun i j h1 h2 => hd (i + 1) (j + 1) (by omega) (by omega)) (fun i hi => by
      refine ab_div (d := a (i + 1) - a 0) ?_ (hd 0 (i + 1) (by omega) (by omega))
      have e := ps_div (a 0) (a (i + 1)) n c
      have h1 := hv (i + 1) (by omega)
      have h2 := hv 0 (by omega)
      unfold ab at h1 h2 ⊢
      grind)
    have hn := nbd_nn hR n (2 * M) (by grind)
    have hb : ∀ j, ab (pdq c (a 0) n j) (nbd R n (2 * M)) := fun j => by
      rcases Nat.lt_or_ge j n with q | q
      · exact hh j q
      · have e : pdq c (a 0) n j = 0 := by
          unfold pdq; rw [show n - j = 0 by omega]; rfl
        rw [e]; unfold ab; grind
    have hm : ∀ j, ab (a 0 * pdq c (a 0) n j) (R * nbd R n (2 * M)) := fun j => h0.mul (hb j)
    simp only [nbd]
    have hR2 := Rat.mul_nonneg hR hn
    rcases k with _ | k
    · have e := ps_left c n (a 0)
      have e2 : ps (fun j => c (j + 1)) n (a 0) = pdq c (a 0) n 0 := by
        unfold pdq
        rw [Nat.sub_zero]
        exact ps_congr (fun j _ => by rw [show 0 + 1 + j = j + 1 by omega]) _
      rw [e2] at e
      have h1 := hv 0 (by omega)
      have h2 := hm 0
      have e3 : c 0 = ps c (n + 1) (a 0) - a 0 * pdq c (a 0) n 0 := by grind
      rw [e3]
      unfold ab at h1 h2 ⊢
      grind
    · have e := pdq_step c (a 0) (n := n) (k := k) (by omega)
      have h1 := hb k
      have h2 := hm (k + 1)
      have e3 : c (k + 1) = pdq c (a 0) n k - a 0 * pdq c (a 0) n (k + 1) := by grind
      rw [e3]
      unfold ab at h1 h2 ⊢
      grind
