/-! the spans that hold one root each: a search, and its list -/
-- pure
-- needs: 79k.fac
set_option maxRecDepth 100000
set_option linter.unusedVariables false
/-- how often signs change at a place -/
noncomputable def vP (p : pf) (x : Rat) : Int := Classical.epsilon (cntP p x)
theorem vP_eq {p : pf} {x : Rat} {v : Int} (h : cntP p x v) : vP p x = v := (Classical.epsilon_spec (p := cntP p x) ⟨v, h⟩).uniq h
/-- the place where a span begins: (-128, 128] halved h times, the span w -/
def rpt (h : Nat) (w : Int) : Rat := (w : Rat) * 256 / (((2 ^ h : Nat) : Int) : Rat) - 128
theorem r2_pos (n : Nat) : (0 : Rat) < (((2 ^ n : Nat) : Int) : Rat) := Rat.intCast_pos.mpr (Int.ofNat_lt.mpr (Nat.two_pow_pos n))
theorem rpt_half (h : Nat) (w : Int) : rpt (h + 1) (2 * w) = rpt h w := by
  have p1 := r2_pos h
  obtain ⟨x1, x2⟩ := pos_inv p1
  unfold rpt
  rw [Nat.pow_succ, Int.natCast_mul, Rat.intCast_mul, Rat.intCast_mul, Rat.div_def, Rat.div_def]
  generalize (((2 ^ h : Nat) : Int) : Rat) = X at *
  have h2 : (((2 : Nat) : Int) : Rat) = 2 := rfl
  have h3 : ((2 : Int) : Rat) = 2 := rfl
  rw [h2, h3]
  have e : (X * 2)⁻¹ = X⁻¹ * (2 : Rat)⁻¹ := by
    have k1 : X * 2 ≠ 0 := nz_mul (fun w => by rw [w] at p1; exact Rat.lt_irrefl p1) (by decide)
    have k2 := Rat.inv_mul_cancel _ k1
    have k3 : (2 : Rat)⁻¹ * 2 = 1 := by decide +kernel
    have k4 : X⁻¹ * (2 : Rat)⁻¹ * (X * 2) = 1 := by
      have : X⁻¹ * (2 : Rat)⁻¹ * (X * 2) = X⁻¹ * X * ((2 : Rat)⁻¹ * 2) := by grind
      rw [this, x2, k3]; decide +kernel
    have k5 : X⁻¹ * (2 : Rat)⁻¹ * (X * 2) * (X * 2)⁻¹ = X⁻¹ * (2 : Rat)⁻¹ := by
      have := Rat.mul_inv_cancel _ k1
      rw [Rat.mul_assoc, this, Rat.mul_one]
    rw [k4, Rat.one_mul] at k5
    exact k5
  rw [e]
  have k3 : (2 : Rat)⁻¹ * 2 = 1 := by decide +kernel
  have : 2 * (w : Rat) * 256 * (X⁻¹ * (2 : Rat)⁻¹) = (w : Rat) * 256 * X⁻¹ * ((2 : Rat)⁻¹ * 2) := by grind
  rw [this, k3]; grind
theorem rpt_mono {h : Nat} {w v : Int} (k : w ≤ v) : rpt h w ≤ rpt h v := by
  have p1 := r2_pos h
  obtain ⟨x1, x2⟩ := pos_inv p1
  unfold rpt
  rw [Rat.div_def, Rat.div_def]
  have h1 : (w : Rat) ≤ (v : Rat) := Rat.intCast_le_intCast.mpr k
  have h2 := Rat.mul_le_mul_of_nonneg_right (show (w : Rat) * 256 ≤ (v : Rat) * 256 by grind) (Rat.le_of_lt x1)
  grind
theorem rpt_lo (h : Nat) : rpt h 0 = -128 := by
  unfold rpt
  rw [Rat.div_def, Rat.intCast_zero]; grind
theorem rpt_hi (h : Nat) : rpt h ((2 ^ h : Nat) : Int) = 128 := by
  have p1 := r2_pos h
  obtain ⟨x1, x2⟩ := pos_inv p1
  unfold rpt
  rw [Rat.div_def]
  have : (((2 ^ h : Nat) : Int) : Rat) * 256 * (((2 ^ h : Nat) : Int) : Rat)⁻¹ = 256 * ((((2 ^ h : Nat) : Int) : Rat)⁻¹ * (((2 ^ h : Nat) : Int) : Rat)) := by grind
  rw [this, x2]; decide +kernel
theorem rpt_iB {h : Nat} {w : Int} (h0 : 0 ≤ w) (h1 : w ≤ ((2 ^ h : Nat) : Int)) : iB (rpt h w) := by
  have a := rpt_mono (h := h) h0
  have b := rpt_mono (h := h) h1
  rw [rpt_lo] at a
  rw [rpt_hi] at b
  exact ⟨a, b⟩
/-- how wide a span is -/
theorem rpt_wide (h : Nat) (w : Int) : rpt h (w + 1) - rpt h w = 256 * (((2 ^ h : Nat) : Int) : Rat)⁻¹ := by
  unfold rpt
  rw [Rat.div_def, Rat.div_def, Rat.intCast_add, show ((1 : Int) : Rat) = 1 from rfl]; grind
/-- how many roots a span has -/
noncomputable def nR (p : pf) (h : Nat) (w : Int) : Int := vP p (rpt h w) - vP p (rpt h (w + 1))
theorem nR_half (p : pf) (h : Nat) (w : Int) : nR p h w = nR p (h + 1) (2 * w) + nR p (h + 1) (2 * w + 1) := by
  unfold nR
  rw [rpt_half, show 2 * w + 1 + 1 = 2 * (w + 1) by omega, rpt_half]; omega
/-- the leaves below a span -/
def lv (N : Nat → Int → Int) : Nat → Nat → Int → List (Nat × Int)
  | 0, _, _ => []
  | f + 1, h, w => if 1 < N h w then lv N f (h + 1) (2 * w) ++ lv N f (h + 1) (2 * w + 1) else if N h w = 1 then [(h, w)] else []
/-- the span behind one, if there is one -/
def nxt : Nat → Int → Option (Nat × Int)
  | 0, _ => none
  | h + 1, w => if w % 2 = 1 then nxt h (w / 2) else some (h + 1, w + 1)
/-- what a good count is like -/
def gdN (N : Nat → Int → Int) : Prop := (∀ h w, 0 ≤ w → w < ((2 ^ h : Nat) : Int) → 0 ≤ N h w) ∧ (∀ h w, N h w = N (h + 1) (2 * w) + N (h + 1) (2 * w + 1)) ∧ N 0 0 ≤ 8 ∧ ∀ h w, 389 ≤ h → 0 ≤ w → w < ((2 ^ h : Nat) : Int) → N h w ≤ 1
theorem half_lt {h : Nat} {w : Int} (h0 : 0 ≤ w) (h1 : w < ((2 ^ h : Nat) : Int)) : 2 * w + 1 < ((2 ^ (h + 1) : Nat) : Int) := by
  rw [Nat.pow_succ]; omega
theorem lv_len {N : Nat → Int → Int} (hN : gdN N) : ∀ (f h : Nat) (w : Int), 0 ≤ w → w < ((2 ^ h : Nat) : Int) → ((lv N f h w).length : Int) ≤ N h w := by
  intro f
  induction f with
  | zero => intro h w h0 h1; simp only [lv, List.length_nil]; exact hN.1 h w h0 h1
  | succ f ih =>
    intro h w h0 h1
    have h2 := half_lt h0 h1
    have h3 := hN.1 h w h0 h1
    simp only [lv]
    split
    · rw [List.length_append]
      have a := ih (h + 1) (2 * w) (by omega) (by omega)
      have b := ih (h + 1) (2 * w + 1) (by omega) h2
      have := hN.2.1 h w
      omega
    · split
      · rename_i q; rw [q]; simp
      · simpa using h3
/-- all leaves lie within the depth, and have one root -/
theorem lv_in {N : Nat → Int → Int} : ∀ (f h : Nat) (w : Int) (x : Nat × Int), 0 ≤ w → w < ((2 ^ h : Nat) : Int) → x ∈ lv N f h w → h ≤ x.1 ∧ x.1 < h + f ∧ 0 ≤ x.2 ∧ x.2 < ((2 ^ x.1 : Nat) : Int) ∧ N x.1 x.2 = 1 := by
  intro f
  induction f with
  | zero => intro h w x _ _ hx; simp [lv] at hx
  | succ f ih =>
    intro h w x h0 h1 hx
    have h2 := half_lt h0 h1
    simp only [lv] at hx
    split at hx
    · rcases List.mem_append.mp hx with q | q
      · obtain ⟨a, b, c⟩ := ih (h + 1) (2 * w) x (by omega) (by omega) q
        exact ⟨by omega, by omega, c⟩
      · obtain ⟨a, b, c⟩ := ih (h + 1) (2 * w + 1) x (by omega) h2 q
        exact ⟨by omega, by omega, c⟩
    · split at hx
      · rw [List.mem_singleton] at hx
        subst hx
        rename_i q
        exact ⟨Nat.le_refl _, by omega, h0, h1, q⟩
      · simp at hx
