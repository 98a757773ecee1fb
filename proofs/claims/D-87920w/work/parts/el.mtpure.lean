/-! the model's product: its rows against the steps of mu1, mu2 (no walk yet) -/
-- needs: ek.mpart
set_option maxRecDepth 100000
set_option linter.unusedVariables false
section MTP
variable {D : Dat} {q n : Nat} {ψ : Nat → Rat} {e : Nat → Nat}
/-- where entry k of a row stands in the count from 454 down -/
def rpos (n : Nat) (e : Nat → Nat) (k : Nat) : Nat := if k < n then 454 - e k else 455
theorem rpos_lt {k : Nat} (hk : k < n) : rpos n e k = 454 - e k := if_pos hk
theorem rpos_end {k : Nat} (hk : n ≤ k) : rpos n e k = 455 := if_neg (by omega)
theorem rpos_le {k : Nat} : rpos n e k ≤ 455 := by unfold rpos; split <;> omega
theorem row_gap (h : mpD D q ψ n e) {k i : Nat} (hk : k < n) (h1 : 454 - e k < i) (h2 : i < rpos n e (k + 1)) : ψ (454 - i) = 0 := by
  have hi := rpos_le (n := n) (e := e) (k := k + 1)
  have hek := (h.2.2.1 k hk).1
  refine h.2.2.2.2.1 _ (by omega) fun j hj w => ?_
  rcases Nat.lt_trichotomy j k with y | y | y
  · have := h.2.2.2.1 j k y hk
    omega
  · subst y; omega
  · have hk1 : k + 1 < n := by omega
    rw [rpos_lt hk1] at h2
    rcases Nat.decEq j (k + 1) with z | z
    · have := h.2.2.2.1 (k + 1) j (by omega) hj
      omega
    · subst z; omega
theorem row_gap0 (h : mpD D q ψ n e) {i : Nat} (h2 : i < rpos n e 0) : ψ (454 - i) = 0 := by
  have hi := rpos_le (n := n) (e := e) (k := 0)
  refine h.2.2.2.2.1 _ (by omega) fun j hj w => ?_
  rw [rpos_lt (by omega)] at h2
  rcases Nat.eq_zero_or_pos j with y | y
  · subst y; omega
  · have := h.2.2.2.1 0 j y hj
    omega
theorem rpos_lt2 (h : mpD D q ψ n e) {k : Nat} (hk : k < n) : rpos n e k < rpos n e (k + 1) := by
  have hek := (h.2.2.1 k hk).1
  rw [rpos_lt hk]
  rcases Nat.lt_or_ge (k + 1) n with y | y
  · rw [rpos_lt y]
    have := h.2.2.2.1 k (k + 1) (by omega) y
    omega
  · rw [rpos_end y]; omega
theorem mu1_skip {x : Rat} {t : Nat} {χ : Nat → Rat} {a : Nat} : ∀ b, a ≤ b → (∀ i, a ≤ i → i < b → ψ (454 - i) = 0) → mu1 x t ψ χ b = mu1 x t ψ χ a := by
  intro b
  induction b with
  | zero => intro h _; rw [show a = 0 by omega]
  | succ b ih =>
    intro h hz
    rcases Nat.decEq a (b + 1) with y | y
    · rw [← ih (by omega) fun i h1 h2 => hz i h1 (by omega)]
      show (if ψ (454 - b) = 0 then _ else _) = _
      rw [if_pos (hz b (by omega) (by omega))]
    · rw [y]
theorem mu2_skip {φ : Nat → Rat} {a : Nat} : ∀ b, a ≤ b → (∀ i, a ≤ i → i < b → φ (454 - i) = 0) → mu2 φ ψ b = mu2 φ ψ a := by
  intro b
  induction b with
  | zero => intro h _; rw [show a = 0 by omega]
  | succ b ih =>
    intro h hz
    rcases Nat.decEq a (b + 1) with y | y
    · rw [← ih (by omega) fun i h1 h2 => hz i h1 (by omega)]
      show (if φ (454 - b) = 0 then _ else _) = _
      rw [if_pos (hz b (by omega) (by omega))]
    · rw [y]
theorem mk1_skip {x : Rat} {t : Nat} {χ : Nat → Rat} {a b : Nat} (h : a ≤ b) (hz : ∀ i, a ≤ i → i < b → ψ (454 - i) = 0) : mk1 x t ψ χ b ↔ mk1 x t ψ χ a :=
  ⟨fun k j hj => k j (by omega), fun k j hj h0 => by
    rcases Nat.lt_or_ge j a with y | y
    · exact k j y h0
    · exact absurd (hz j y hj) h0⟩
theorem mk2_skip {φ : Nat → Rat} {a b : Nat} (h : a ≤ b) (hz : ∀ i, a ≤ i → i < b → φ (454 - i) = 0) : mk2 φ ψ b ↔ mk2 φ ψ a :=
  ⟨fun k j hj => k j (by omega), fun k j hj h0 => by
    rcases Nat.lt_or_ge j a with y | y
    · exact k j y h0
    · exact absurd (hz j y hj) h0⟩
/-- one entry of the inner row -/
theorem mu1_step (h : mpD D q ψ n e) {x : Rat} {t : Nat} {χ : Nat → Rat} {k : Nat} (hk : k < n) : mu1 x t ψ χ (rpos n e (k + 1)) = pupd (mu1 x t ψ χ (rpos n e k)) (tmu t (e k)) (mu1 x t ψ χ (rpos n e k) (tmu t (e k)) + ψ (e k) * x) ∧ (mk1 x t ψ χ (rpos n e (k + 1)) ↔ mk1 x t ψ χ (rpos n e k) ∧ qfit (mu1 x t ψ χ (rpos n e k) (tmu t (e k)) + ψ (e k) * x)) := by
  obtain ⟨hek, -, -, h0⟩ := h.2.2.1 k hk
  have hlt := rpos_lt2 h hk
  have hp := rpos_lt (e := e) hk
  have ee : 454 - rpos n e k = e k := by omega
  have gap : ∀ i, rpos n e k + 1 ≤ i → i < rpos n e (k + 1) → ψ (454 - i) = 0 := fun i h1 h2 => row_gap h hk (by omega) h2
  rw [mu1_skip _ hlt gap, mk1_skip hlt gap]
  constructor
  · show (if ψ (454 - rpos n e k) = 0 then _ else _) = _
    rw [ee, if_neg h0]
  · constructor
    · exact fun m => ⟨fun j hj => m j (by omega), by
        have := m (rpos n e k) (by omega) (by rw [ee]; exact h0)
        rw [ee] at this
        exact this⟩
    · intro ⟨m1, m2⟩ j hj hne
      rcases Nat.decEq j (rpos n e k) with y | y
      · exact m1 j (by omega) hne
      · subst y; rw [ee]; exact m2
theorem mu1_start (h : mpD D q ψ n e) {x : Rat} {t : Nat} {χ : Nat → Rat} : mu1 x t ψ χ (rpos n e 0) = χ ∧ mk1 x t ψ χ (rpos n e 0) := by
  have gap : ∀ i, 0 ≤ i → i < rpos n e 0 → ψ (454 - i) = 0 := fun i _ h2 => row_gap0 h h2
  exact ⟨mu1_skip _ (Nat.zero_le _) gap, (mk1_skip (Nat.zero_le _) gap).mpr fun j hj => absurd hj (Nat.not_lt_zero _)⟩
/-- one entry of the outer row -/
theorem mu2_step {φ : Nat → Rat} (h : mpD D q φ n e) {k : Nat} (hk : k < n) : mu2 φ ψ (rpos n e (k + 1)) = mu1 (φ (e k)) (e k) ψ (mu2 φ ψ (rpos n e k)) 455 ∧ (mk2 φ ψ (rpos n e (k + 1)) ↔ mk2 φ ψ (rpos n e k) ∧ mk1 (φ (e k)) (e k) ψ (mu2 φ ψ (rpos n e k)) 455) := by
  obtain ⟨hek, -, -, h0⟩ := h.2.2.1 k hk
  have hlt := rpos_lt2 h hk
  have hp := rpos_lt (e := e) hk
  have ee : 454 - rpos n e k = e k := by omega
  have gap : ∀ i, rpos n e k + 1 ≤ i → i < rpos n e (k + 1) → φ (454 - i) = 0 := fun i h1 h2 => row_gap h hk (by omega) h2
  rw [mu2_skip _ hlt gap, mk2_skip hlt gap]
  constructor
  · show (if φ (454 - rpos n e k) = 0 then _ else _) = _
    rw [ee, if_neg h0]
  · constructor
    · exact fun m => ⟨fun j hj => m j (by omega), by
        have := m (rpos n e k) (by omega) (by rw [ee]; exact h0)
        rw [ee] at this
        exact this⟩
    · intro ⟨m1, m2⟩ j hj hne
      rcases Nat.decEq j (rpos n e k) with y | y
      · exact m1 j (by omega) hne
      · subst y; rw [ee]; exact m2
theorem mu2_start {φ : Nat → Rat} (h : mpD D q φ n e) : mu2 φ ψ (rpos n e 0) = (fun _ => 0) ∧ mk2 φ ψ (rpos n e 0) := by
  have gap : ∀ i, 0 ≤ i → i < rpos n e 0 → φ (454 - i) = 0 := fun i _ h2 => row_gap0 h h2
  exact ⟨mu2_skip _ (Nat.zero_le _) gap, (mk2_skip (Nat.zero_le _) gap).mpr fun j hj => absurd hj (Nat.not_lt_zero _)⟩
end MTP
