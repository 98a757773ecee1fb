/-! what single leaves is the row of the polynomial -/
-- needs: dx.single2
set_option maxRecDepth 100000
set_option linter.unusedVariables false
section USM
theorem uni_sum {φ : Nat → Rat} (hU : uniP φ) (h0 : ∃ t, t < 455 ∧ φ t ≠ 0) : ∃ d : Nat, tmax φ 455 = d ∧ d ≤ 8 ∧ uniR φ (fun k => usum φ k 455) d := by
  obtain ⟨h1, h2, l, hl, h3⟩ := hU
  obtain ⟨s, s1, s2⟩ := h0
  rcases degI_law (φ := φ) 455 with ⟨_, q⟩ | ⟨⟨t, q1, q2, q3⟩, q4⟩
  · exact absurd (q s s1) s2
  · have e : tmax φ 455 = (tdg t : Int) := by unfold tmax; rw [q3, if_neg (by omega)]
    refine ⟨tdg t, e, by omega, q3, fun u hu hu0 => usum_at hu0 rfl 455 hu fun v hv hv0 hvd => uni_ext hl hv hu (h3 v hv hv0) (h3 u hu hu0) hvd, fun k hk => usum_none 455 hk⟩
theorem uni_sum0 {φ : Nat → Rat} (h0 : ∀ t, t < 455 → φ t = 0) : tmax φ 455 = 0 ∧ ∀ k, usum φ k 455 = 0 := by
  refine ⟨?_, fun k => usum_none 455 fun t ht w => absurd (h0 t ht) w⟩
  unfold tmax
  rw [degI_none h0, if_pos (by decide)]
theorem uniP.zero {φ : Nat → Rat} (h0 : ∀ t, t < 455 → φ t = 0) : uniP φ :=
  ⟨by rw [degI_none h0]; decide, fun t ht => by rw [h0 t ht]; exact ⟨rfl, by decide⟩, 0, by decide, fun t ht w => absurd (h0 t ht) w⟩
theorem usum_99 {φ : Nat → Rat} (hU : uniP φ) (k : Nat) : (usum φ k 455).natAbs ≤ 99 := by
  obtain ⟨h1, h2, l, hl, h3⟩ := hU
  rcases Classical.em (∃ t, t < 455 ∧ φ t ≠ 0 ∧ tdg t = k) with ⟨t, q1, q2, q3⟩ | q
  · rw [usum_at q2 q3 455 q1 fun v hv hv0 hvd => uni_ext hl hv q1 (h3 v hv hv0) (h3 t q1 q2) (hvd.trans q3.symm)]
    have := (h2 t q1).2
    omega
  · rw [usum_none 455 fun t ht w1 w2 => q ⟨t, ht, w1, w2⟩]; decide
end USM
