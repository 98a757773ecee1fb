/-! how great the numbers of a chain can be -/
-- pure
-- needs: 71.poly 72.siegel 73.gauss 74.anal 75.cells 76.sturm 77.sep
set_option maxRecDepth 100000
set_option linter.unusedVariables false
/-- a row of remainders, as multiples of the first two: u, v with F_i = u F_0 + v F_1 -/
theorem chain_uv {F : Nat → pf} {n : Nat → Nat} {m : Nat} (hq : ∀ i, 1 ≤ i → i + 1 < m → ∃ (c : Rat) (q : pf), 0 < c ∧ PP q ∧ ∀ x, c * F (i - 1) x = q x * F i x - F (i + 1) x) (hE : ∀ i, i < m → EX (F i) (n i)) (h01 : n 1 ≤ n 0) (hd : ∀ i, 1 ≤ i → i + 1 < m → n (i + 1) < n i) :
    ∀ i, 1 ≤ i → i < m → ∃ u v u' v' : pf, ∃ δ : Rat, δ ≠ 0 ∧ PP u' ∧ PP v' ∧ PP u ∧ EX v (n 0 - n (i - 1)) ∧ (∀ x, F i x = u x * F 0 x + v x * F 1 x) ∧ (∀ x, F (i - 1) x = u' x * F 0 x + v' x * F 1 x) ∧ (∀ x, u' x * v x - u x * v' x = δ) ∧ n (i - 1) ≤ n 0 ∧ (∃ k, (i = 1 → k = 0) ∧ k ≤ n 0 - n (i - 1) + 1 ∧ PF k v') := by
  intro i
  induction i with
  | zero => intro h; omega
  | succ i ih =>
    intro _ him
    rcases Nat.eq_zero_or_pos i with e | hi
    · subst e
      refine ⟨fun _ => 0, fun _ => 1, fun _ => 1, fun _ => 0, 1, by decide, ⟨1, PF.const 1⟩, ⟨0, PF.ofZero 0⟩, ⟨0, PF.ofZero 0⟩, ?_, fun x => by show F 1 x = _; grind, fun x => by show F 0 x = _; grind, fun x => by grind, Nat.le_refl _, ⟨0, fun _ => rfl, Nat.zero_le _, PF.ofZero 0⟩⟩
      rw [Nat.add_sub_cancel, Nat.sub_self]
      exact ⟨fun _ => 1, fun x => by simp only [ps, Rat.pow_zero]; grind, by decide⟩
    · obtain ⟨u, v, u', v', δ, d0, hu', hv', hu, hv, e1, e2, e3, e4, k, hk1, hk, hvk⟩ := ih hi (by omega)
      obtain ⟨c, q, c0, hq1, hq2⟩ := hq i hi him
      have hni : n i ≤ n (i - 1) := by
        rcases Nat.lt_or_ge 1 i with w | w
        · have := hd (i - 1) (by omega) (by omega)
          rw [show i - 1 + 1 = i by omega] at this; omega
        · have : i = 1 := by omega
          subst this; exact h01
      -- the quotient's degree
      have hqd : EX q (n (i - 1) - n i) := by
        obtain ⟨nq, hq1⟩ := hq1
        have hsum : EX (fun x => q x * F i x) (n (i - 1)) := by
          have h1 := (hE (i - 1) (by omega)).smul (p := c) (by intro w; rw [w] at c0; exact Rat.lt_irrefl c0)
          have h2 := h1.addl (g := F (i + 1)) ((hE (i + 1) him).pf.mono (by have := hd i hi him; omega))
          exact h2.congr fun x => by have := hq2 x; grind
        rcases hq1.cases with w | ⟨d, _, w⟩
        · exact absurd (fun x => by rw [w x]; grind) hsum.nz
        · have := (w.mul (hE i (by omega))).uniq hsum
          rwa [show n (i - 1) - n i = d by omega]
      have hv1 : EX (fun x => q x * v x) (n 0 - n i) := by
        have := hqd.mul hv
        rwa [show n (i - 1) - n i + (n 0 - n (i - 1)) = n 0 - n i by omega] at this
      refine ⟨fun x => q x * u x - c * u' x, fun x => q x * v x + (-c) * v' x, u, v, c * δ, ?_, hu, ⟨_, hv.pf⟩, (hq1.mul hu).sub (hu'.smul c), ?_, fun x => ?_, fun x => ?_, fun x => ?_, ?_, ?_⟩
      · intro w; rcases Rat.mul_eq_zero.mp w with w | w
        · rw [w] at c0; exact Rat.lt_irrefl c0
        · exact d0 w
      · rw [Nat.add_sub_cancel]
        refine hv1.addl ((hvk.smul (-c)).mono ?_)
        rcases Nat.lt_or_ge 1 i with w | w
        · have := hd (i - 1) (by omega) (by omega)
          rw [show i - 1 + 1 = i by omega] at this
          omega
        · rw [hk1 (by omega)]; omega
      · have a1 := hq2 x; have a2 := e1 x; have a3 := e2 x
        have a4 : F (i + 1) x = q x * F i x - c * F (i - 1) x := by grind
        rw [a4, a2, a3]; grind
      · rw [Nat.add_sub_cancel]; exact e1 x
      · have := e3 x; grind
      · rw [Nat.add_sub_cancel]; omega
      · rw [Nat.add_sub_cancel]
        exact ⟨n 0 - n (i - 1) + 1, fun w => by omega, by omega, hv.pf⟩
