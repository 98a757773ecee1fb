/-! after a call all stands well again -/
-- needs: g1.frame
set_option maxRecDepth 100000
set_option linter.unusedVariables false
section CRW
variable {S : Stat} {D : Dat} {M N : Nat} {s s' : Cst} {v : Int}
theorem crW.fR {k : Nat} (hW : crW N s) (hk : k ≤ 7) (h : fR k s s' v) : crW (N + 1) s' := by
  rw [h.1]; exact hW.uFn hk
theorem crW.rR {f : Nat} {Q : Cst → Int → Prop} (hW : crW N s) (hf : f ≤ 7) (h : rR f Q s s' v) (hq : f = 0 → Q s' v → crW (N + 1) s') : crW (N + 1) s' := by
  rcases h with ⟨a, b, c⟩ | ⟨a, b⟩
  · rw [c]; exact hW.uFn hf
  · exact hq a b
theorem crW.same (hW : crW N s) (h : s' = s) : crW (N + 1) s' := by rw [h]; exact hW.mono (Nat.le_succ _)
theorem lk7 (s : Cst) (x : Int) (k : Nat) : lkN s x k ≤ 7 := by have := lkN_le s x k; omega
theorem gl7 (x : Int) : glN x ≤ 7 := by have := glN_le x; omega
/-- a polynomial that came to a place -/
theorem cwpy {r : Int} {χ : Nat → Rat} (hW : crW N s) (hM : moI S D M (uTh s r (some (.inl χ)))) (hr : glN r = 0) : crW (N + 1) (uTh s r (some (.inl χ))) := by
  obtain ⟨p, hp, hp16⟩ := gl_in hr
  subst hp
  have h := hM.2.1 p hp16
  have e : sTh (uTh s (p : Int) (some (.inl χ))) p = some (.inl χ) := if_pos rfl
  rw [e] at h
  exact (hW.uTh (show thW (some (.inl χ)) from h.2.w)).mono (Nat.le_succ _)
theorem crW.rP {r : Int} {g : Prop} {χ : Nat → Rat} (hW : crW N s) (hM : moI S D M s') (hr : glN r = 0) (h : rP s r g χ s' v) : crW (N + 1) s' := by
  rcases h with ⟨a, b, c, d⟩ | ⟨a, b⟩
  · rw [c] at hM ⊢; exact cwpy hW hM hr
  · exact hW.fR (by decide) b
theorem lk_gl {x : Int} {k : Nat} (h : lkN s x k = 0) : glN x = 0 := by
  obtain ⟨p, hp, hp16, -⟩ := lk_in h
  exact if_pos (by omega)
theorem cw_order {x k n : Int} (hW : crW N s) (h : oOrder x k n s s' v) : crW (N + 1) s' := hW.rR (foN_le (gl7 x) (by split <;> omega)) h fun z q => by
  obtain ⟨q1, q2⟩ := q
  have z2 := (foN_0.mp z).2
  have hk : 0 ≤ k ∧ k ≤ 3 ∧ (k < 3 ∨ n = 1 ∨ n = 2) := Classical.byContradiction fun c => by rw [if_neg c] at z2; exact absurd z2 (by decide)
  rw [q2]
  refine (hW.uTh ?_).mono (Nat.le_succ _)
  show ordOK (9 + k.toNat) (if k = 3 then n.toNat else 0) ∧ (9 + k.toNat ≠ 12 → (if k = 3 then n.toNat else 0) = 0)
  unfold ordOK
  by_cases h3 : k = 3
  · rw [if_pos h3]; omega
  · rw [if_neg h3]; omega
theorem cw_zero {x : Int} (hW : crW N s) (hM : moI S D M s') (h : oZero x s s' v) : crW (N + 1) s' := hW.rR (gl7 x) h fun z q => by
  rw [q.2] at hM ⊢; exact cwpy hW hM z
theorem cw_term {x a b k : Int} (hW : crW N s) (hM : moI S D M s') (h : oTerm x a b k s s' v) : crW (N + 1) s' := hW.rR (foN_le (lk7 s x 1) (foN_le (by split <;> omega) (by split <;> omega))) h fun z q => by
  obtain ⟨φ, t, q1, q2, q3, q4⟩ := q
  exact hW.rP hM (lk_gl (foN_0.mp z).1) q4
theorem cw_sum {sg x y r : Int} (hW : crW N s) (hM : moI S D M s') (h : oSum sg x y r s s' v) : crW (N + 1) s' := hW.rR (foN_le (lk7 s x 1) (foN_le (lk7 s y 1) (gl7 r))) h fun z q => by
  obtain ⟨φ, ψ, q1, q2, q3⟩ := q
  exact hW.rP hM (foN_0.mp (foN_0.mp z).2).2 q3
theorem cw_times {x y r : Int} (hW : crW N s) (hM : moI S D M s') (h : oTimes x y r s s' v) : crW (N + 1) s' := hW.rR (foN_le (lk7 s x 1) (foN_le (lk7 s y 1) (gl7 r))) h fun z q => by
  obtain ⟨φ, ψ, q1, q2, q3⟩ := q
  exact hW.rP hM (foN_0.mp (foN_0.mp z).2).2 q3
theorem cw_part {x r a n : Int} (hW : crW N s) (hM : moI S D M s') (h : oPart x r a n s s' v) : crW (N + 1) s' := hW.rR (foN_le (lk7 s x 1) (foN_le (gl7 r) (by split <;> omega))) h fun z q => by
  obtain ⟨φ, q1, ⟨q2, q3, q4, q5⟩ | ⟨q2, q3⟩⟩ := q
  · rw [q4] at hM ⊢; exact cwpy hW hM (foN_0.mp (foN_0.mp z).2).1
  · exact hW.fR (by decide) q3
theorem cw_size {x d : Int} (hW : crW N s) (h : oSize x d s s' v) : crW (N + 1) s' := hW.rR (lk7 s x 1) h fun z q => by
  obtain ⟨φ, q1, ⟨q2, q3, q4⟩ | ⟨q2, q3, q4⟩ | ⟨q2, q3, q4, q5⟩⟩ := q
  · exact hW.same q3
  · exact hW.fR (by decide) q4
  · exact hW.same q4
theorem cw_lead {x y : Int} (hW : crW N s) (h : oLead x y s s' v) : crW (N + 1) s' := hW.rR (foN_le (lk7 s x 1) (lk7 s y 2)) h fun z q => by
  obtain ⟨φ, c, g, q1, q2, ⟨q3, q4⟩ | ⟨q3, q4, q5⟩⟩ := q
  · exact hW.fR (by decide) q4
  · exact hW.same q4
theorem cw_letter {x : Int} (hW : crW N s) (h : oLetter x s s' v) : crW (N + 1) s' := by
  rcases h with ⟨a, b, c, d⟩ | ⟨a, b⟩
  · exact hW.same c
  · exact hW.fR (by decide) b
theorem thW_py {p : Nat} {φ : Nat → Rat} (hW : crW N s) (hp : p < 16) (ht : sTh s p = some (.inl φ)) : pyW φ := by
  have h := hW.1 p hp
  rw [ht] at h; exact h
theorem lk1W {x : Int} {φ : Nat → Rat} (hW : crW N s) (h : lkN s x 1 = 0) (ht : sTh s x.toNat = some (.inl φ)) : pyW φ := by
  obtain ⟨p, ψ, hp, hp16, -⟩ := lk1 h
  rw [hp, show ((p : Nat) : Int).toNat = p by omega] at ht
  exact thW_py hW hp16 ht
theorem cw_row {x : Int} (hW : crW N s) (h : oRow x s s' v) : crW (N + 1) s' := hW.rR (lk7 s x 1) h fun z q => by
  obtain ⟨φ, q1, ⟨q2, q3, q4⟩ | ⟨q2, q3⟩⟩ := q
  · rw [q3]
    obtain ⟨w1, w2, ⟨w3, w3'⟩, w4⟩ := hW.mono (Nat.le_succ N)
    refine ⟨w1, w2, ⟨by show (sRw s).1 + 1 ≤ 6; omega, fun k hk => ?_⟩, w4⟩
    show pyW (if k = (sRw s).1 then φ else (sRw s).2 k)
    have hk : k < (sRw s).1 + 1 := hk
    by_cases e : k = (sRw s).1
    · rw [if_pos e]; exact lk1W hW z q1
    · rw [if_neg e]; exact w3' k (by omega)
  · exact hW.fR (by decide) q3
theorem cw_unrow (hW : crW N s) (h : oUnrow s s' v) : crW (N + 1) s' := by
  rw [h.1]
  obtain ⟨w1, w2, ⟨w3, w3'⟩, w4⟩ := hW.mono (Nat.le_succ N)
  exact ⟨w1, w2, ⟨Nat.zero_le _, fun k hk => absurd hk (Nat.not_lt_zero _)⟩, w4⟩
theorem cw_unideal (hW : crW N s) (h : oUnideal s s' v) : crW (N + 1) s' := by
  rw [h.1]
  obtain ⟨w1, w2, w3, ⟨w4, w4'⟩, w5⟩ := hW.mono (Nat.le_succ N)
  exact ⟨w1, w2, w3, ⟨Nat.zero_le _, fun k hk => absurd hk (Nat.not_lt_zero _)⟩, w5⟩
theorem crW.qt {x : Nat × (Nat → Nat → Rat)} {ρ : Nat → Rat} (hW : crW N s) (hM : moI S D M (uQt s x ρ)) (hx : x.1 ≤ 6) : crW (N + 1) (uQt s x ρ) := by
  obtain ⟨w1, w2, w3, w4, w5, w6, w7⟩ := hW.mono (Nat.le_succ N)
  refine ⟨w1, w2, w3, w4, ⟨hx, fun k hk => (hM.2.2.2.2.2.1.2.1 k hk).w⟩, fun ρ' h => ?_, w7⟩
  have h : some ρ = some ρ' := h
  have := (hM.2.2.2.2.2.2.1.2.1 ρ rfl).w
  rw [← Option.some.inj h]; exact this
theorem cw_divide {x y : Int} (hW : crW N s) (hM : moI S D M s') (h : oDivide x y s s' v) : crW (N + 1) s' := hW.rR (foN_le (lk7 s x 1) (lk7 s y 2)) h fun z q => by
  obtain ⟨φ, c, g, q1, q2, n, r, q3, ⟨q4, q5⟩ | ⟨st, q4, q5, q6⟩⟩ := q
  · exact hW.fR (by decide) q5
  · rw [q5] at hM ⊢
    exact hW.qt hM hW.2.2.1.1
theorem cw_ideal {x : Int} (hW : crW N s) (h : oIdeal x s s' v) : crW (N + 1) s' := hW.rR (lk7 s x 1) h fun z q => by
  obtain ⟨φ, q1, ⟨q2, q3⟩ | ⟨q2, q3, q4⟩ | ⟨q2, q3, q4, q5, q6, q7, q8⟩⟩ := q
  · exact hW.fR (by decide) q3
  · exact hW.fR (by decide) q4
  · rw [q7]
    obtain ⟨w1, w2, w3, ⟨w4, w4'⟩, w5⟩ := hW.mono (Nat.le_succ N)
    have hφ := (lk1W hW z q1).1
    refine ⟨w1, w2, w3, ⟨by show (sId s).1 + 1 ≤ 4; omega, fun k hk => ?_⟩, w5⟩
    have hk : k < (sId s).1 + 1 := hk
    show idW (if k = (sId s).1 then fun t => (φ t).num else (sId s).2 k) ∧ (∃ t, t < 455 ∧ (if k = (sId s).1 then fun t => (φ t).num else (sId s).2 k) t ≠ 0) ∧ ∀ t, 455 ≤ t → (if k = (sId s).1 then fun t => (φ t).num else (sId s).2 k) t = 0
    by_cases e : k = (sId s).1
    · rw [if_pos e]
      refine ⟨⟨fun t ht => (q5 t ht).2, fun t ht h0 => ?_⟩, ?_, fun t ht => ?_⟩
      · have hp : φ t ≠ 0 := fun y => h0 (by show (φ t).num = 0; rw [y]; rfl)
        rcases degI_law (φ := φ) 455 with ⟨-, y⟩ | ⟨-, y⟩
        · exact absurd (y t ht) hp
        · have := y t ht hp; omega
      · refine Classical.byContradiction fun c => q2 ((pcnt_z1 455).mpr fun t ht => Classical.byContradiction fun y => c ⟨t, ht, fun y2 => y (Rat.num_eq_zero.mp y2)⟩)
      · show (φ t).num = 0
        rw [hφ.2 t ht]; rfl
    · rw [if_neg e]; exact w4' k (by omega)
theorem cw_span {x d : Int} (hW : crW N s) (h : oSpan x d s s' v) : crW (N + 1) s' := hW.rR (foN_le (lk7 s x 2) (by split <;> omega)) h fun z q => by
  obtain ⟨c, g, st, σ, q1, q2, q3, q4, q5⟩ := q
  rw [q4]
  obtain ⟨z1, z2⟩ := foN_0.mp z
  have hd : 0 ≤ d ∧ d ≤ 4 := Classical.byContradiction fun c => by rw [if_neg c] at z2; exact absurd z2 (by decide)
  obtain ⟨p, c', g', hp, hp16, ht'⟩ := lk2 z1
  rw [hp, show ((p : Nat) : Int).toNat = p by omega] at q1
  have hw := hW.1 p hp16
  rw [q1] at hw
  obtain ⟨w1, w2, w3, w4, w5, w6, w7, w8⟩ := hW.mono (Nat.le_succ N)
  refine ⟨w1, w2, w3, w4, w5, w6, fun y hy => ?_, w8⟩
  have hy : some (((c, g, d.toNat), sId s, st, cutN σ st.1) : Spn) = some y := hy
  rw [← Option.some.inj hy]
  refine ⟨hw.1, hw.2, by show d.toNat ≤ 4; omega, hW.2.2.2.1.1, ?_, q3.cut⟩
  show spR c g (sId s).2 ((d.toNat : Nat) : Int) (sId s).1 st
  rw [show ((d.toNat : Nat) : Int) = d by omega]
  exact q2
theorem cw_element {k x : Int} (hW : crW N s) (hM : moI S D M s') (h : oElement k x s s' v) : crW (N + 1) s' := hW.rR (gl7 x) h fun z q => by
  rcases q with ⟨o, m, st, σ, q1, q2, q3, q4, q5⟩ | ⟨q1, q2⟩
  · rw [q4] at hM ⊢; exact cwpy hW hM z
  · exact hW.fR (by decide) q2
theorem cw_closed (hW : crW N s) (h : oClosed s s' v) : crW (N + 1) s' := by
  rcases h with ⟨q1, q2⟩ | ⟨c, g, d, m, st, σ, q1, r, μ, v0, q2, q3, ⟨q4, q5⟩ | ⟨q4, q5, q6⟩⟩
  · exact hW.fR (by decide) q2
  · exact hW.fR (by decide) q5
  · exact hW.same q5
theorem cw_without {x : Int} (hW : crW N s) (h : oWithout x s s' v) : crW (N + 1) s' := by
  rcases h with ⟨q1, q2⟩ | ⟨o, m, st, σ, q1, ⟨q2, q3⟩ | ⟨q2, q3, q4⟩⟩
  · exact hW.fR (by decide) q2
  · exact hW.fR (by decide) q3
  · exact hW.same q3
theorem cw_many (hW : crW N s) (h : oMany s s' v) : crW (N + 1) s' := by
  rcases h with ⟨q1, q2⟩ | ⟨o, m, st, σ, q1, ⟨q2, q3⟩ | ⟨q2, q3, q4⟩⟩
  · exact hW.fR (by decide) q2
  · exact hW.fR (by decide) q3
  · exact hW.same q3
theorem cw_member {x : Int} (hW : crW N s) (hM : moI S D M s') (h : oMember x s s' v) : crW (N + 1) s' := hW.rR (lk7 s x 1) h fun z q => by
  obtain ⟨φ, q1, ⟨q2, q3⟩ | ⟨c, g, d, m, I, st, σ, q2, ⟨q3, q4⟩ | ⟨q3, q4, ⟨q5, q6, q7⟩ | ⟨q5, q6, q7⟩⟩⟩⟩ := q
  · exact hW.fR (by decide) q3
  · exact hW.fR (by decide) q4
  · rw [q6] at hM ⊢
    have hs := hW.2.2.2.2.2.2.1 _ q2
    have hm : m ≤ 4 := hs.2.2.2.1
    exact hW.qt hM (by show m ≤ 6; omega)
  · rw [q6] at hM ⊢
    exact hW.qt hM (Nat.zero_le _)
theorem cw_quotient {k x : Int} (hW : crW N s) (hM : moI S D M s') (h : oQuotient k x s s' v) : crW (N + 1) s' := hW.rR (gl7 x) h fun z q => by
  rcases q with ⟨q1, q2, q3, q4⟩ | ⟨q1, q2⟩
  · rw [q3] at hM ⊢; exact cwpy hW hM z
  · exact hW.fR (by decide) q2
theorem cw_rest {x : Int} (hW : crW N s) (hM : moI S D M s') (h : oRest x s s' v) : crW (N + 1) s' := hW.rR (gl7 x) h fun z q => by
  rcases q with ⟨ρ, q1, q2, q3⟩ | ⟨q1, q2⟩
  · rw [q2] at hM ⊢; exact cwpy hW hM z
  · exact hW.fR (by decide) q2
theorem cw_roots {x : Int} (hW : crW N s) (h : oRootsW x s s' v) : crW (N + 1) s' := by
  obtain ⟨h, h2⟩ := h
  refine hW.rR (lk7 s x 1) h fun z q => ?_
  have up : ∀ y, crW (N + 1) (uRo s y) ↔ roW y := fun y => by
    obtain ⟨w1, w2, w3, w4, w5, w6, w7, w8, w9⟩ := hW.mono (Nat.le_succ N)
    refine ⟨fun hh => hh.2.2.2.2.2.2.2.1 y rfl, fun hh => ⟨w1, w2, w3, w4, w5, w6, w7, fun y' hy' => ?_, w9⟩⟩
    have hy' : some y = some y' := hy'
    rw [← Option.some.inj hy']; exact hh
  obtain ⟨φ, q1, ⟨q2, q3⟩ | ⟨q2, q3, q4⟩ | ⟨q2, q3, f, d, q4, ⟨q5, q6, q7⟩ | ⟨q5, q6, q7⟩⟩⟩ := q
  · exact hW.fR (by decide) q3
  · exact hW.fR (by decide) q4
  · rw [q6] at h2 ⊢
    exact (up _).mpr (h2 _ rfl)
  · rw [q6] at h2 ⊢
    exact (up _).mpr (h2 _ rfl)
theorem cw_root {k x : Int} (hW : crW N s) (h : oRoot k x s s' v) : crW (N + 1) s' := hW.rR (gl7 x) h fun z q => by
  rcases q with ⟨y, L, h, w, q1, q2, q3, q4, q5⟩ | ⟨q1, q2⟩
  · rw [q4]
    refine (hW.uTh ?_).mono (Nat.le_succ _)
    have hm := List.mem_of_getElem? q3
    rcases hW.2.2.2.2.2.2.2.1 _ q1 with e | ⟨r1, r2, r3⟩
    · have e : L = [] := e
      rw [e] at hm; exact absurd hm (by simp)
    · obtain ⟨a1, a2, a3, a4⟩ := r3 h w hm
      exact ⟨r1, a2, a3, a4, a1, Nat.zero_le _⟩
  · exact hW.fR (by decide) q2
theorem cw_narrow {x : Int} (hW : crW N s) (h : oNarrow x s s' v) : crW (N + 1) s' := hW.rR (lk7 s x 3) h fun z q => by
  obtain ⟨y, h, w, n, q1, ⟨q2, q3⟩ | ⟨q2, q3, q4⟩⟩ := q
  · exact hW.fR (by decide) q3
  · rw [q3]
    refine (hW.uTh ?_).mono (Nat.le_succ _)
    obtain ⟨p, r, hp, hp16, ht⟩ := lk3 z
    rw [hp, show ((p : Nat) : Int).toNat = p by omega] at q1
    have hw := hW.1 p hp16
    rw [q1] at hw
    obtain ⟨y1, y2, y3, y4, y5, y6⟩ := hw
    have y2 : 0 ≤ w := y2
    have y3 : w < ((2 ^ h : Nat) : Int) := y3
    have y4 : nR (zp y.1 (y.2 + 1)) h w = 1 := y4
    have y5 : h ≤ 389 + n := y5
    have gd := y1.2.2.2.2.2
    have gd : gdN (nR (zp y.1 (y.2 + 1))) := gd
    have e : ((2 ^ (h + 1) : Nat) : Int) = 2 * ((2 ^ h : Nat) : Int) := by rw [Nat.pow_succ]; omega
    have s1 := gd.2.1 h w
    have s2 := gd.1 (h + 1) (2 * w) (by omega) (by rw [e]; omega)
    have s3 := gd.1 (h + 1) (2 * w + 1) (by omega) (by rw [e]; omega)
    by_cases hz : nR (zp y.1 (y.2 + 1)) (h + 1) (2 * w) = 1
    · rw [if_pos hz]
      refine ⟨y1, by show 0 ≤ 2 * w + 0; omega, by show 2 * w + 0 < ((2 ^ (h + 1) : Nat) : Int); omega, by show nR (zp y.1 (y.2 + 1)) (h + 1) (2 * w + 0) = 1; rw [Int.add_zero]; exact hz, by show h + 1 ≤ 389 + (n + 1); omega, by show n + 1 ≤ 60; omega⟩
    · rw [if_neg hz]
      refine ⟨y1, by show 0 ≤ 2 * w + 1; omega, by show 2 * w + 1 < ((2 ^ (h + 1) : Nat) : Int); omega, by show nR (zp y.1 (y.2 + 1)) (h + 1) (2 * w + 1) = 1; omega, by show h + 1 ≤ 389 + (n + 1); omega, by show n + 1 ≤ 60; omega⟩
theorem cw_sign {sg : pf → pf → Rat → Rat → Int → Prop} {x y : Int} (hW : crW N s) (h : oSign sg x y s s' v) : crW (N + 1) s' := hW.rR (foN_le (lk7 s x 1) (lk7 s y 3)) h fun z q => by
  obtain ⟨φ, f, d, h, w, n, q1, q2, ⟨q3, q4, q5⟩ | ⟨q3, q4, q5⟩ | ⟨q3, q4, q5, q6⟩⟩ := q
  · exact hW.same q4
  · exact hW.fR (by decide) q5
  · exact hW.same q5
theorem cw_same {x y : Int} (hW : crW N s) (h : oSame x y s s' v) : crW (N + 1) s' := hW.rR (foN_le (lk7 s x 0) (lk7 s y 0)) h fun z q => hW.same q.1
theorem cw_kind {x : Int} (hW : crW N s) (h : oKind x s s' v) : crW (N + 1) s' := hW.rR (lk7 s x 0) h fun z q => hW.same q.1
theorem cw_put {x y : Int} (hW : crW N s) (h : oPut x y s s' v) : crW (N + 1) s' := hW.rR (foN_le (lk7 s x 0) (gl7 y)) h fun z q => by
  rw [q.1]
  obtain ⟨p, hp, hp16, -⟩ := lk_in (foN_0.mp z).1
  refine (hW.uTh ?_).mono (Nat.le_succ _)
  rw [hp, show ((p : Nat) : Int).toNat = p by omega]
  exact hW.1 p hp16
theorem cw_gone {x : Int} (hW : crW N s) (h : oGone x s s' v) : crW (N + 1) s' := hW.rR (gl7 x) h fun z q => by
  rw [q.1]
  exact (hW.uTh (x := none) trivial).mono (Nat.le_succ _)
theorem cw_keep {x : Int} (hW : crW N s) (h : oKeep x s s' v) : crW (N + 1) s' := hW.rR (foN_le (gl7 x) (by split <;> omega)) h fun z q => by
  rw [q.1]
  have z2 := (foN_0.mp z).2
  have h0 : (sFn s).1 ≠ 0 := fun c => by rw [if_pos c] at z2; exact absurd z2 (by decide)
  have h7 := hW.2.1.1
  exact (hW.uTh (x := some (.inr (.inr (.inr (sFn s).1)))) (show 1 ≤ (sFn s).1 ∧ (sFn s).1 ≤ 7 by omega)).mono (Nat.le_succ _)
theorem cw_raise {x : Int} (hW : crW N s) (h : oRaise x s s' v) : crW (N + 1) s' := hW.rR (lk7 s x 4) h fun z q => hW.same q.1
theorem cw_found {x : Int} (hW : crW N s) (h : oFound x s s' v) : crW (N + 1) s' := hW.rR (by split <;> omega) h fun z q => hW.same q.1
theorem cw_write {x y : Int} (hW : crW N s) (h : oWrite x y s s' v) : crW (N + 1) s' := hW.rR (by have := wrF_le s x y; omega) h fun z q => by
  obtain ⟨L, q1, q2, q3, q4⟩ := q
  rw [q3]
  obtain ⟨w1, w2, w3, w4, w5, w6, w7, w8, w9⟩ := hW.mono (Nat.le_succ N)
  exact ⟨w1, w2, w3, w4, w5, w6, w7, w8, q2⟩
end CRW
