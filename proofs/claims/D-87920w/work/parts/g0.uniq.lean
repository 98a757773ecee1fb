/-! each call's answer is one -/
-- needs: fv.csgn ep.mclo2 et.mwrite
set_option maxRecDepth 100000
set_option linter.unusedVariables false
section UNI
variable {s s1 s2 : Cst} {v1 v2 : Int} {N : Nat}
theorem uq_order {x k n : Int} (h1 : oOrder x k n s s1 v1) (h2 : oOrder x k n s s2 v2) : s1 = s2 ∧ v1 = v2 := h1.uniq h2 fun _ _ _ _ a b => ⟨a.2.trans b.2.symm, a.1.trans b.1.symm⟩
theorem uq_zero {x : Int} (h1 : oZero x s s1 v1) (h2 : oZero x s s2 v2) : s1 = s2 ∧ v1 = v2 := h1.uniq h2 fun _ _ _ _ a b => ⟨a.2.trans b.2.symm, a.1.trans b.1.symm⟩
theorem uq_term {x a b k : Int} (h1 : oTerm x a b k s s1 v1) (h2 : oTerm x a b k s s2 v2) : s1 = s2 ∧ v1 = v2 := h1.uniq h2 fun _ _ _ _ a b => by
  obtain ⟨φ, t, a1, a2, a3, a4⟩ := a
  obtain ⟨ψ, u, b1, b2, b3, b4⟩ := b
  have := a1.symm.trans b1
  cases this
  have := tcode_inj a2 b2 (a3.trans b3.symm)
  subst this
  exact a4.uniq b4
theorem uq_sum {sg x y z : Int} (h1 : oSum sg x y z s s1 v1) (h2 : oSum sg x y z s s2 v2) : s1 = s2 ∧ v1 = v2 := h1.uniq h2 fun _ _ _ _ a b => by
  obtain ⟨φ, ψ, a1, a2, a3⟩ := a
  obtain ⟨φ', ψ', b1, b2, b3⟩ := b
  have := a1.symm.trans b1
  cases this
  have := a2.symm.trans b2
  cases this
  exact a3.uniq b3
theorem uq_times {x y z : Int} (h1 : oTimes x y z s s1 v1) (h2 : oTimes x y z s s2 v2) : s1 = s2 ∧ v1 = v2 := h1.uniq h2 fun _ _ _ _ a b => by
  obtain ⟨φ, ψ, a1, a2, a3⟩ := a
  obtain ⟨φ', ψ', b1, b2, b3⟩ := b
  have := a1.symm.trans b1
  cases this
  have := a2.symm.trans b2
  cases this
  exact a3.uniq b3
theorem uq_part {x y a n : Int} (h1 : oPart x y a n s s1 v1) (h2 : oPart x y a n s s2 v2) : s1 = s2 ∧ v1 = v2 := h1.uniq h2 fun _ _ _ _ a b => by
  obtain ⟨φ, a1, a2⟩ := a
  obtain ⟨φ', b1, b2⟩ := b
  have := a1.symm.trans b1
  cases this
  rcases a2 with ⟨a3, a4, a5, a6⟩ | ⟨a3, a4⟩ <;> rcases b2 with ⟨b3, b4, b5, b6⟩ | ⟨b3, b4⟩
  · exact ⟨a5.trans b5.symm, a6.trans b6.symm⟩
  · exact absurd ⟨a3, a4⟩ b3
  · exact absurd ⟨b3, b4⟩ a3
  · exact a4.uniq b4
theorem uq_size {x d : Int} (h1 : oSize x d s s1 v1) (h2 : oSize x d s s2 v2) : s1 = s2 ∧ v1 = v2 := h1.uniq h2 fun _ _ _ _ a b => by
  obtain ⟨φ, a1, a2⟩ := a
  obtain ⟨φ', b1, b2⟩ := b
  have := a1.symm.trans b1
  cases this
  rcases a2 with ⟨a3, a4, a5⟩ | ⟨a3, a4, a5⟩ | ⟨a3, a4, a5, a6⟩ <;> rcases b2 with ⟨b3, b4, b5⟩ | ⟨b3, b4, b5⟩ | ⟨b3, b4, b5, b6⟩
  · exact ⟨a4.trans b4.symm, a5.trans b5.symm⟩
  · exact absurd a3 b3
  · exact absurd a3 b3
  · exact absurd b3 a3
  · exact a5.uniq b5
  · exact absurd a4 b4
  · exact absurd b3 a3
  · exact absurd b4 a4
  · exact ⟨a5.trans b5.symm, a6.trans b6.symm⟩
theorem uq_lead {x y : Int} (hW : crW N s) (h1 : oLead x y s s1 v1) (h2 : oLead x y s s2 v2) : s1 = s2 ∧ v1 = v2 := by
  rcases Nat.decEq (foN (lkN s x 1) (lkN s y 2)) 0 with z | z
  · rcases h1 with ⟨a, b, c⟩ | ⟨a, b⟩
    · rcases h2 with ⟨a', b', c'⟩ | ⟨a', b'⟩
      · exact ⟨c.trans c'.symm, b.trans b'.symm⟩
      · exact absurd a' a
    · exact absurd a z
  · obtain ⟨p, c, g, hp, hp16, ht⟩ := lk2 (foN_0.mp z).2
    have hw := hW.1 p hp16
    rw [ht] at hw
    refine h1.uniq h2 fun _ _ _ _ a b => ?_
    obtain ⟨φ, c1, g1, a1, a2, a3⟩ := a
    obtain ⟨φ', c2, g2, b1, b2, b3⟩ := b
    have := a1.symm.trans b1
    cases this
    have := a2.symm.trans b2
    cases this
    rw [hp, show ((p : Nat) : Int).toNat = p by omega] at a2
    have := a2.symm.trans ht
    cases this
    rcases a3 with ⟨a3, a4⟩ | ⟨a3, a4, t, a5, a6⟩ <;> rcases b3 with ⟨b3, b4⟩ | ⟨b3, b4, u, b5, b6⟩
    · exact a4.uniq b4
    · exact absurd a3 b3
    · exact absurd b3 a3
    · have := a5.uniq hw.1 b5
      subst this
      exact ⟨a4.trans b4.symm, a6.trans b6.symm⟩
theorem uq_letter {x : Int} (h1 : oLetter x s s1 v1) (h2 : oLetter x s s2 v2) : s1 = s2 ∧ v1 = v2 := by
  rcases h1 with ⟨a1, a2, a3, a4⟩ | ⟨a1, a2⟩ <;> rcases h2 with ⟨b1, b2, b3, b4⟩ | ⟨b1, b2⟩
  · exact ⟨a3.trans b3.symm, a4.trans b4.symm⟩
  · exact absurd ⟨a1, a2⟩ b1
  · exact absurd ⟨b1, b2⟩ a1
  · exact a2.uniq b2
theorem uq_row {x : Int} (h1 : oRow x s s1 v1) (h2 : oRow x s s2 v2) : s1 = s2 ∧ v1 = v2 := h1.uniq h2 fun _ _ _ _ a b => by
  obtain ⟨φ, a1, a2⟩ := a
  obtain ⟨φ', b1, b2⟩ := b
  have := a1.symm.trans b1
  cases this
  rcases a2 with ⟨a3, a4, a5⟩ | ⟨a3, a4⟩ <;> rcases b2 with ⟨b3, b4, b5⟩ | ⟨b3, b4⟩
  · exact ⟨a4.trans b4.symm, a5.trans b5.symm⟩
  · exact absurd a3 b3
  · exact absurd b3 a3
  · exact a4.uniq b4
theorem uq_unrow (h1 : oUnrow s s1 v1) (h2 : oUnrow s s2 v2) : s1 = s2 ∧ v1 = v2 := ⟨h1.1.trans h2.1.symm, h1.2.trans h2.2.symm⟩
theorem uq_unideal (h1 : oUnideal s s1 v1) (h2 : oUnideal s s2 v2) : s1 = s2 ∧ v1 = v2 := ⟨h1.1.trans h2.1.symm, h1.2.trans h2.2.symm⟩
theorem rR.uniqI {f : Nat} {Q Q' : Cst → Int → Prop} (h1 : rR f Q s s1 v1) (h2 : rR f Q' s s2 v2) (hq : f = 0 → ∀ s1 v1 s2 v2, Q s1 v1 → Q' s2 v2 → s1 = s2 ∧ v1 = v2) : s1 = s2 ∧ v1 = v2 := by
  rcases h1 with ⟨a, b, c⟩ | ⟨a, b⟩ <;> rcases h2 with ⟨a', b', c'⟩ | ⟨a', b'⟩
  · exact ⟨c.trans c'.symm, b.trans b'.symm⟩
  · exact absurd a' a
  · exact absurd a a'
  · exact hq a _ _ _ _ b b'
theorem lk2W {x : Int} (hW : crW N s) (h : lkN s x 2 = 0) {c g : Nat} (ht : sTh s x.toNat = some (.inr (.inl (c, g)))) : ordOK c g := by
  obtain ⟨p, c', g', hp, hp16, ht'⟩ := lk2 h
  rw [hp, show ((p : Nat) : Int).toNat = p by omega] at ht
  have hw := hW.1 p hp16
  rw [ht] at hw
  exact hw.1
theorem uq_divide {x y : Int} (hW : crW N s) (h1 : oDivide x y s s1 v1) (h2 : oDivide x y s s2 v2) : s1 = s2 ∧ v1 = v2 := rR.uniqI h1 h2 fun z _ _ _ _ a b => by
  obtain ⟨φ, c1, g1, a1, a2, n, r, a3, a4⟩ := a
  obtain ⟨φ', c2, g2, b1, b2, m, r', b3, b4⟩ := b
  have := a1.symm.trans b1
  cases this
  have := a2.symm.trans b2
  cases this
  have hr := dvR.uniq (lk2W hW (foN_0.mp z).2 a2) _ _ _ _ _ a3 b3
  subst hr
  rcases a4 with ⟨a4, a5⟩ | ⟨st, a4, a5, a6⟩ <;> rcases b4 with ⟨b4, b5⟩ | ⟨st', b4, b5, b6⟩
  · exact a5.uniq b5
  · rw [a4] at b4; exact nomatch b4
  · rw [a4] at b4; exact nomatch b4
  · rw [a4] at b4
    have := Option.some.inj b4
    subst this
    exact ⟨a5.trans b5.symm, a6.trans b6.symm⟩
theorem uq_ideal {x : Int} (h1 : oIdeal x s s1 v1) (h2 : oIdeal x s s2 v2) : s1 = s2 ∧ v1 = v2 := h1.uniq h2 fun _ _ _ _ a b => by
  obtain ⟨φ, a1, a2⟩ := a
  obtain ⟨φ', b1, b2⟩ := b
  have := a1.symm.trans b1
  cases this
  rcases a2 with ⟨a3, a4⟩ | ⟨a3, a4, a5⟩ | ⟨a3, a4, a5, a6, a7, a8, a9⟩ <;> rcases b2 with ⟨b3, b4⟩ | ⟨b3, b4, b5⟩ | ⟨b3, b4, b5, b6, b7, b8, b9⟩
  · exact a4.uniq b4
  · exact absurd a3 b3
  · exact absurd a3 b3
  · exact absurd b3 a3
  · exact a5.uniq b5
  · exact absurd ⟨b4, b5, b6, b7⟩ a4
  · exact absurd b3 a3
  · exact absurd ⟨a4, a5, a6, a7⟩ b4
  · exact ⟨a8.trans b8.symm, a9.trans b9.symm⟩
theorem uq_span {x d : Int} (hW : crW N s) (h1 : oSpan x d s s1 v1) (h2 : oSpan x d s s2 v2) : s1 = s2 ∧ v1 = v2 := rR.uniqI h1 h2 fun z _ _ _ _ a b => by
  obtain ⟨c1, g1, st, σ, a1, a2, a3, a4, a5⟩ := a
  obtain ⟨c2, g2, st', σ', b1, b2, b3, b4, b5⟩ := b
  have := a1.symm.trans b1
  cases this
  have ho := lk2W hW (foN_0.mp z).1 a1
  have := spR.uniq ho _ _ _ a2 b2
  subst this
  have hc : cutN σ st.1 = cutN σ' st.1 := by
    funext i
    unfold cutN
    split
    · rename_i hi; exact spSo.uniq ho a3 b3 (i + 1) i (by omega) hi
    · rfl
  rw [hc] at a4
  exact ⟨a4.trans b4.symm, a5.trans b5.symm⟩
theorem uq_element {k x : Int} (h1 : oElement k x s s1 v1) (h2 : oElement k x s s2 v2) : s1 = s2 ∧ v1 = v2 := h1.uniq h2 fun _ _ _ _ a b => by
  rcases a with ⟨o, m, st, σ, a1, a2, a3, a4, a5⟩ | ⟨a1, a2⟩ <;> rcases b with ⟨o', m', st', σ', b1, b2, b3, b4, b5⟩ | ⟨b1, b2⟩
  · have := a1.symm.trans b1
    cases this
    exact ⟨a4.trans b4.symm, a5.trans b5.symm⟩
  · exact absurd ⟨a2, a3⟩ (b1 _ _ _ _ a1)
  · exact absurd ⟨b2, b3⟩ (a1 _ _ _ _ b1)
  · exact a2.uniq b2
theorem uq_without {x : Int} (h1 : oWithout x s s1 v1) (h2 : oWithout x s s2 v2) : s1 = s2 ∧ v1 = v2 := by
  rcases h1 with ⟨a1, a2⟩ | ⟨o, m, st, σ, a1, a2⟩ <;> rcases h2 with ⟨b1, b2⟩ | ⟨o', m', st', σ', b1, b2⟩
  · exact a2.uniq b2
  · rw [a1] at b1; exact nomatch b1
  · rw [a1] at b1; exact nomatch b1
  · have := a1.symm.trans b1
    cases this
    rcases a2 with ⟨a3, a4⟩ | ⟨a3, a4, r, a5, a6⟩ <;> rcases b2 with ⟨b3, b4⟩ | ⟨b3, b4, r', b5, b6⟩
    · exact a4.uniq b4
    · exact absurd b3 a3
    · exact absurd a3 b3
    · have := isCnt.uniq _ _ _ a5 b5
      subst this
      exact ⟨a4.trans b4.symm, a6.trans b6.symm⟩
theorem uq_many (h1 : oMany s s1 v1) (h2 : oMany s s2 v2) : s1 = s2 ∧ v1 = v2 := by
  rcases h1 with ⟨a1, a2⟩ | ⟨o, m, st, σ, a1, a2⟩ <;> rcases h2 with ⟨b1, b2⟩ | ⟨o', m', st', σ', b1, b2⟩
  · exact a2.uniq b2
  · rw [a1] at b1; exact nomatch b1
  · rw [a1] at b1; exact nomatch b1
  · have := a1.symm.trans b1
    cases this
    rcases a2 with ⟨⟨l, l1, l2⟩, a4⟩ | ⟨a3, a4, r, a5, a6⟩ <;> rcases b2 with ⟨⟨k, k1, k2⟩, b4⟩ | ⟨b3, b4, r', b5, b6⟩
    · exact a4.uniq b4
    · exact absurd l2 (b3 l l1)
    · exact absurd k2 (a3 k k1)
    · have := isCnt.uniq _ _ _ a5 b5
      subst this
      exact ⟨a4.trans b4.symm, a6.trans b6.symm⟩
theorem uq_member {x : Int} (h1 : oMember x s s1 v1) (h2 : oMember x s s2 v2) : s1 = s2 ∧ v1 = v2 := h1.uniq h2 fun _ _ _ _ a b => by
  obtain ⟨φ, a1, a2⟩ := a
  obtain ⟨φ', b1, b2⟩ := b
  have := a1.symm.trans b1
  cases this
  rcases a2 with ⟨a3, a4⟩ | ⟨c, g, d, m, I, st, σ, a3, a4⟩ <;> rcases b2 with ⟨b3, b4⟩ | ⟨c', g', d', m', I', st', σ', b3, b4⟩
  · exact a4.uniq b4
  · rw [a3] at b3; exact nomatch b3
  · rw [a3] at b3; exact nomatch b3
  · have := a3.symm.trans b3
    cases this
    rcases a4 with ⟨a5, a6⟩ | ⟨a5, a6, ⟨a7, a8, a9⟩ | ⟨a7, a8, a9⟩⟩ <;> rcases b4 with ⟨b5, b6⟩ | ⟨b5, b6, ⟨b7, b8, b9⟩ | ⟨b7, b8, b9⟩⟩
    · exact a6.uniq b6
    · exact absurd ⟨b5, b6⟩ a5
    · exact absurd ⟨b5, b6⟩ a5
    · exact absurd ⟨a5, a6⟩ b5
    · exact ⟨a8.trans b8.symm, a9.trans b9.symm⟩
    · exact absurd a7 b7
    · exact absurd ⟨a5, a6⟩ b5
    · exact absurd b7 a7
    · exact ⟨a8.trans b8.symm, a9.trans b9.symm⟩
theorem uq_quotient {k x : Int} (h1 : oQuotient k x s s1 v1) (h2 : oQuotient k x s s2 v2) : s1 = s2 ∧ v1 = v2 := h1.uniq h2 fun _ _ _ _ a b => by
  rcases a with ⟨a1, a2, a3, a4⟩ | ⟨a1, a2⟩ <;> rcases b with ⟨b1, b2, b3, b4⟩ | ⟨b1, b2⟩
  · exact ⟨a3.trans b3.symm, a4.trans b4.symm⟩
  · exact absurd ⟨a1, a2⟩ b1
  · exact absurd ⟨b1, b2⟩ a1
  · exact a2.uniq b2
theorem uq_rest {x : Int} (h1 : oRest x s s1 v1) (h2 : oRest x s s2 v2) : s1 = s2 ∧ v1 = v2 := h1.uniq h2 fun _ _ _ _ a b => by
  rcases a with ⟨ρ, a1, a2, a3⟩ | ⟨a1, a2⟩ <;> rcases b with ⟨ρ', b1, b2, b3⟩ | ⟨b1, b2⟩
  · have := a1.symm.trans b1
    cases this
    exact ⟨a2.trans b2.symm, a3.trans b3.symm⟩
  · rw [a1] at b1; exact nomatch b1
  · rw [a1] at b1; exact nomatch b1
  · exact a2.uniq b2
theorem uq_roots {x : Int} (h1 : oRoots x s s1 v1) (h2 : oRoots x s s2 v2) : s1 = s2 ∧ v1 = v2 := h1.uniq h2 fun _ _ _ _ a b => by
  obtain ⟨φ, a1, a2⟩ := a
  obtain ⟨φ', b1, b2⟩ := b
  have := a1.symm.trans b1
  cases this
  rcases a2 with ⟨a3, a4⟩ | ⟨a3, a4, a5⟩ | ⟨a3, a4, f, d, a5, a6⟩ <;> rcases b2 with ⟨b3, b4⟩ | ⟨b3, b4, b5⟩ | ⟨b3, b4, f', d', b5, b6⟩
  · exact a4.uniq b4
  · exact absurd a3 b3
  · exact absurd a3 b3
  · exact absurd b3 a3
  · exact a5.uniq b5
  · exact absurd b4 a4
  · exact absurd b3 a3
  · exact absurd a4 b4
  · obtain ⟨e1, e2⟩ := a5.uniq b5
    have e2 : f = f' := funext e2
    subst e1; subst e2
    rcases a6 with ⟨a7, a8, a9⟩ | ⟨a7, a8, a9⟩ <;> rcases b6 with ⟨b7, b8, b9⟩ | ⟨b7, b8, b9⟩
    · exact ⟨a8.trans b8.symm, a9.trans b9.symm⟩
    · omega
    · omega
    · exact ⟨a8.trans b8.symm, a9.trans b9.symm⟩
theorem uq_root {k x : Int} (h1 : oRoot k x s s1 v1) (h2 : oRoot k x s s2 v2) : s1 = s2 ∧ v1 = v2 := h1.uniq h2 fun _ _ _ _ a b => by
  have aux : ∀ {L : List (Nat × Int)} {y : Nat × Int}, 0 ≤ k → L[k.toNat]? = some y → 0 ≤ k ∧ k < L.length := fun {L y} h0 he => ⟨h0, by
    have := (List.getElem?_eq_some_iff.mp he).1
    omega⟩
  rcases a with ⟨q, L, h, w, a1, a2, a3, a4, a5⟩ | ⟨a1, a2⟩ <;> rcases b with ⟨q', L', h', w', b1, b2, b3, b4, b5⟩ | ⟨b1, b2⟩
  · have := a1.symm.trans b1
    cases this
    have := a3.symm.trans b3
    cases this
    exact ⟨a4.trans b4.symm, a5.trans b5.symm⟩
  · exact absurd (aux a2 a3) (b1 _ _ a1)
  · exact absurd (aux b2 b3) (a1 _ _ b1)
  · exact a2.uniq b2
theorem uq_narrow {x : Int} (h1 : oNarrow x s s1 v1) (h2 : oNarrow x s s2 v2) : s1 = s2 ∧ v1 = v2 := h1.uniq h2 fun _ _ _ _ a b => by
  obtain ⟨q, h, w, n, a1, a2⟩ := a
  obtain ⟨q', h', w', n', b1, b2⟩ := b
  have := a1.symm.trans b1
  cases this
  rcases a2 with ⟨a3, a4⟩ | ⟨a3, a4, a5⟩ <;> rcases b2 with ⟨b3, b4⟩ | ⟨b3, b4, b5⟩
  · exact a4.uniq b4
  · exact absurd b3 a3
  · exact absurd a3 b3
  · exact ⟨a4.trans b4.symm, a5.trans b5.symm⟩
theorem uq_sign {x y : Int} (hW : crW N s) (h1 : oSign sgC x y s s1 v1) (h2 : oSign sgM x y s s2 v2) : s1 = s2 ∧ v1 = v2 := rR.uniqI h1 h2 fun z _ _ _ _ a b => by
  obtain ⟨φ, f, d, h, w, n, a1, a2, a3⟩ := a
  obtain ⟨φ', f', d', h', w', n', b1, b2, b3⟩ := b
  have := a1.symm.trans b1
  cases this
  have := a2.symm.trans b2
  cases this
  rcases a3 with ⟨a3, a4, a5⟩ | ⟨a3, a4, a5⟩ | ⟨a3, a4, a5, g, dq, τ, a6, a7, a8⟩ <;> rcases b3 with ⟨b3, b4, b5⟩ | ⟨b3, b4, b5⟩ | ⟨b3, b4, b5, g', dq', τ', b6, b7, b8⟩
  · exact ⟨a4.trans b4.symm, a5.trans b5.symm⟩
  · exact absurd a3 b3
  · exact absurd a3 b3
  · exact absurd b3 a3
  · exact a5.uniq b5
  · exact absurd b4 a4
  · exact absurd b3 a3
  · exact absurd a4 b4
  · obtain ⟨e1, e2⟩ := a6.uniq b6
    have e2 : g = g' := funext e2
    subst e1; subst e2
    obtain ⟨q, r, hq, hq16, hu⟩ := lk3 (foN_0.mp z).2
    rw [hq, show ((q : Nat) : Int).toNat = q by omega] at a2
    have hw := hW.1 q hq16
    rw [a2] at hw
    obtain ⟨y1, y7, y8, y9, y10, y11⟩ := hw
    have y7 : 0 ≤ w := y7
    have y8 : w < ((2 ^ h : Nat) : Int) := y8
    have y9 : nR (zp f (d + 1)) h w = 1 := y9
    have e := sg_uniq (zp_pp _ _) (rpt_iB y7 (by omega)) (rpt_iB (show 0 ≤ w + 1 by omega) (by omega)) (Rat.le_of_lt (rpt_ltE h w)) (by unfold nR at y9; omega) a7 b7
    subst e
    exact ⟨a5.trans b5.symm, a8.trans b8.symm⟩
theorem uq_same {x y : Int} (h1 : oSame x y s s1 v1) (h2 : oSame x y s s2 v2) : s1 = s2 ∧ v1 = v2 := h1.uniq h2 fun _ _ _ _ a b => by
  obtain ⟨a1, a2, a3⟩ := a
  obtain ⟨b1, b2, b3⟩ := b
  refine ⟨a1.trans b1.symm, ?_⟩
  rcases a2 with a2 | a2 <;> rcases b2 with b2 | b2
  · rw [a2, b2]
  · have := a3.mpr (b3.mp b2); omega
  · have := b3.mpr (a3.mp a2); omega
  · rw [a2, b2]
theorem uq_kind {x : Int} (h1 : oKind x s s1 v1) (h2 : oKind x s s2 v2) : s1 = s2 ∧ v1 = v2 := h1.uniq h2 fun _ _ _ _ a b => ⟨a.1.trans b.1.symm, a.2.trans b.2.symm⟩
theorem uq_put {x y : Int} (h1 : oPut x y s s1 v1) (h2 : oPut x y s s2 v2) : s1 = s2 ∧ v1 = v2 := h1.uniq h2 fun _ _ _ _ a b => ⟨a.1.trans b.1.symm, a.2.trans b.2.symm⟩
theorem uq_gone {x : Int} (h1 : oGone x s s1 v1) (h2 : oGone x s s2 v2) : s1 = s2 ∧ v1 = v2 := h1.uniq h2 fun _ _ _ _ a b => ⟨a.1.trans b.1.symm, a.2.trans b.2.symm⟩
theorem uq_keep {x : Int} (h1 : oKeep x s s1 v1) (h2 : oKeep x s s2 v2) : s1 = s2 ∧ v1 = v2 := h1.uniq h2 fun _ _ _ _ a b => ⟨a.1.trans b.1.symm, a.2.trans b.2.symm⟩
theorem uq_raise {x : Int} (h1 : oRaise x s s1 v1) (h2 : oRaise x s s2 v2) : s1 = s2 ∧ v1 = v2 := h1.uniq h2 fun _ _ _ _ a b => by
  obtain ⟨a1, k, a2, a3⟩ := a
  obtain ⟨b1, k', b2, b3⟩ := b
  have := a2.symm.trans b2
  cases this
  exact ⟨a1.trans b1.symm, a3.trans b3.symm⟩
theorem uq_found {x : Int} (h1 : oFound x s s1 v1) (h2 : oFound x s s2 v2) : s1 = s2 ∧ v1 = v2 := h1.uniq h2 fun _ _ _ _ a b => ⟨a.1.trans b.1.symm, a.2.trans b.2.symm⟩
theorem uq_write {x y : Int} (hW : crW N s) (h1 : oWrite x y s s1 v1) (h2 : oWrite x y s s2 v2) : s1 = s2 ∧ v1 = v2 := rR.uniqI h1 h2 fun z _ _ _ _ a b => by
  obtain ⟨L, a1, a2, a3, a4⟩ := a
  obtain ⟨L', b1, b2, b3, b4⟩ := b
  have hL : L = L' := by
    refine wrT.uniq (s := s) (o := y) (fun p c g hp ht => ?_) ?_ a1 b1
    · have hw := hW.1 p hp
      rw [ht] at hw
      exact hw.1
    · have z2 := (foN_0.mp z).2
      by_cases q : tkN (sTh s x.toNat) = 1
      · rw [if_pos q] at z2
        obtain ⟨p, c, g, hp, hp16, -⟩ := lk2 z2
        exact .inr (.inl (by omega))
      · refine .inr (.inr fun φ hφ => q (by rw [hφ]; rfl))
  subst hL
  exact ⟨a3.trans b3.symm, a4.trans b4.symm⟩
end UNI
