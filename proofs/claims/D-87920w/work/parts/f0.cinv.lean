/-! the component's statics and what stands in it -/
-- needs: e3.rel
set_option maxRecDepth 100000
set_option linter.unusedVariables false
theorem sqE.cgr {D D' : Dat} {q c g : Nat} {tc : Nat → Nat} {st : spst} {σ : Nat → Nat} (h : sqE D q c g tc st σ) (e : ∀ a i, (a = q ∧ i = 15) ∨ (q + 1 ≤ a ∧ a ≤ q + 3) ∨ (q + 11 ≤ a ∧ a ≤ q + 16) → D' a i = D a i) : sqE D' q c g tc st σ := by
  obtain ⟨h1, ⟨h2, h3⟩, d, P, cl, ⟨h4, h5, h6, h7, h8, h9, h10, h11⟩, h12, h13, h14⟩ := h
  refine ⟨h1, ⟨h2, fun i hi => ⟨by rw [e (q + 11) _ (by omega)]; exact (h3 i hi).1, by rw [e (q + 12) _ (by omega)]; exact (h3 i hi).2⟩⟩, d, P, cl, ⟨by rw [e q 15 (by omega)]; exact h4, h5, h6.cgr fun c i hc => e c i (by omega), h7, h8, fun r hr => ?_, h10, h11.congr fun i => e _ i (by omega)⟩, h12, fun i hi => ?_, h14⟩
  · obtain ⟨a1, a2, a3⟩ := h9 r hr
    exact ⟨by rw [e (q + 13) _ (by omega)]; exact a1, by rw [e (q + 15) _ (by omega)]; exact a2, by rw [e (q + 16) _ (by omega)]; exact a3⟩
  · exact ⟨by rw [e (q + 14) _ (by omega)]; exact (h13 i hi).1, (h13 i hi).2⟩
theorem sqE.cells {D : Dat} {q c g : Nat} {tc : Nat → Nat} {st : spst} {σ : Nat → Nat} (h : sqE D q c g tc st σ) : ∃ cl, sqC D q cl := by
  obtain ⟨h1, h2, d, P, cl, h4, h12⟩ := h
  exact ⟨cl, h4.2.2.2.2.2.2.2⟩
theorem sqE.rows {D : Dat} {q c g : Nat} {tc : Nat → Nat} {st : spst} {σ : Nat → Nat} (h : sqE D q c g tc st σ) : D q 15 = st.1 ∧ st.1 ≤ 35 := by
  obtain ⟨h1, h2, d, P, cl, h4, h12⟩ := h
  exact ⟨h4.1, h4.2.1⟩
def ordA (c g : Nat) : Nat := if c = 9 then 699 else if c = 10 then 701 else if c = 11 then 702 else if g = 1 then 703 else 704
theorem ordA_in (c g : Nat) : 699 ≤ ordA c g ∧ ordA c g ≤ 704 ∧ ordA c g ≠ 700 := by
  unfold ordA
  split <;> (try split) <;> (try split) <;> (try split) <;> omega
/-- which references move -/
def mvg (C a : Nat) (i : Int) : Prop := (a = C ∧ (i = 23 ∨ i = 24 ∨ i = 26 ∨ i = 27)) ∨ (a = C + 33 ∧ 7 ≤ i ∧ i ≤ 10) ∨ (a = C + 65 ∧ i = 18) ∨ a = C + 715 ∨ (C + 735 ≤ a ∧ a ≤ C + 750)
/-- all that never moves -/
def cfx (S : Stat) (C : Nat) : Prop := (flS S C fun k => C + 727 + k) ∧ (S.2.1 C 3 = some (C + 3) ∧ tS S (C + 3)) ∧ (S.2.1 C 4 = some (C + 22) ∧ rS S (C + 22)) ∧ (S.2.1 C 5 = some (C + 33) ∧ vS S (C + 33) (C + 3) (C + 22)) ∧ (S.2.1 C 6 = some (C + 65) ∧ sqS S (C + 65) (C + 3) (C + 22)) ∧ rtS S C ∧
  (S.2.1 C 9 = some (C + 665) ∧ qS S (C + 22) (C + 665)) ∧ (S.2.1 C 10 = some (C + 674) ∧ qS S (C + 22) (C + 674)) ∧ (S.2.1 C 11 = some (C + 683) ∧ qS S (C + 22) (C + 683)) ∧
  (S.2.1 C 15 = some (C + 698) ∧ S.1 (C + 698) = some (108, 16) ∧ ∀ p : Nat, p < 16 → S.2.1 (C + 698) p = some (C + 735 + p) ∧ S.1 (C + 735 + p) = some (15, 0)) ∧
  (S.2.1 C 16 = some (C + 699) ∧ S.2.1 C 17 = some (C + 700) ∧ S.1 (C + 700) = some (109, 5) ∧ S.2.1 (C + 700) 0 = some (C + 699) ∧ (∀ k : Nat, 1 ≤ k → k < 5 → S.2.1 (C + 700) k = some (C + 700 + k)) ∧ S.1 (C + 699) = some (9, 0) ∧ S.1 (C + 701) = some (10, 0) ∧ S.1 (C + 702) = some (11, 0) ∧ S.1 (C + 703) = some (12, 0) ∧ S.1 (C + 704) = some (12, 0) ∧ S.2.1 (C + 699) 0 = some (C + 3) ∧ ∀ k : Nat, 1 ≤ k → k < 5 → S.2.1 (C + 700 + k) 0 = some (C + 3)) ∧
  (S.2.1 C 18 = some (C + 705) ∧ pS S (C + 705)) ∧ (S.2.1 C 19 = some (C + 707) ∧ S.1 (C + 707) = some (107, 6) ∧ ∀ k : Nat, k < 6 → S.2.1 (C + 707) k = some (C + 751 + 6 * k) ∧ pS S (C + 751 + 6 * k)) ∧
  (S.2.1 C 21 = some (C + 708) ∧ S.1 (C + 708) = some (100, 1820)) ∧ (S.1 (C + 709) = some (107, 6) ∧ ∀ k : Nat, k < 6 → S.2.1 (C + 709) k = some (C + 753 + 6 * k) ∧ pS S (C + 753 + 6 * k)) ∧ (S.1 (C + 710) = some (107, 6) ∧ ∀ k : Nat, k < 6 → S.2.1 (C + 710) k = some (C + 755 + 6 * k) ∧ pS S (C + 755 + 6 * k)) ∧
  (pS S (C + 711) ∧ pS S (C + 713)) ∧ (S.2.1 C 29 = some (C + 715) ∧ S.1 (C + 715) = some (107, 15)) ∧ (S.2.1 C 35 = some (C + 723) ∧ S.1 (C + 723) = some (101, 20000))
section CFX
variable {S : Stat} {C : Nat}
theorem cfx.fl (h : cfx S C) : flS S C fun k => C + 727 + k := h.1
theorem cfx.o (h : cfx S C) : S.1 C = some (0, 0) := h.1.1
theorem cfx.T (h : cfx S C) : S.2.1 C 3 = some (C + 3) ∧ tS S (C + 3) := h.2.1
theorem cfx.R (h : cfx S C) : S.2.1 C 4 = some (C + 22) ∧ rS S (C + 22) := h.2.2.1
theorem cfx.V (h : cfx S C) : S.2.1 C 5 = some (C + 33) ∧ vS S (C + 33) (C + 3) (C + 22) := h.2.2.2.1
theorem cfx.Q (h : cfx S C) : S.2.1 C 6 = some (C + 65) ∧ sqS S (C + 65) (C + 3) (C + 22) := h.2.2.2.2.1
theorem cfx.rt (h : cfx S C) : rtS S C := h.2.2.2.2.2.1
theorem cfx.q9 (h : cfx S C) : S.2.1 C 9 = some (C + 665) ∧ qS S (C + 22) (C + 665) := h.2.2.2.2.2.2.1
theorem cfx.q10 (h : cfx S C) : S.2.1 C 10 = some (C + 674) ∧ qS S (C + 22) (C + 674) := h.2.2.2.2.2.2.2.1
theorem cfx.q11 (h : cfx S C) : S.2.1 C 11 = some (C + 683) ∧ qS S (C + 22) (C + 683) := h.2.2.2.2.2.2.2.2.1
theorem cfx.st (h : cfx S C) : S.2.1 C 15 = some (C + 698) ∧ S.1 (C + 698) = some (108, 16) ∧ ∀ p : Nat, p < 16 → S.2.1 (C + 698) p = some (C + 735 + p) ∧ S.1 (C + 735 + p) = some (15, 0) := h.2.2.2.2.2.2.2.2.2.1
theorem cfx.od (h : cfx S C) : S.2.1 C 16 = some (C + 699) ∧ S.2.1 C 17 = some (C + 700) ∧ S.1 (C + 700) = some (109, 5) ∧ S.2.1 (C + 700) 0 = some (C + 699) ∧ (∀ k : Nat, 1 ≤ k → k < 5 → S.2.1 (C + 700) k = some (C + 700 + k)) ∧ S.1 (C + 699) = some (9, 0) ∧ S.1 (C + 701) = some (10, 0) ∧ S.1 (C + 702) = some (11, 0) ∧ S.1 (C + 703) = some (12, 0) ∧ S.1 (C + 704) = some (12, 0) ∧ S.2.1 (C + 699) 0 = some (C + 3) ∧ ∀ k : Nat, 1 ≤ k → k < 5 → S.2.1 (C + 700 + k) 0 = some (C + 3) := h.2.2.2.2.2.2.2.2.2.2.1
theorem cfx.md (h : cfx S C) : S.2.1 C 18 = some (C + 705) ∧ pS S (C + 705) := h.2.2.2.2.2.2.2.2.2.2.2.1
theorem cfx.rw (h : cfx S C) : S.2.1 C 19 = some (C + 707) ∧ S.1 (C + 707) = some (107, 6) ∧ ∀ k : Nat, k < 6 → S.2.1 (C + 707) k = some (C + 751 + 6 * k) ∧ pS S (C + 751 + 6 * k) := h.2.2.2.2.2.2.2.2.2.2.2.2.1
theorem cfx.id (h : cfx S C) : S.2.1 C 21 = some (C + 708) ∧ S.1 (C + 708) = some (100, 1820) := h.2.2.2.2.2.2.2.2.2.2.2.2.2.1
theorem cfx.qa (h : cfx S C) : S.1 (C + 709) = some (107, 6) ∧ ∀ k : Nat, k < 6 → S.2.1 (C + 709) k = some (C + 753 + 6 * k) ∧ pS S (C + 753 + 6 * k) := h.2.2.2.2.2.2.2.2.2.2.2.2.2.2.1
theorem cfx.qb (h : cfx S C) : S.1 (C + 710) = some (107, 6) ∧ ∀ k : Nat, k < 6 → S.2.1 (C + 710) k = some (C + 755 + 6 * k) ∧ pS S (C + 755 + 6 * k) := h.2.2.2.2.2.2.2.2.2.2.2.2.2.2.2.1
theorem cfx.rs (h : cfx S C) : pS S (C + 711) ∧ pS S (C + 713) := h.2.2.2.2.2.2.2.2.2.2.2.2.2.2.2.2.1
theorem cfx.mn (h : cfx S C) : S.2.1 C 29 = some (C + 715) ∧ S.1 (C + 715) = some (107, 15) := h.2.2.2.2.2.2.2.2.2.2.2.2.2.2.2.2.2.1
theorem cfx.tx (h : cfx S C) : S.2.1 C 35 = some (C + 723) ∧ S.1 (C + 723) = some (101, 20000) := h.2.2.2.2.2.2.2.2.2.2.2.2.2.2.2.2.2.2
theorem chS.sq {S' : Stat} {b o : Nat} (h : chS S b o) (e : sEq S S' b 219) (e2 : sEq S S' o 10) : chS S' b o := by
  obtain ⟨h1, h2, h3, h4, h5, h6, h7, h8, h9, h10, h11, h12, h13, h14, h15, h16, h17, h18, h19, h20, h21⟩ := h
  refine ⟨h1.sq e2, by rw [(e b (by omega) (by omega)).1]; exact h2, by rw [(e b (by omega) (by omega)).2]; exact h3, by rw [(e b (by omega) (by omega)).2]; exact h4, by rw [(e (b + 1) (by omega) (by omega)).1]; exact h5, fun r hr => ⟨by rw [(e (b + 1) (by omega) (by omega)).2]; exact (h6 r hr).1, by rw [(e (b + 2 + r) (by omega) (by omega)).1]; exact (h6 r hr).2⟩, fun r k hr hk => ?_, by rw [(e b (by omega) (by omega)).2]; exact h8, by rw [(e (b + 12) (by omega) (by omega)).1]; exact h9, by rw [(e b (by omega) (by omega)).2]; exact h10, by rw [(e (b + 13) (by omega) (by omega)).1]; exact h11, fun k hk => ?_, by rw [(e b (by omega) (by omega)).2]; exact h13, h14.sq (e.sub (by omega) (by omega)), by rw [(e b (by omega) (by omega)).2]; exact h15, h16.sq (e.sub (by omega) (by omega)), by rw [(e b (by omega) (by omega)).2]; exact h17, h18.sq (e.sub (by omega) (by omega)), by rw [(e b (by omega) (by omega)).2]; exact h19, h20.sq (e.sub (by omega) (by omega)), h21⟩
  · obtain ⟨a1, a2⟩ := h7 r k hr hk
    have : b ≤ cw b r k ∧ cw b r k + 1 ≤ b + 219 := by unfold cw; omega
    exact ⟨by rw [(e (b + 2 + r) (by omega) (by omega)).2]; exact a1, a2.sq (e.sub (by omega) (by omega))⟩
  · obtain ⟨a1, a2⟩ := h12 k hk
    have : b ≤ clw b k ∧ clw b k + 1 ≤ b + 219 := by unfold clw; omega
    exact ⟨by rw [(e (b + 13) (by omega) (by omega)).2]; exact a1, a2.sq (e.sub (by omega) (by omega))⟩
theorem reS.sq {S' : Stat} {a : Nat} (h : reS S a) (e : sEq S S' a 3) : reS S' a := by
  obtain ⟨h1, h2, h3, h4, h5⟩ := h
  exact ⟨by rw [(e a (by omega) (by omega)).1]; exact h1, by rw [(e a (by omega) (by omega)).2]; exact h2, by rw [(e (a + 1) (by omega) (by omega)).1]; exact h3, by rw [(e a (by omega) (by omega)).2]; exact h4, h5.sq (e.sub (by omega) (by omega))⟩
theorem sqS.sq {S' : Stat} {q T o : Nat} (h : sqS S q T o) (e0 : S'.1 q = S.1 q) (e1 : ∀ i, i ≠ 18 → S'.2.1 q i = S.2.1 q i) (e : sEq S S' (q + 1) 158) : sqS S' q T o := by
  obtain ⟨h1, h2, h3, h4, h5, h6, h7, h8, h9, h10, h11, h12, h13, h14, h15, h16, h17, h18, h19, h20, h21, h22, h23, h24, h25, h26, h27, h28, h29, h30, h31, h32⟩ := h
  refine ⟨by rw [e0]; exact h1, by rw [e1 _ (by decide)]; exact h2, by rw [e1 _ (by decide)]; exact h3, by rw [e1 _ (by decide)]; exact h4, by rw [(e (q + 1) (by omega) (by omega)).1]; exact h5, by rw [e1 _ (by decide)]; exact h6, h7.sq (e.sub (by omega) (by omega)), by rw [e1 _ (by decide)]; exact h8, by rw [(e (q + 4) (by omega) (by omega)).1]; exact h9, by rw [e1 _ (by decide)]; exact h10, h11.sq (e.sub (by omega) (by omega)), by rw [e1 _ (by decide)]; exact h12, h13.sq (e.sub (by omega) (by omega)), by rw [e1 _ (by decide)]; exact h14, h15.sq (e.sub (by omega) (by omega)),
    by rw [e1 _ (by decide)]; exact h16, by rw [(e (q + 11) (by omega) (by omega)).1]; exact h17, by rw [e1 _ (by decide)]; exact h18, by rw [(e (q + 12) (by omega) (by omega)).1]; exact h19, by rw [e1 _ (by decide)]; exact h20, by rw [(e (q + 13) (by omega) (by omega)).1]; exact h21, by rw [e1 _ (by decide)]; exact h22, by rw [(e (q + 14) (by omega) (by omega)).1]; exact h23, by rw [e1 _ (by decide)]; exact h24, by rw [(e (q + 15) (by omega) (by omega)).1]; exact h25, by rw [e1 _ (by decide)]; exact h26, by rw [(e (q + 16) (by omega) (by omega)).1]; exact h27, by rw [e1 _ (by decide)]; exact h28, by rw [(e (q + 17) (by omega) (by omega)).1]; exact h29, by rw [e1 _ (by decide)]; exact h30, h31.sq (e.sub (by omega) (by omega)), fun c hc => ?_⟩
  exact ⟨by rw [(e (q + 4) (by omega) (by omega)).2]; exact (h32 c hc).1, (h32 c hc).2.sq (e.sub (by omega) (by omega))⟩
theorem cfx.cg {S' : Stat} (h : cfx S C) (e1 : ∀ a, a < C + 819 → S'.1 a = S.1 a) (e2 : ∀ a i, a < C + 819 → ¬ mvg C a i → S'.2.1 a i = S.2.1 a i) : cfx S' C := by
  have sE : ∀ a n, (C + 65 < a ∧ a + n < C + 715 ∨ C + 33 < a ∧ a + n < C + 65 ∨ C < a ∧ a + n < C + 33 ∨ C + 715 < a ∧ a + n < C + 735 ∨ C + 750 < a ∧ a + n < C + 819) → sEq S S' a n := fun a n q x y z => ⟨e1 x (by omega), fun i => e2 x i (by omega) (by unfold mvg; omega)⟩
  have eC : ∀ i : Int, ¬ (i = 23 ∨ i = 24 ∨ i = 26 ∨ i = 27) → S'.2.1 C i = S.2.1 C i := fun i hi => e2 C i (by omega) (by unfold mvg; omega)
  obtain ⟨h1, h2, h3, h4, h5, h6, h7, h8, h9, h10, h11, h12, h13, h14, h15, h16, h17, h18, h19⟩ := h
  obtain ⟨f1, f2, f3, f4, f5, f6⟩ := h1
  have f6 : ∀ k : Nat, 1 ≤ k → k < 8 → S.2.1 (C + 1) k = some (C + 727 + k) ∧ S.1 (C + 727 + k) = some (14, 0) := f6
  refine ⟨⟨by rw [e1 C (by omega)]; exact f1, by rw [eC _ (by omega)]; exact f2, by rw [e1 _ (by omega)]; exact f3, by rw [eC _ (by omega)]; exact f4, by rw [e1 _ (by omega)]; exact f5, fun k k1 k8 => ⟨by rw [e2 (C + 1) _ (by omega) (by unfold mvg; omega)]; exact (f6 k k1 k8).1, by show S'.1 (C + 727 + k) = _; rw [e1 _ (by omega)]; exact (f6 k k1 k8).2⟩⟩,
    ⟨by rw [eC _ (by omega)]; exact h2.1, h2.2.sq (sE _ _ (by omega))⟩, ⟨by rw [eC _ (by omega)]; exact h3.1, h3.2.sq (sE _ _ (by omega))⟩, ⟨by rw [eC _ (by omega)]; exact h4.1, h4.2.sq (e1 _ (by omega)) (fun i hi => e2 _ i (by omega) (by unfold mvg; omega)) (sE _ _ (by omega))⟩, ⟨by rw [eC _ (by omega)]; exact h5.1, h5.2.sq (e1 _ (by omega)) (fun i hi => e2 _ i (by omega) (by unfold mvg; omega)) (sE _ _ (by omega))⟩, ?_,
    ⟨by rw [eC _ (by omega)]; exact h7.1, h7.2.sq (sE _ _ (by omega))⟩, ⟨by rw [eC _ (by omega)]; exact h8.1, h8.2.sq (sE _ _ (by omega))⟩, ⟨by rw [eC _ (by omega)]; exact h9.1, h9.2.sq (sE _ _ (by omega))⟩,
    ⟨by rw [eC _ (by omega)]; exact h10.1, by rw [e1 _ (by omega)]; exact h10.2.1, fun p hp => ⟨by rw [e2 (C + 698) _ (by omega) (by unfold mvg; omega)]; exact (h10.2.2 p hp).1, by rw [e1 _ (by omega)]; exact (h10.2.2 p hp).2⟩⟩, ?_,
    ⟨by rw [eC _ (by omega)]; exact h12.1, h12.2.sq (sE _ _ (by omega))⟩, ⟨by rw [eC _ (by omega)]; exact h13.1, by rw [e1 _ (by omega)]; exact h13.2.1, fun k hk => ⟨by rw [e2 (C + 707) _ (by omega) (by unfold mvg; omega)]; exact (h13.2.2 k hk).1, (h13.2.2 k hk).2.sq (sE _ _ (by omega))⟩⟩, ⟨by rw [eC _ (by omega)]; exact h14.1, by rw [e1 _ (by omega)]; exact h14.2⟩,
    ⟨by rw [e1 _ (by omega)]; exact h15.1, fun k hk => ⟨by rw [e2 (C + 709) _ (by omega) (by unfold mvg; omega)]; exact (h15.2 k hk).1, (h15.2 k hk).2.sq (sE _ _ (by omega))⟩⟩, ⟨by rw [e1 _ (by omega)]; exact h16.1, fun k hk => ⟨by rw [e2 (C + 710) _ (by omega) (by unfold mvg; omega)]; exact (h16.2 k hk).1, (h16.2 k hk).2.sq (sE _ _ (by omega))⟩⟩, ⟨h17.1.sq (sE _ _ (by omega)), h17.2.sq (sE _ _ (by omega))⟩, ⟨by rw [eC _ (by omega)]; exact h18.1, by rw [e1 _ (by omega)]; exact h18.2⟩, ⟨by rw [eC _ (by omega)]; exact h19.1, by rw [e1 _ (by omega)]; exact h19.2⟩⟩
  · obtain ⟨r1, r2, r3, r4, r5, r6, r7, r8, r9, r10, r11, r12, r13, r14, r15, r16, r17, r18, r19, r20, r21, r22, r23, r24⟩ := h6
    exact ⟨by rw [e1 C (by omega)]; exact r1, by rw [eC _ (by omega)]; exact r2, r3.sq (sE _ _ (by omega)), by rw [eC _ (by omega)]; exact r4, r5.sq (sE _ _ (by omega)) (sE _ _ (by omega)), by rw [eC _ (by omega)]; exact r6, r7.sq (sE _ _ (by omega)) (sE _ _ (by omega)), by rw [eC _ (by omega)]; exact r8, r9.sq (sE _ _ (by omega)), by rw [eC _ (by omega)]; exact r10, r11.sq (sE _ _ (by omega)), by rw [eC _ (by omega)]; exact r12, r13.sq (sE _ _ (by omega)), by rw [eC _ (by omega)]; exact r14, r15.sq (sE _ _ (by omega)), by rw [eC _ (by omega)]; exact r16, r17.sq (sE _ _ (by omega)), by rw [eC _ (by omega)]; exact r18, by rw [e1 _ (by omega)]; exact r19, fun k hk => ⟨by rw [e2 (C + 718) _ (by omega) (by unfold mvg; omega)]; exact (r20 k hk).1, (r20 k hk).2.sq (sE _ _ (by omega))⟩, by rw [eC _ (by omega)]; exact r21, by rw [e1 _ (by omega)]; exact r22, by rw [eC _ (by omega)]; exact r23, by rw [e1 _ (by omega)]; exact r24⟩
  · obtain ⟨o1, o2, o3, o4, o5, o6, o7, o8, o9, o10, o11, o12⟩ := h11
    exact ⟨by rw [eC _ (by omega)]; exact o1, by rw [eC _ (by omega)]; exact o2, by rw [e1 _ (by omega)]; exact o3, by rw [e2 (C + 700) _ (by omega) (by unfold mvg; omega)]; exact o4, fun k k1 k2 => by rw [e2 (C + 700) _ (by omega) (by unfold mvg; omega)]; exact o5 k k1 k2, by rw [e1 _ (by omega)]; exact o6, by rw [e1 _ (by omega)]; exact o7, by rw [e1 _ (by omega)]; exact o8, by rw [e1 _ (by omega)]; exact o9, by rw [e1 _ (by omega)]; exact o10, by rw [e2 (C + 699) _ (by omega) (by unfold mvg; omega)]; exact o11, fun k k1 k2 => by rw [e2 (C + 700 + k) _ (by omega) (by unfold mvg; omega)]; exact o12 k k1 k2⟩
end CFX
