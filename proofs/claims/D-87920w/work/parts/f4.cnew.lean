/-! the component: things made late -/
-- needs: f3.chelp
set_option maxRecDepth 100000
set_option linter.unusedVariables false
section CNW
variable {S S' : Stat} {D D' : Dat} {C mn w N : Nat} {s : Cst} {lz : Nat → Option Nat} {own : Nat → Nat}
/-- what a call of the component may touch -/
def cFr (S : Stat) (D : Dat) (S' : Stat) (D' : Dat) (C : Nat) : Prop := S.2.2 ≤ S'.2.2 ∧ (∀ a, a < S.2.2 → S'.1 a = S.1 a) ∧ ∀ a i, C + 819 ≤ a → a < C + 28386 → S'.2.1 a i = S.2.1 a i ∧ D' a i = D a i
theorem cFr.rfl : cFr S D S D C := ⟨Nat.le_refl _, fun _ _ => Eq.refl _, fun _ _ _ _ => ⟨Eq.refl _, Eq.refl _⟩⟩
theorem cFr.tr {S1 S2 : Stat} {D1 D2 : Dat} (h1 : cFr S D S1 D1 C) (h2 : cFr S1 D1 S2 D2 C) : cFr S D S2 D2 C := ⟨Nat.le_trans h1.1 h2.1, fun a ha => by rw [h2.2.1 a (Nat.lt_of_lt_of_le ha h1.1), h1.2.1 a ha], fun a i c1 c2 => ⟨by rw [(h2.2.2 a i c1 c2).1, (h1.2.2 a i c1 c2).1], by rw [(h2.2.2 a i c1 c2).2, (h1.2.2 a i c1 c2).2]⟩⟩
theorem cSr.fr (h : cSr S S' C) (hn : C + 28386 ≤ S.2.2) (e : ∀ a i, C + 819 ≤ a → a < C + 28386 → D' a i = D a i) : cFr S D S' D' C := ⟨h.1, h.2.1, fun a i c1 c2 => ⟨h.2.2 a i (by omega) (by omega), e a i c1 c2⟩⟩
theorem thA_ext {lz' : Nat → Option Nat} {p : Nat} {t : Th} (e : ∀ j b, lz j = some b → lz' j = some b) (h : cTh D lz p t) : thA C lz' p t = thA C lz p t := by
  rcases t with _ | (φ | (o | (r | k)))
  · rfl
  · obtain ⟨a, h1, h2⟩ := h
    exact (e p a h1).trans h1.symm
  · rfl
  · obtain ⟨a, h1, h2⟩ := h
    exact (e _ a h1).trans h1.symm
  · rfl
theorem cTh.ext {lz' : Nat → Option Nat} {p : Nat} {t : Th} (e : ∀ j b, lz j = some b → lz' j = some b) (h : cTh D lz p t) : cTh D lz' p t := by
  rcases t with _ | (φ | (o | (r | k)))
  · trivial
  · obtain ⟨a, h1, h2⟩ := h
    exact ⟨a, e p a h1, h2⟩
  · trivial
  · obtain ⟨a, h1, h2⟩ := h
    exact ⟨a, e _ a h1, h2⟩
  · trivial
theorem lsz2 (i : Nat) : 2 ≤ lsz i ∧ lsz i ≤ 4 := by unfold lsz; split <;> omega
theorem coJ.newLz {i a ad : Nat} {k : Int} (h : coJ S D C s lz own mn w) (hW : crW N s) (hi : i < 47) (hl : lz i = none) (ha : S.2.2 ≤ a) (hn : a + lsz i ≤ S'.2.2) (h1 : ∀ c, c < S.2.2 → S'.1 c = S.1 c)
    (hk : (i < 16 ∧ ad = C + 735 + i ∧ k = 1) ∨ (16 ≤ i ∧ i < 32 ∧ ad = C + 735 + (i - 16) ∧ k = 2) ∨ (i = 32 + mn ∧ ad = C + 715 ∧ k = (mn : Nat))) (h2 : ∀ c j, c < S.2.2 → (c ≠ ad ∨ j ≠ k) → S'.2.1 c j = S.2.1 c j) (h3 : S'.2.1 ad k = some a) (h4 : 16 ≤ i ∧ i < 32 → reS S' a) (h4' : i < 16 ∨ 32 ≤ i → pS S' a ∧ ∃ φ, pP D' a φ) (h5 : ∀ c j, c < S.2.2 → D' c j = D c j) :
    coJ S' D' C s (fun j => if j = i then some a else lz j) (fun x => if S.2.2 ≤ x then i else own x) (if 32 ≤ i then mn + 1 else mn) w := by
  obtain ⟨g1, g2, g3, g4, g5, g6, g7, g8, g9, g10, g11, g12, g13, g14⟩ := h
  obtain ⟨m1, m2, m3, m4, m5, m6, m7, m8⟩ := g3
  have hC := g2.1
  have hs := lsz2 i
  have e : ∀ j b, lz j = some b → (fun j => if j = i then some a else lz j) j = some b := fun j b q => by
    show (if j = i then some a else lz j) = some b
    rw [if_neg (fun w => by rw [w, hl] at q; exact nomatch q)]; exact q
  have eD : ∀ c j, c < C + 28386 → D' c j = D c j := fun c j hc => h5 c j (by omega)
  have r : ∀ c j, c < C + 819 → (c ≠ ad ∨ j ≠ k) → S'.2.1 c j = S.2.1 c j := fun c j hc => h2 c j (by omega)
  refine ⟨g1.cg (fun c hc => h1 c (by omega)) fun c j hc hm => r c j hc (by unfold mvg at hm; omega), ⟨by omega, fun j b hj => ?_⟩, ⟨m1, by rw [r _ _ (by omega) (by omega)]; exact m2, by rw [r _ _ (by omega) (by omega)]; exact m3, by rw [r _ _ (by omega) (by omega)]; exact m4, by rw [r _ _ (by omega) (by omega)]; exact m5, fun p hp => ?_, ⟨?_, fun q hq => ?_⟩, fun c g d m st σ hx => by rw [r _ _ (by omega) (by omega)]; exact m8 c g d m st σ hx⟩, ⟨fun p hp => ?_, fun j b hj hjj => ?_⟩,
    g5.cgr fun c j q => eD c j (by unfold qFx at q; omega), g6.cgr fun c j q => eD c j (by unfold qFn at q; omega), g7.cgr hW.2.2.1.1 fun c j q => eD c j (by rcases q with q | ⟨z, z1, z2⟩ <;> omega), g8.cgr fun c j q => eD c j (by unfold qId at q; omega), g9.cgr hW.2.2.2.2.1.1 fun c j q => eD c j (by rcases q with q | ⟨z, z1, z2⟩ <;> omega), g10.cgr fun c j q => eD c j (by unfold qRs at q; omega), g11.cgr fun c j q => eD c j (by unfold qSp at q; omega), g12.cgr fun c j q => eD c j (by unfold qRo at q; omega), g13.cgr fun c j q => eD c j (by unfold qTx at q; omega), g14.cgr fun c j q => eD c j (by
      unfold qSc at q
      rcases q with q | q | q | q | q | ⟨z, z1, z2, z3⟩ <;> omega)⟩
  · have hj' : (if j = i then some a else lz j) = some b := hj
    rcases Nat.decEq j i with w1 | w1
    · rw [if_neg w1] at hj'
      obtain ⟨a1, a2, a3, a4, a5, a6⟩ := g2.2 j b hj'
      have hsj := lsz2 j
      have sE : sEq S S' b (lsz j - 1) := fun c c1 c2 => ⟨h1 c (by omega), fun z => h2 c z (by omega) (by omega)⟩
      refine ⟨a1, a2, by omega, fun x x1 x2 => ?_, fun q => (a5 q).sq ?_, fun q => (a6 q).sq ?_⟩
      · show (if S.2.2 ≤ x then i else own x) = j
        rw [if_neg (by omega)]; exact a4 x x1 x2
      · have : lsz j = 4 := by unfold lsz; rw [if_pos q]
        exact sE.sub (by omega) (by omega)
      · have : lsz j = 2 := by unfold lsz; rw [if_neg (by omega)]
        exact sE.sub (by omega) (by omega)
    · subst w1
      rw [if_pos rfl] at hj'
      have : a = b := Option.some.inj hj'
      subst this
      refine ⟨hi, by omega, hn, fun x x1 x2 => ?_, h4, fun q => (h4' q).1⟩
      show (if S.2.2 ≤ x then j else own x) = j
      rw [if_pos (by omega)]
  · obtain ⟨p1, p2, p3⟩ := m6 p hp
    refine ⟨?_, ?_, ?_⟩
    · rw [r _ _ (by omega) (by omega), p1, thA_ext e (g4.1 p hp)]
    · show _ = if p = i then some a else lz p
      rcases Nat.decEq p i with w1 | w1
      · rw [if_neg w1, r _ _ (by omega) (by omega)]; exact p2
      · subst w1
        rw [if_pos rfl]
        have : ad = C + 735 + p ∧ k = 1 := by omega
        rw [← this.1, ← this.2]; exact h3
    · show _ = if 16 + p = i then some a else lz (16 + p)
      rcases Nat.decEq (16 + p) i with w1 | w1
      · rw [if_neg w1, r _ _ (by omega) (by omega)]; exact p3
      · rw [if_pos w1]
        have : ad = C + 735 + p ∧ k = 2 := by omega
        rw [← this.1, ← this.2]; exact h3
  · split <;> omega
  · have b1 := (m7.2 q hq).1
    have b2 := (m7.2 q hq).2
    show _ = (if 32 + q = i then some a else lz (32 + q)) ∧ (q < _ ↔ (if 32 + q = i then some a else lz (32 + q)) ≠ none)
    rcases Nat.decEq (32 + q) i with w1 | w1
    · rw [if_neg w1, r _ _ (by omega) (by omega)]
      refine ⟨b1, ?_⟩
      rw [← b2]
      split <;> omega
    · rw [if_pos w1]
      have : ad = C + 715 ∧ k = (q : Nat) := by omega
      refine ⟨by rw [← this.1, ← this.2]; exact h3, fun _ => (fun z => nomatch z), fun _ => ?_⟩
      rw [if_pos (by omega)]; omega
  · refine ((g4.1 p hp).cgr (D' := D') fun c j b => ⟨fun q1 q2 => h5 c j ?_, fun q1 q2 q3 => h5 c j ?_⟩).ext e
    · have q4 := (g2.2 p b q1).2.2.1
      have : lsz p = 2 := by unfold lsz; rw [if_neg (by omega)]
      omega
    · have q4 := (g2.2 _ b q1).2.2.1
      have : lsz (16 + p) = 4 := by unfold lsz; rw [if_pos (by omega)]
      omega
  · have hj' : (if j = i then some a else lz j) = some b := hj
    rcases Nat.decEq j i with w1 | w1
    · rw [if_neg w1] at hj'
      obtain ⟨φ, hφ⟩ := g4.2 j b hj' hjj
      have := g2.2 j b hj'
      have hsj := lsz2 j
      exact ⟨φ, hφ.cgr fun c z hc => h5 c z (by omega)⟩
    · subst w1
      rw [if_pos rfl] at hj'
      have : a = b := Option.some.inj hj'
      subst this
      exact (h4' hjj).2
/-- a thing made late changes -/
theorem coJ.chLz {i a : Nat} {t : Nat → Th} (h : coJ S D C s lz own mn w) (hW : (sRw s).1 ≤ 6 ∧ (sQt s).1 ≤ 6) (hl : lz i = some a) (e : ∀ c j, (c < a ∨ a + lsz i ≤ c) → D' c j = D c j) (h1 : ∀ p, p < 16 → p ≠ i → 16 + p ≠ i → t p = sTh s p) (h2 : ∀ p, p < 16 → thA C lz p (t p) = thA C lz p (sTh s p)) (h3 : ∀ p, p < 16 → p = i ∨ 16 + p = i → cTh D' lz p (t p)) (h4 : i < 16 ∨ 32 ≤ i → ∃ φ, pP D' a φ) : coJ S D' C (t, s.2) lz own mn w := by
  obtain ⟨g1, g2, g3, g4, g5, g6, g7, g8, g9, g10, g11, g12, g13, g14⟩ := h
  obtain ⟨m1, m2, m3, m4, m5, m6, m7, m8⟩ := g3
  obtain ⟨l1, l2, l3, l4, l5, l6⟩ := g2.2 i a hl
  have hs := lsz2 i
  have ap : ∀ j b c, j ≠ i → lz j = some b → b ≤ c → c < b + lsz j → ∀ z, D' c z = D c z := fun j b c hj hb c1 c2 z => e c z (by
    have q := (g2.2 j b hb).2.2.2.1 c c1 c2
    rcases Nat.lt_or_ge c a with w1 | w1
    · exact .inl w1
    · rcases Nat.lt_or_ge c (a + lsz i) with w2 | w2
      · exact absurd (q.symm.trans (l4 c w1 w2)) hj
      · exact .inr w2)
  have eD : ∀ c j, c < C + 28386 → D' c j = D c j := fun c j hc => e c j (by omega)
  refine ⟨g1, g2, ⟨m1, m2, m3, m4, m5, fun p hp => ?_, m7, m8⟩, ⟨fun p hp => ?_, fun j b hj hjj => ?_⟩,
    g5.cgr fun c j q => eD c j (by unfold qFx at q; omega), g6.cgr fun c j q => eD c j (by unfold qFn at q; omega), g7.cgr hW.1 fun c j q => eD c j (by rcases q with q | ⟨z, z1, z2⟩ <;> omega), g8.cgr fun c j q => eD c j (by unfold qId at q; omega), g9.cgr hW.2 fun c j q => eD c j (by rcases q with q | ⟨z, z1, z2⟩ <;> omega), g10.cgr fun c j q => eD c j (by unfold qRs at q; omega), g11.cgr fun c j q => eD c j (by unfold qSp at q; omega), g12.cgr fun c j q => eD c j (by unfold qRo at q; omega), g13.cgr fun c j q => eD c j (by unfold qTx at q; omega), g14.cgr fun c j q => eD c j (by
      unfold qSc at q
      rcases q with q | q | q | q | q | ⟨z, z1, z2, z3⟩ <;> omega)⟩
  · show S.2.1 _ 0 = thA C lz p (t p) ∧ _
    rw [h2 p hp]; exact m6 p hp
  · show cTh D' lz p (t p)
    by_cases w1 : p = i ∨ 16 + p = i
    · exact h3 p hp w1
    · rw [h1 p hp (by omega) (by omega)]
      refine (g4.1 p hp).cgr fun c j b => ⟨fun q1 q2 => ?_, fun q1 q2 q3 => ?_⟩
      · have : lsz p = 2 := by unfold lsz; rw [if_neg (by omega)]
        exact ap p b c (by omega) q1 (by omega) (by omega) j
      · have : lsz (16 + p) = 4 := by unfold lsz; rw [if_pos (by omega)]
        exact ap (16 + p) b c (by omega) q1 (by omega) (by omega) j
  · rcases Nat.decEq j i with w1 | w1
    · obtain ⟨φ, hφ⟩ := g4.2 j b hj hjj
      have : lsz j = 2 := by unfold lsz; rw [if_neg (by omega)]
      exact ⟨φ, hφ.cgr fun c z hc => ap j b c w1 hj (by omega) (by omega) z⟩
    · subst w1
      have : a = b := Option.some.inj (hl.symm.trans hj)
      subst this
      exact h4 hjj
theorem cTh_none (p : Nat) (t : Th) (h : tkN t ≠ 1) (h' : tkN t ≠ 3) : cTh D lz p t ∧ ∀ lz', thA C lz' p t = thA C lz p t := by
  rcases t with _ | (φ | (o | (r | k)))
  · exact ⟨trivial, fun _ => rfl⟩
  · exact absurd rfl h
  · exact ⟨trivial, fun _ => rfl⟩
  · exact absurd rfl h'
  · exact ⟨trivial, fun _ => rfl⟩
/-- a place's own polynomial comes to stand there -/
theorem fresh_at {E : Ex} {B : Nat × Nat} {p : Nat} (h : coJ S D C s lz own mn w) (hW : crW N s) (hp : p < 16) (hB : 2 ≤ B.1 ∧ 13652 ≤ B.2)
    (K : ∀ (B' : Nat × Nat) (S' : Stat) (D' : Dat) (lz' : Nat → Option Nat) (own' : Nat → Nat) (a : Nat) (φ : Nat → Rat), coJ S' D' C (uTh s p (some (.inl φ))) lz' own' mn w → lz' p = some a → pS S' a → C + 28386 ≤ a → (∀ j b, lz j = some b → lz' j = some b) → cFr S D S' D' C → (∀ c i, c < S.2.2 → D' c i = D c i) → (∀ c i, c < S.2.2 → c ≠ C + 735 + p → S'.2.1 c i = S.2.1 c i) → E (.inl (some (.inr (.inr (some a))))) B' S' D') : Wp P_X0_fresh E 0 [some (aR C), some (aR (C + 735 + p))] [] B S D := by
  have sp := (h.fx.st.2.2 p hp).2
  have e1 := (h.mv.2.2.2.2.2.1 p hp).2.1
  have hC := h.lzz.1
  have one : ∀ (B' : Nat × Nat) (S1 : Stat) (D1 : Dat) (lz1 : Nat → Option Nat) (own1 : Nat → Nat) (a : Nat), coJ S1 D1 C s lz1 own1 mn w → lz1 p = some a → (∀ j b, lz j = some b → lz1 j = some b) → cFr S D S1 D1 C → (∀ c i, c < S.2.2 → D1 c i = D c i) → (∀ c i, c < S.2.2 → c ≠ C + 735 + p → S1.2.1 c i = S.2.1 c i) → Wp P_X0_fresh E 1 [none, some (aR (C + 735 + p))] [] B' S1 D1 := fun B' S1 D1 lz1 own1 a g1 g2 g3 g4 g5 g6 => by
    have sp1 := (g1.fx.st.2.2 p hp).2
    have e2 := (g1.mv.2.2.2.2.2.1 p hp).2.1
    rw [g2] at e2
    have e3 : (setR S1 (C + 735 + p) 0 (some a)).2.1 (C + 735 + p) 1 = some a := by
      show pmur _ _ _ _ _ _ = _
      simp only [pmur]
      rw [if_neg (fun q => absurd q.2 (by decide))]; exact e2
    have sp2 : (setR S1 (C + 735 + p) 0 (some a)).1 (C + 735 + p) = some (15, 0) := sp1
    obtain ⟨φ, hφ⟩ := g1.th.2 p a g2 (.inl hp)
    have hz := g1.lzz.2 p a g2
    refine wp_in ?_
    simp only [P_X0_fresh, i_kil, i_icon, i_lcon, i_null, i_loadI, i_loadL, i_loadR, i_istore, i_lstore, i_astore, i_iinc, i_dup, i_dup2, i_pop, i_iadd, i_isub, i_imul, i_idiv, i_irem, i_ineg, i_iand, i_ior, i_ishl, i_ishr, i_lxor, i_ladd, i_lsub, i_lmul, i_ldiv, i_lrem, i_lneg, i_lshl, i_lcmp, i_i2l, i_l2i, i_i2b, i_i2s, i_ifeq, i_ifne, i_iflt, i_ifge, i_ifgt, i_ifle, i_cmpeq, i_cmpne, i_cmplt, i_cmpge, i_cmpgt, i_cmple, i_acmpeq, i_acmpne, i_ifnull, i_ifnonnull, i_getI, i_getR, i_putI, i_putZ, i_putR, i_ald, i_ldL, i_ldR, i_ast, i_stL, i_stR, i_alen, i_new, i_newa, i_iret, i_zret, i_lret, i_aret, i_vret, i_raise, i_throw, i_recv, i_objinit, i_tsw3, lget, lset, lput1, lput2, lkil, ltrim, largs, isL, takev, dropv, nthv, pushO, catv, gd, true_and, and_true, Option.some.injEq, Prod.mk.injEq, exists_eq_left', if_true, if_false, reduceCtorEq, Bool.false_eq_true, lcmp_ge, lcmp_lt, lcmp_le, lcmp_gt, lcmp_eq, true_or, or_true, not_true_eq_false, not_false_eq_true, false_implies, true_implies, List.length_cons, List.length_nil, sp1, e2, e3, sp2]
    refine K B' _ D1 lz1 own1 a φ (g1.setPl hp (x := some (.inl φ)) g2.symm ⟨a, g2, hφ⟩) g2 ((hz.2.2.2.2.2 (.inl hp)).sq fun c c1 c2 => ⟨rfl, fun j => setR_ne (.inl (by have := hz.2.1; omega))⟩) hz.2.1 g3 (g4.tr ⟨Nat.le_refl _, fun _ _ => rfl, fun c i c1 c2 => ⟨?_, rfl⟩⟩) g5 fun c i hc hn => ?_
    · show pmur _ _ _ _ _ _ = _
      simp only [pmur]
      rw [if_neg (fun q => by omega)]
    · rw [← g6 c i hc hn]
      show pmur _ _ _ _ _ _ = _
      simp only [pmur]
      rw [if_neg (fun q => hn q.1)]
  refine wp_in ?_
  simp only [P_X0_fresh, i_kil, i_icon, i_lcon, i_null, i_loadI, i_loadL, i_loadR, i_istore, i_lstore, i_astore, i_iinc, i_dup, i_dup2, i_pop, i_iadd, i_isub, i_imul, i_idiv, i_irem, i_ineg, i_iand, i_ior, i_ishl, i_ishr, i_lxor, i_ladd, i_lsub, i_lmul, i_ldiv, i_lrem, i_lneg, i_lshl, i_lcmp, i_i2l, i_l2i, i_i2b, i_i2s, i_ifeq, i_ifne, i_iflt, i_ifge, i_ifgt, i_ifle, i_cmpeq, i_cmpne, i_cmplt, i_cmpge, i_cmpgt, i_cmple, i_acmpeq, i_acmpne, i_ifnull, i_ifnonnull, i_getI, i_getR, i_putI, i_putZ, i_putR, i_ald, i_ldL, i_ldR, i_ast, i_stL, i_stR, i_alen, i_new, i_newa, i_iret, i_zret, i_lret, i_aret, i_vret, i_raise, i_throw, i_recv, i_objinit, i_tsw3, lget, lset, lput1, lput2, lkil, ltrim, largs, isL, takev, dropv, nthv, pushO, catv, gd, true_and, and_true, Option.some.injEq, Prod.mk.injEq, exists_eq_left', if_true, if_false, reduceCtorEq, Bool.false_eq_true, lcmp_ge, lcmp_lt, lcmp_le, lcmp_gt, lcmp_eq, true_or, or_true, not_true_eq_false, not_false_eq_true, false_implies, true_implies, List.length_cons, List.length_nil, sp, e1]
  refine ⟨fun q => ?_, fun q => ?_⟩
  · obtain ⟨a, ha⟩ : ∃ a, lz p = some a := by
      rcases hq : lz p with _ | a
      · exact absurd hq q
      · exact ⟨a, rfl⟩
    exact one B S D lz own a h ha (fun _ _ z => z) cFr.rfl (fun _ _ _ => rfl) fun _ _ _ _ => rfl
  · have sp1 : (mkS S 5 0).1 (C + 735 + p) = some (15, 0) := by
      show (if C + 735 + p = S.2.2 then _ else _) = _
      rw [if_neg (by omega)]; exact sp
    have n1 : (mkS S 5 0).1 S.2.2 = some (5, 0) := by
      show (if S.2.2 = S.2.2 then _ else _) = _
      rw [if_pos rfl]
    refine ⟨B.1 - 1, B.2 - 2, Prod.ext (by show B.1 = B.1 - 1 + 1; omega) (by show B.2 = B.2 - 2 + 2; omega), ?_⟩
    refine ⟨⟨_, rfl, n1⟩, callB 1 13650 (by show 1 ≤ B.1 - 1 ∧ 13650 ≤ B.2 - 2; omega) (gd_of rfl) ?_⟩
    refine sp_X5_init n1 rfl ?_ fun S2 D2 k1 k2 k3 k4 k5 => ?_
    · show (if S.2.2 = S.2.2 then (0 : Int) else _) = 0
      rw [if_pos rfl]
    · have sp2 : S2.1 (C + 735 + p) = some (15, 0) := by rw [(k3 _ (by omega)).1]; exact sp1
      simp only [P_X0_fresh, i_kil, i_icon, i_lcon, i_null, i_loadI, i_loadL, i_loadR, i_istore, i_lstore, i_astore, i_iinc, i_dup, i_dup2, i_pop, i_iadd, i_isub, i_imul, i_idiv, i_irem, i_ineg, i_iand, i_ior, i_ishl, i_ishr, i_lxor, i_ladd, i_lsub, i_lmul, i_ldiv, i_lrem, i_lneg, i_lshl, i_lcmp, i_i2l, i_l2i, i_i2b, i_i2s, i_ifeq, i_ifne, i_iflt, i_ifge, i_ifgt, i_ifle, i_cmpeq, i_cmpne, i_cmplt, i_cmpge, i_cmpgt, i_cmple, i_acmpeq, i_acmpne, i_ifnull, i_ifnonnull, i_getI, i_getR, i_putI, i_putZ, i_putR, i_ald, i_ldL, i_ldR, i_ast, i_stL, i_stR, i_alen, i_new, i_newa, i_iret, i_zret, i_lret, i_aret, i_vret, i_raise, i_throw, i_recv, i_objinit, i_tsw3, lget, lset, lput1, lput2, lkil, ltrim, largs, isL, takev, dropv, nthv, pushO, catv, gd, true_and, and_true, Option.some.injEq, Prod.mk.injEq, exists_eq_left', if_true, if_false, reduceCtorEq, Bool.false_eq_true, lcmp_ge, lcmp_lt, lcmp_le, lcmp_gt, lcmp_eq, true_or, or_true, not_true_eq_false, not_false_eq_true, false_implies, true_implies, List.length_cons, List.length_nil, sp2]
      have hl2 : lsz p = 2 := by unfold lsz; rw [if_neg (by omega)]
      have rr : ∀ c i, (c ≠ C + 735 + p ∨ i ≠ 1) → (setR S2 (C + 735 + p) 1 (some S.2.2)).2.1 c i = S2.2.1 c i := fun c i hn => by
        show pmur _ _ _ _ _ _ = _
        simp only [pmur]
        rw [if_neg (fun q => by omega)]
      have b0 : ∀ c i, c < S.2.2 → S2.2.1 c i = S.2.1 c i := fun c i hc => by
        rw [(k3 c hc).2]
        show (if c = S.2.2 then _ else _) = _
        rw [if_neg (by omega)]
      have b1 : ∀ c, c < S.2.2 → S2.1 c = S.1 c := fun c hc => by
        rw [(k3 c hc).1]
        show (if c = S.2.2 then _ else _) = _
        rw [if_neg (by omega)]
      have b2 : ∀ c i, c < S.2.2 → D2 c i = D c i := fun c i hc => by
        rw [k5 c i (by omega)]
        show (if c = S.2.2 then _ else _) = _
        rw [if_neg (by omega)]
      have hJ := h.newLz (i := p) (a := S.2.2) (ad := C + 735 + p) (k := 1) (S' := setR S2 (C + 735 + p) 1 (some S.2.2)) (D' := D2) hW (by omega) q (by omega) (by rw [hl2]; show _ ≤ S2.2.2; omega) b1 (.inl ⟨hp, rfl, rfl⟩) (fun c j hc hn => by rw [rr c j hn]; exact b0 c j hc) (by
        show pmur _ _ _ _ _ _ = _
        simp only [pmur, and_self, if_true]) (fun q => absurd q.1 (by omega)) (fun _ => ⟨k1.sq fun c c1 c2 => ⟨rfl, fun j => rr c j (by omega)⟩, fun _ => 0, k4, fun _ _ => qfit_zero, fun _ _ => rfl⟩) b2
      rw [if_neg (by omega)] at hJ
      refine one _ _ D2 _ _ S.2.2 hJ ?_ (fun j b hj => ?_) ⟨?_, fun c hc => b1 c hc, fun c i c1 c2 => ⟨?_, b2 c i (by omega)⟩⟩ b2 fun c i hc hn => ?_
      · show (if p = p then _ else _) = _
        rw [if_pos rfl]
      · show (if j = p then _ else _) = _
        rw [if_neg (fun w => by rw [w, q] at hj; exact nomatch hj)]; exact hj
      · show S.2.2 ≤ S2.2.2
        omega
      · rw [rr c i (by omega)]; exact b0 c i (by omega)
      · rw [rr c i (.inl hn)]; exact b0 c i hc
/-- another polynomial comes to a place's own -/
theorem coJ.repoly {p a : Nat} {φ0 φ : Nat → Rat} (h : coJ S D C (uTh s p (some (.inl φ0))) lz own mn w) (hW : crW N s) (hp : p < 16) (ha : lz p = some a) (e : ∀ c i, c ≠ a → c ≠ a + 1 → D' c i = D c i) (hφ : pP D' a φ) : coJ S D' C (uTh s p (some (.inl φ))) lz own mn w := by
  have hl2 : lsz p = 2 := by unfold lsz; rw [if_neg (by omega)]
  have e1 : sTh (uTh s p (some (.inl φ0))) p = some (.inl φ0) := by
    show (if (p : Int) = p then _ else _) = _
    rw [if_pos rfl]
  have e2 : sTh (uTh s p (some (.inl φ))) p = some (.inl φ) := by
    show (if (p : Int) = p then _ else _) = _
    rw [if_pos rfl]
  have e3 : ∀ q, q ≠ p → sTh (uTh s p (some (.inl φ))) q = sTh (uTh s p (some (.inl φ0))) q := fun q hq => by
    show (if (q : Int) = p then _ else _) = (if (q : Int) = p then _ else _)
    rw [if_neg (by omega), if_neg (by omega)]
  refine h.chLz (i := p) (t := sTh (uTh s p (some (.inl φ)))) ⟨hW.2.2.1.1, hW.2.2.2.2.1.1⟩ ha (fun c j hc => e c j (by omega) (by omega)) (fun q hq h1 h2 => e3 q h1) (fun q hq => ?_) (fun q hq h1 => ?_) fun _ => ⟨φ, hφ⟩
  · rcases Nat.decEq q p with w1 | w1
    · rw [e3 q w1]
    · subst w1; rw [e1, e2]; rfl
  · have : q = p := by omega
    subst this
    rw [e2]; exact ⟨a, ha, hφ⟩
theorem pP.cnt {p : Nat} {φ : Nat → Rat} (h : pP D p φ) : D p 1 = (pcnt φ 455 : Nat) := h.1.2
theorem goes_at {E : Ex} {B : Nat × Nat} {p q : Nat} {φ : Nat → Rat} (h : coJ S D C s lz own mn w) (hW : crW N s) (hp : p < 16) (hB : 2 ≤ B.1 ∧ 13652 ≤ B.2) (hq : pS S q) (hqn : q + 1 < S.2.2) (hq2 : q + 1 < C + 735 ∨ C + 750 < q) (hq3 : q + 1 < C + 28386 ∨ ∃ i, i ≠ p ∧ lz i = some q ∧ (i < 16 ∨ 32 ≤ i)) (hφ : pP D q φ)
    (K : ∀ (B' : Nat × Nat) (S' : Stat) (D' : Dat), coI S' D' C (uTh s p (some (.inl φ))) mn → cFr S D S' D' C → E (.inl (some (.inl (pcnt φ 455 : Nat)))) B' S' D') : Wp P_X0_goes E 0 [some (aR C), some (aR q), some (aR (C + 735 + p))] [] B S D := by
  have o := h.fx.o
  have hC := h.lzz.1
  refine wp_in ?_
  simp only [P_X0_goes, i_kil, i_icon, i_lcon, i_null, i_loadI, i_loadL, i_loadR, i_istore, i_lstore, i_astore, i_iinc, i_dup, i_dup2, i_pop, i_iadd, i_isub, i_imul, i_idiv, i_irem, i_ineg, i_iand, i_ior, i_ishl, i_ishr, i_lxor, i_ladd, i_lsub, i_lmul, i_ldiv, i_lrem, i_lneg, i_lshl, i_lcmp, i_i2l, i_l2i, i_i2b, i_i2s, i_ifeq, i_ifne, i_iflt, i_ifge, i_ifgt, i_ifle, i_cmpeq, i_cmpne, i_cmplt, i_cmpge, i_cmpgt, i_cmple, i_acmpeq, i_acmpne, i_ifnull, i_ifnonnull, i_getI, i_getR, i_putI, i_putZ, i_putR, i_ald, i_ldL, i_ldR, i_ast, i_stL, i_stR, i_alen, i_new, i_newa, i_iret, i_zret, i_lret, i_aret, i_vret, i_raise, i_throw, i_recv, i_objinit, i_tsw3, lget, lset, lput1, lput2, lkil, ltrim, largs, isL, takev, dropv, nthv, pushO, catv, gd, true_and, and_true, Option.some.injEq, Prod.mk.injEq, exists_eq_left', if_true, if_false, reduceCtorEq, Bool.false_eq_true, lcmp_ge, lcmp_lt, lcmp_le, lcmp_gt, lcmp_eq, true_or, or_true, not_true_eq_false, not_false_eq_true, false_implies, true_implies, List.length_cons, List.length_nil, o]
  refine ⟨⟨_, rfl, o⟩, callB 2 13652 hB (gd_of rfl) ?_⟩
  refine fresh_at h hW hp (by decide) fun B1 S1 D1 lz1 own1 a φ0 g1 g2 g3 g4 g5 g6 g7 g8 => ?_
  have a5 := g3.1
  have hq' : pS S1 q := hq.sq fun c c1 c2 => ⟨g6.2.1 c (by omega), fun i => g8 c i (by omega) (by omega)⟩
  have q5 := hq'.1
  have hφ1 : pP D1 q φ := hφ.cgr fun c i hc => g7 c i (by omega)
  have hz := g1.lzz.2 p a g2
  have hl2 : lsz p = 2 := by unfold lsz; rw [if_neg (by omega)]
  have hap : a + 1 < q ∨ q + 1 < a := by
    rcases hq3 with hq3 | ⟨i, i1, i2, i3⟩
    · omega
    · have hy := g1.lzz.2 i q (g5 i q i2)
      have hl3 : lsz i = 2 := by unfold lsz; rw [if_neg (by omega)]
      have n1 : ∀ x, a ≤ x → x < a + 2 → q ≤ x → x < q + 2 → False := fun x x1 x2 x3 x4 => i1 ((hy.2.2.2.1 x x3 (by omega)).symm.trans (hz.2.2.2.1 x x1 (by omega)))
      refine Decidable.byContradiction fun hn => ?_
      rcases Nat.lt_or_ge q a with e | e
      · exact n1 a (by omega) (by omega) (by omega) (by omega)
      · exact n1 q (by omega) (by omega) (by omega) (by omega)
  simp only [P_X0_goes, i_kil, i_icon, i_lcon, i_null, i_loadI, i_loadL, i_loadR, i_istore, i_lstore, i_astore, i_iinc, i_dup, i_dup2, i_pop, i_iadd, i_isub, i_imul, i_idiv, i_irem, i_ineg, i_iand, i_ior, i_ishl, i_ishr, i_lxor, i_ladd, i_lsub, i_lmul, i_ldiv, i_lrem, i_lneg, i_lshl, i_lcmp, i_i2l, i_l2i, i_i2b, i_i2s, i_ifeq, i_ifne, i_iflt, i_ifge, i_ifgt, i_ifle, i_cmpeq, i_cmpne, i_cmplt, i_cmpge, i_cmpgt, i_cmple, i_acmpeq, i_acmpne, i_ifnull, i_ifnonnull, i_getI, i_getR, i_putI, i_putZ, i_putR, i_ald, i_ldL, i_ldR, i_ast, i_stL, i_stR, i_alen, i_new, i_newa, i_iret, i_zret, i_lret, i_aret, i_vret, i_raise, i_throw, i_recv, i_objinit, i_tsw3, lget, lset, lput1, lput2, lkil, ltrim, largs, isL, takev, dropv, nthv, pushO, catv, gd, true_and, and_true, Option.some.injEq, Prod.mk.injEq, exists_eq_left', if_true, if_false, reduceCtorEq, Bool.false_eq_true, lcmp_ge, lcmp_lt, lcmp_le, lcmp_gt, lcmp_eq, true_or, or_true, not_true_eq_false, not_false_eq_true, false_implies, true_implies, List.length_cons, List.length_nil, a5]
  refine ⟨⟨_, rfl, a5⟩, call0 (gd_of rfl) ?_⟩
  refine sp_X5_be g3 hq' (by omega) (by omega) (by omega) hφ1.1 fun D2 k1 k2 => ?_
  simp only [P_X0_goes, i_kil, i_icon, i_lcon, i_null, i_loadI, i_loadL, i_loadR, i_istore, i_lstore, i_astore, i_iinc, i_dup, i_dup2, i_pop, i_iadd, i_isub, i_imul, i_idiv, i_irem, i_ineg, i_iand, i_ior, i_ishl, i_ishr, i_lxor, i_ladd, i_lsub, i_lmul, i_ldiv, i_lrem, i_lneg, i_lshl, i_lcmp, i_i2l, i_l2i, i_i2b, i_i2s, i_ifeq, i_ifne, i_iflt, i_ifge, i_ifgt, i_ifle, i_cmpeq, i_cmpne, i_cmplt, i_cmpge, i_cmpgt, i_cmple, i_acmpeq, i_acmpne, i_ifnull, i_ifnonnull, i_getI, i_getR, i_putI, i_putZ, i_putR, i_ald, i_ldL, i_ldR, i_ast, i_stL, i_stR, i_alen, i_new, i_newa, i_iret, i_zret, i_lret, i_aret, i_vret, i_raise, i_throw, i_recv, i_objinit, i_tsw3, lget, lset, lput1, lput2, lkil, ltrim, largs, isL, takev, dropv, nthv, pushO, catv, gd, true_and, and_true, Option.some.injEq, Prod.mk.injEq, exists_eq_left', if_true, if_false, reduceCtorEq, Bool.false_eq_true, lcmp_ge, lcmp_lt, lcmp_le, lcmp_gt, lcmp_eq, true_or, or_true, not_true_eq_false, not_false_eq_true, false_implies, true_implies, List.length_cons, List.length_nil, q5]
  have e2 : D2 q 1 = (pcnt φ 455 : Nat) := by rw [k1 q 1 (by omega) (by omega)]; exact hφ1.cnt
  rw [e2]
  refine K _ S1 D2 ⟨lz1, own1, w, g1.repoly hW hp g2 (fun c i c1 c2 => k1 c i c1 c2) ⟨k2, hφ1.2⟩⟩ (g6.tr ⟨Nat.le_refl _, fun _ _ => rfl, fun c i c1 c2 => ⟨rfl, k1 c i (by omega) (by omega)⟩⟩)
end CNW
