/-! the component: reals made late -/
-- needs: f7.clike
set_option maxRecDepth 100000
set_option linter.unusedVariables false
theorem sp_X3_init {E : Ex} {S : Stat} {D : Dat} {w r : Nat} {x : Int} (h1 : S.1 w = some (3, 0)) (hn : S.2.2 = w + 1) (hx : x = r) (hr : r < 60000000)
    (k : ∀ (S' : Stat) (D' : Dat), wS 3 S' w r → S'.2.2 = w + 2 → lowS S S' w → (∀ c i, c ≤ w → D' c i = D c i) → E (.inl none) (0, 0) S' D') : Wp P_X3_init E 0 [some (aR w), some (aI x)] [] (1, r) S D := by
  subst hx
  obtain ⟨q1, q2, q3, q4, q5⟩ := one_row (k := 100) (n := r) h1 hn
  have hk : (mkS S 100 r).1 w = some (3, 0) := by simp only [mkS]; rw [if_neg (by omega)]; exact h1
  refine wp_in ?_
  simp only [P_X3_init, i_kil, i_icon, i_lcon, i_null, i_loadI, i_loadL, i_loadR, i_istore, i_lstore, i_astore, i_iinc, i_dup, i_dup2, i_pop, i_iadd, i_isub, i_imul, i_idiv, i_irem, i_ineg, i_iand, i_ior, i_ishl, i_ishr, i_lxor, i_ladd, i_lsub, i_lmul, i_ldiv, i_lrem, i_lneg, i_lshl, i_lcmp, i_i2l, i_l2i, i_i2b, i_i2s, i_ifeq, i_ifne, i_iflt, i_ifge, i_ifgt, i_ifle, i_cmpeq, i_cmpne, i_cmplt, i_cmpge, i_cmpgt, i_cmple, i_acmpeq, i_acmpne, i_ifnull, i_ifnonnull, i_getI, i_getR, i_putI, i_putZ, i_putR, i_ald, i_ldL, i_ldR, i_ast, i_stL, i_stR, i_alen, i_new, i_newa, i_iret, i_zret, i_lret, i_aret, i_vret, i_raise, i_throw, i_recv, i_objinit, i_tsw3, lget, lset, lput1, lput2, lkil, ltrim, largs, isL, takev, dropv, nthv, pushO, catv, gd, true_and, and_true, Option.some.injEq, Prod.mk.injEq, exists_eq_left', if_true, if_false, reduceCtorEq, Bool.false_eq_true, lcmp_ge, lcmp_lt, lcmp_le, lcmp_gt, lcmp_eq, true_or, or_true, not_true_eq_false, not_false_eq_true, false_implies, true_implies, List.length_cons, List.length_nil, h1, hn]
  refine ⟨by omega, 0, 0, r, rfl, hr, by simp only [Nat.zero_add, and_self], hk, ?_⟩
  refine k _ _ ⟨q1, q2, q3⟩ q4 q5 fun c i hc => ?_
  simp only [mkD]; rw [if_neg (by omega)]
theorem sp_X13_init {E : Ex} {S : Stat} {D : Dat} {a : Nat} (h1 : S.1 a = some (13, 0)) (hn : S.2.2 = a + 1)
    (k : ∀ (S' : Stat) (D' : Dat), reS S' a → S'.2.2 = a + 4 → lowS S S' a → (∀ c i, c < a → D' c i = D c i) → ∀ B' : Nat × Nat, E (.inl none) B' S' D') : Wp P_X13_init E 0 [some (aR a)] [] (3, 44) S D := by
  obtain ⟨q1, q2, q3, q4, q5⟩ := one_row (k := 100) (n := 9) h1 hn
  have hk : (mkS S 100 9).1 a = some (13, 0) := by simp only [mkS]; rw [if_neg (by omega)]; exact h1
  have hd : ∀ c i, c ≤ a → mkD S D c i = D c i := fun c i hc => by simp only [mkD]; rw [if_neg (by omega)]
  refine wp_in ?_
  simp only [P_X13_init, i_kil, i_icon, i_lcon, i_null, i_loadI, i_loadL, i_loadR, i_istore, i_lstore, i_astore, i_iinc, i_dup, i_dup2, i_pop, i_iadd, i_isub, i_imul, i_idiv, i_irem, i_ineg, i_iand, i_ior, i_ishl, i_ishr, i_lxor, i_ladd, i_lsub, i_lmul, i_ldiv, i_lrem, i_lneg, i_lshl, i_lcmp, i_i2l, i_l2i, i_i2b, i_i2s, i_ifeq, i_ifne, i_iflt, i_ifge, i_ifgt, i_ifle, i_cmpeq, i_cmpne, i_cmplt, i_cmpge, i_cmpgt, i_cmple, i_acmpeq, i_acmpne, i_ifnull, i_ifnonnull, i_getI, i_getR, i_putI, i_putZ, i_putR, i_ald, i_ldL, i_ldR, i_ast, i_stL, i_stR, i_alen, i_new, i_newa, i_iret, i_zret, i_lret, i_aret, i_vret, i_raise, i_throw, i_recv, i_objinit, i_tsw3, lget, lset, lput1, lput2, lkil, ltrim, largs, isL, takev, dropv, nthv, pushO, catv, gd, true_and, and_true, Option.some.injEq, Prod.mk.injEq, exists_eq_left', if_true, if_false, reduceCtorEq, Bool.false_eq_true, lcmp_ge, lcmp_lt, lcmp_le, lcmp_gt, lcmp_eq, true_or, or_true, not_true_eq_false, not_false_eq_true, false_implies, true_implies, List.length_cons, List.length_nil, h1, hn]
  refine ⟨by omega, 2, 35, 9, rfl, by omega, ⟨rfl, rfl⟩, hk, ?_⟩
  generalize setR (mkS S 100 9) a 0 (some (a + 1)) = S1 at q1 q2 q3 q4 q5 ⊢
  generalize mkD S D = D1 at hd ⊢
  have n1 : (mkS S1 3 0).1 (a + 2) = some (3, 0) := by simp only [mkS]; rw [if_pos q4.symm]
  refine ⟨1, 32, ⟨rfl, rfl⟩, ?_⟩
  simp only [P_X13_init, i_kil, i_icon, i_lcon, i_null, i_loadI, i_loadL, i_loadR, i_istore, i_lstore, i_astore, i_iinc, i_dup, i_dup2, i_pop, i_iadd, i_isub, i_imul, i_idiv, i_irem, i_ineg, i_iand, i_ior, i_ishl, i_ishr, i_lxor, i_ladd, i_lsub, i_lmul, i_ldiv, i_lrem, i_lneg, i_lshl, i_lcmp, i_i2l, i_l2i, i_i2b, i_i2s, i_ifeq, i_ifne, i_iflt, i_ifge, i_ifgt, i_ifle, i_cmpeq, i_cmpne, i_cmplt, i_cmpge, i_cmpgt, i_cmple, i_acmpeq, i_acmpne, i_ifnull, i_ifnonnull, i_getI, i_getR, i_putI, i_putZ, i_putR, i_ald, i_ldL, i_ldR, i_ast, i_stL, i_stR, i_alen, i_new, i_newa, i_iret, i_zret, i_lret, i_aret, i_vret, i_raise, i_throw, i_recv, i_objinit, i_tsw3, lget, lset, lput1, lput2, lkil, ltrim, largs, isL, takev, dropv, nthv, pushO, catv, gd, true_and, and_true, Option.some.injEq, Prod.mk.injEq, exists_eq_left', if_true, if_false, reduceCtorEq, Bool.false_eq_true, lcmp_ge, lcmp_lt, lcmp_le, lcmp_gt, lcmp_eq, true_or, or_true, not_true_eq_false, not_false_eq_true, false_implies, true_implies, List.length_cons, List.length_nil, q4]
  refine ⟨⟨_, rfl, n1⟩, callB 1 32 (by decide) (gd_of rfl) ?_⟩
  refine sp_X3_init (r := 32) n1 (by simp only [mkS]; omega) rfl (by decide) fun S2 D2 k1 k2 k3 k4 => ?_
  have m1 : ∀ c, c < a + 2 → S2.1 c = S1.1 c := fun c hc => by
    rw [(k3 c hc).1]; simp only [mkS]; rw [if_neg (by omega)]
  have m2 : ∀ c i, c < a + 2 → S2.2.1 c i = S1.2.1 c i := fun c i hc => by
    rw [(k3 c hc).2]; simp only [mkS]; rw [if_neg (by omega)]
  have a13 : S2.1 a = some (13, 0) := by rw [m1 _ (by omega)]; exact q1
  simp only [P_X13_init, i_kil, i_icon, i_lcon, i_null, i_loadI, i_loadL, i_loadR, i_istore, i_lstore, i_astore, i_iinc, i_dup, i_dup2, i_pop, i_iadd, i_isub, i_imul, i_idiv, i_irem, i_ineg, i_iand, i_ior, i_ishl, i_ishr, i_lxor, i_ladd, i_lsub, i_lmul, i_ldiv, i_lrem, i_lneg, i_lshl, i_lcmp, i_i2l, i_l2i, i_i2b, i_i2s, i_ifeq, i_ifne, i_iflt, i_ifge, i_ifgt, i_ifle, i_cmpeq, i_cmpne, i_cmplt, i_cmpge, i_cmpgt, i_cmple, i_acmpeq, i_acmpne, i_ifnull, i_ifnonnull, i_getI, i_getR, i_putI, i_putZ, i_putR, i_ald, i_ldL, i_ldR, i_ast, i_stL, i_stR, i_alen, i_new, i_newa, i_iret, i_zret, i_lret, i_aret, i_vret, i_raise, i_throw, i_recv, i_objinit, i_tsw3, lget, lset, lput1, lput2, lkil, ltrim, largs, isL, takev, dropv, nthv, pushO, catv, gd, true_and, and_true, Option.some.injEq, Prod.mk.injEq, exists_eq_left', if_true, if_false, reduceCtorEq, Bool.false_eq_true, lcmp_ge, lcmp_lt, lcmp_le, lcmp_gt, lcmp_eq, true_or, or_true, not_true_eq_false, not_false_eq_true, false_implies, true_implies, List.length_cons, List.length_nil, a13]
  refine k (setR S2 a 4 (some (a + 2))) D2 ⟨a13, ?_, ?_, ?_, ?_⟩ k2 (fun c hc => ⟨?_, fun i => ?_⟩) (fun c i hc => ?_) _
  · rw [setR_ne (by omega), m2 _ _ (by omega)]; exact q2
  · show S2.1 (a + 1) = _
    rw [m1 _ (by omega)]; exact q3
  · show pmur _ _ _ _ _ _ = _
    simp only [pmur, and_self, if_true]
  · exact k1.sq fun c c1 c2 => ⟨rfl, fun j => setR_ne (.inl (by omega))⟩
  · show S2.1 c = _
    rw [m1 _ (by omega)]; exact (q5 c hc).1
  · rw [setR_ne (by omega), m2 _ _ (by omega)]; exact (q5 c hc).2 i
  · rw [k4 c i (by omega)]
    simp only [mkD]
    rw [if_neg (by omega)]
    exact hd c i (by omega)
section CRE
variable {S : Stat} {D : Dat} {C mn w N : Nat} {s : Cst} {lz : Nat → Option Nat} {own : Nat → Nat}
theorem stands_at {E : Ex} {B : Nat × Nat} {p b : Nat} {r : Rt} (h : coJ S D C s lz own mn w) (hW : crW N s) (hp : p < 16) (hB : 4 ≤ B.1 ∧ 60 ≤ B.2) (hb : reS S b) (hbn : b + 3 < S.2.2) (hb2 : b + 3 < C + 735 ∨ C + 750 < b) (hb3 : b + 3 < C + 28386 ∨ ∃ i, i ≠ 16 + p ∧ lz i = some b ∧ (16 ≤ i ∧ i < 32)) (hr : reD D b r.1.1 r.1.2 r.2.1 r.2.2.2 r.2.2.1) (hr32 : (r.2.2.1.natAbs : Int) < 1000000000 ^ 32)
    (K : ∀ (B' : Nat × Nat) (S' : Stat) (D' : Dat) (lz' : Nat → Option Nat) (own' : Nat → Nat) (a : Nat), coJ S' D' C (uTh s p (some (.inr (.inr (.inl r))))) lz' own' mn w → lz' (16 + p) = some a → reS S' a → C + 28386 ≤ a → cFr S D S' D' C → E (.inl (some (.inr (.inr (some a))))) B' S' D') : Wp P_X0_stands E 0 [some (aR C), some (aR (C + 735 + p)), some (aR b)] [] B S D := by
  have sp := (h.fx.st.2.2 p hp).2
  have e1 := (h.mv.2.2.2.2.2.1 p hp).2.2
  have hC := h.lzz.1
  have hl4 : lsz (16 + p) = 4 := by unfold lsz; rw [if_pos (by omega)]
  have one : ∀ (B' : Nat × Nat) (S1 : Stat) (D1 : Dat) (lz1 : Nat → Option Nat) (own1 : Nat → Nat) (a : Nat), coJ S1 D1 C s lz1 own1 mn w → lz1 (16 + p) = some a → (∀ j b, lz j = some b → lz1 j = some b) → cFr S D S1 D1 C → (∀ c i, c < S.2.2 → D1 c i = D c i) → (∀ c i, c < S.2.2 → c ≠ C + 735 + p → S1.2.1 c i = S.2.1 c i) → Wp P_X0_stands E 1 [none, some (aR (C + 735 + p)), some (aR b)] [] B' S1 D1 := fun B' S1 D1 lz1 own1 a g1 g2 g3 g4 g5 g6 => by
    have sp1 := (g1.fx.st.2.2 p hp).2
    have e2 := (g1.mv.2.2.2.2.2.1 p hp).2.2
    rw [g2] at e2
    have hz := g1.lzz.2 (16 + p) a g2
    have ha := hz.2.2.2.2.1 (by omega)
    have a13 := ha.1
    have hcc : ∀ c, b ≤ c → c ≤ b + 3 → c < S.2.2 ∧ c ≠ C + 735 + p := fun c c1 c2 => by
      clear hb3
      omega
    have hb' : reS S1 b := hb.sq fun c c1 c2 => ⟨g4.2.1 c (hcc c c1 c2).1, fun i => g6 c i (hcc c c1 c2).1 (hcc c c1 c2).2⟩
    have hr1 : reD D1 b r.1.1 r.1.2 r.2.1 r.2.2.2 r.2.2.1 := hr.congr fun c i c1 c2 => g5 c i (hcc c c1 c2).1
    have hap : a + 3 < b ∨ b + 3 < a := by
      rcases hb3 with hb3 | ⟨i, i1, i2, i3⟩
      · omega
      · have hy := g1.lzz.2 i b (g3 i b i2)
        have hl3 : lsz i = 4 := by unfold lsz; rw [if_pos i3]
        have n1 : ∀ x, a ≤ x → x < a + 4 → b ≤ x → x < b + 4 → False := fun x x1 x2 x3 x4 => i1 ((hy.2.2.2.1 x x3 (by omega)).symm.trans (hz.2.2.2.1 x x1 (by omega)))
        refine Decidable.byContradiction fun hn => ?_
        rcases Nat.lt_or_ge b a with e | e
        · exact n1 a (by omega) (by omega) (by omega) (by omega)
        · exact n1 b (by omega) (by omega) (by omega) (by omega)
    refine wp_in ?_
    simp only [P_X0_stands, i_kil, i_icon, i_lcon, i_null, i_loadI, i_loadL, i_loadR, i_istore, i_lstore, i_astore, i_iinc, i_dup, i_dup2, i_pop, i_iadd, i_isub, i_imul, i_idiv, i_irem, i_ineg, i_iand, i_ior, i_ishl, i_ishr, i_lxor, i_ladd, i_lsub, i_lmul, i_ldiv, i_lrem, i_lneg, i_lshl, i_lcmp, i_i2l, i_l2i, i_i2b, i_i2s, i_ifeq, i_ifne, i_iflt, i_ifge, i_ifgt, i_ifle, i_cmpeq, i_cmpne, i_cmplt, i_cmpge, i_cmpgt, i_cmple, i_acmpeq, i_acmpne, i_ifnull, i_ifnonnull, i_getI, i_getR, i_putI, i_putZ, i_putR, i_ald, i_ldL, i_ldR, i_ast, i_stL, i_stR, i_alen, i_new, i_newa, i_iret, i_zret, i_lret, i_aret, i_vret, i_raise, i_throw, i_recv, i_objinit, i_tsw3, lget, lset, lput1, lput2, lkil, ltrim, largs, isL, takev, dropv, nthv, pushO, catv, gd, true_and, and_true, Option.some.injEq, Prod.mk.injEq, exists_eq_left', if_true, if_false, reduceCtorEq, Bool.false_eq_true, lcmp_ge, lcmp_lt, lcmp_le, lcmp_gt, lcmp_eq, true_or, or_true, not_true_eq_false, not_false_eq_true, false_implies, true_implies, List.length_cons, List.length_nil, sp1, e2, a13]
    refine ⟨⟨_, rfl, a13⟩, call0 (gd_of rfl) ?_⟩
    refine sp_X13_be ha hb' (by omega) hr1 hr32 fun D2 k1 k2 => ?_
    have e3 : (setR S1 (C + 735 + p) 0 (some a)).2.1 (C + 735 + p) 2 = some a := by
      rw [setR_ne (.inr (by decide))]; exact e2
    simp only [P_X0_stands, i_kil, i_icon, i_lcon, i_null, i_loadI, i_loadL, i_loadR, i_istore, i_lstore, i_astore, i_iinc, i_dup, i_dup2, i_pop, i_iadd, i_isub, i_imul, i_idiv, i_irem, i_ineg, i_iand, i_ior, i_ishl, i_ishr, i_lxor, i_ladd, i_lsub, i_lmul, i_ldiv, i_lrem, i_lneg, i_lshl, i_lcmp, i_i2l, i_l2i, i_i2b, i_i2s, i_ifeq, i_ifne, i_iflt, i_ifge, i_ifgt, i_ifle, i_cmpeq, i_cmpne, i_cmplt, i_cmpge, i_cmpgt, i_cmple, i_acmpeq, i_acmpne, i_ifnull, i_ifnonnull, i_getI, i_getR, i_putI, i_putZ, i_putR, i_ald, i_ldL, i_ldR, i_ast, i_stL, i_stR, i_alen, i_new, i_newa, i_iret, i_zret, i_lret, i_aret, i_vret, i_raise, i_throw, i_recv, i_objinit, i_tsw3, lget, lset, lput1, lput2, lkil, ltrim, largs, isL, takev, dropv, nthv, pushO, catv, gd, true_and, and_true, Option.some.injEq, Prod.mk.injEq, exists_eq_left', if_true, if_false, reduceCtorEq, Bool.false_eq_true, lcmp_ge, lcmp_lt, lcmp_le, lcmp_gt, lcmp_eq, true_or, or_true, not_true_eq_false, not_false_eq_true, false_implies, true_implies, List.length_cons, List.length_nil, sp1, e2]
    have sp2 : (setR S1 (C + 735 + p) 0 (some a)).1 (C + 735 + p) = some (15, 0) := sp1
    rw [e3]
    refine ⟨sp2, ?_⟩
    have eth : sTh (uTh s p (some (.inr (.inr (.inl r))))) p = some (.inr (.inr (.inl r))) := by
      show (if (p : Int) = p then _ else _) = _
      rw [if_pos rfl]
    have j1 := g1.setPl hp (x := none) rfl trivial
    have j2 := j1.chLz (i := 16 + p) (D' := D2) (t := sTh (uTh s p none)) ⟨hW.2.2.1.1, hW.2.2.2.2.1.1⟩ g2 (fun c j hc => k1 c j (by omega)) (fun q _ _ _ => rfl) (fun q _ => rfl) (fun q hq hq2 => by
      have e0 : q = p ∨ q = 16 + p := by omega
      rcases e0 with e0 | e0
      · subst e0
        have : sTh (uTh s (q : Int) none) q = none := by
          show (if (q : Int) = q then _ else _) = _
          rw [if_pos rfl]
        rw [this]; trivial
      · omega) (fun q => by omega)
    have j3 := j2.setPl hp (x := some (.inr (.inr (.inl r)))) (v := some a) g2.symm ⟨a, g2, k2⟩
    have eS : setR (setR S1 (C + 735 + p) 0 (thA C lz1 p none)) (C + 735 + p) 0 (some a) = setR S1 (C + 735 + p) 0 (some a) := by
      refine Prod.ext rfl (Prod.ext ?_ rfl)
      funext c i
      show pmur _ _ _ _ c i = pmur _ _ _ _ c i
      simp only [pmur]
      split
      · rfl
      · show pmur _ _ _ _ c i = _
        simp only [pmur]
        rename_i hne
        rw [if_neg hne]
    have eU : uTh (sTh (uTh s (p : Int) none), (uTh s (p : Int) none).2) p (some (.inr (.inr (.inl r)))) = uTh s p (some (.inr (.inr (.inl r)))) := by
      refine Prod.ext ?_ rfl
      funext q
      show (if (q : Int) = p then _ else (if (q : Int) = p then _ else _)) = (if (q : Int) = p then _ else _)
      split <;> rfl
    rw [eS, eU] at j3
    refine K B' _ D2 lz1 own1 a j3 g2 (ha.sq fun c c1 c2 => ⟨rfl, fun j => setR_ne (.inl (by have := hz.2.1; omega))⟩) hz.2.1 (g4.tr ⟨Nat.le_refl _, fun _ _ => rfl, fun c i c1 c2 => ⟨setR_ne (by omega), k1 c i (by have := hz.2.1; omega)⟩⟩)
  refine wp_in ?_
  simp only [P_X0_stands, i_kil, i_icon, i_lcon, i_null, i_loadI, i_loadL, i_loadR, i_istore, i_lstore, i_astore, i_iinc, i_dup, i_dup2, i_pop, i_iadd, i_isub, i_imul, i_idiv, i_irem, i_ineg, i_iand, i_ior, i_ishl, i_ishr, i_lxor, i_ladd, i_lsub, i_lmul, i_ldiv, i_lrem, i_lneg, i_lshl, i_lcmp, i_i2l, i_l2i, i_i2b, i_i2s, i_ifeq, i_ifne, i_iflt, i_ifge, i_ifgt, i_ifle, i_cmpeq, i_cmpne, i_cmplt, i_cmpge, i_cmpgt, i_cmple, i_acmpeq, i_acmpne, i_ifnull, i_ifnonnull, i_getI, i_getR, i_putI, i_putZ, i_putR, i_ald, i_ldL, i_ldR, i_ast, i_stL, i_stR, i_alen, i_new, i_newa, i_iret, i_zret, i_lret, i_aret, i_vret, i_raise, i_throw, i_recv, i_objinit, i_tsw3, lget, lset, lput1, lput2, lkil, ltrim, largs, isL, takev, dropv, nthv, pushO, catv, gd, true_and, and_true, Option.some.injEq, Prod.mk.injEq, exists_eq_left', if_true, if_false, reduceCtorEq, Bool.false_eq_true, lcmp_ge, lcmp_lt, lcmp_le, lcmp_gt, lcmp_eq, true_or, or_true, not_true_eq_false, not_false_eq_true, false_implies, true_implies, List.length_cons, List.length_nil, sp, e1]
  refine ⟨fun q => ?_, fun q => ?_⟩
  · obtain ⟨a, ha⟩ : ∃ a, lz (16 + p) = some a := by
      rcases hq : lz (16 + p) with _ | a
      · exact absurd hq q
      · exact ⟨a, rfl⟩
    exact one B S D lz own a h ha (fun _ _ z => z) cFr.rfl (fun _ _ _ => rfl) fun _ _ _ _ => rfl
  · have n1 : (mkS S 13 0).1 S.2.2 = some (13, 0) := by
      show (if S.2.2 = S.2.2 then _ else _) = _
      rw [if_pos rfl]
    have sp1 : (mkS S 13 0).1 (C + 735 + p) = some (15, 0) := by
      show (if C + 735 + p = S.2.2 then _ else _) = _
      rw [if_neg (by omega)]; exact sp
    refine ⟨B.1 - 1, B.2 - 5, Prod.ext (by show B.1 = B.1 - 1 + 1; omega) (by show B.2 = B.2 - 5 + 5; omega), ?_⟩
    refine ⟨⟨_, rfl, n1⟩, callB 3 44 (by show 3 ≤ B.1 - 1 ∧ 44 ≤ B.2 - 5; omega) (gd_of rfl) ?_⟩
    refine sp_X13_init n1 rfl fun S2 D2 k1 k2 k3 k5 B2 => ?_
    have sp2 : S2.1 (C + 735 + p) = some (15, 0) := by rw [(k3 _ (by omega)).1]; exact sp1
    simp only [P_X0_stands, i_kil, i_icon, i_lcon, i_null, i_loadI, i_loadL, i_loadR, i_istore, i_lstore, i_astore, i_iinc, i_dup, i_dup2, i_pop, i_iadd, i_isub, i_imul, i_idiv, i_irem, i_ineg, i_iand, i_ior, i_ishl, i_ishr, i_lxor, i_ladd, i_lsub, i_lmul, i_ldiv, i_lrem, i_lneg, i_lshl, i_lcmp, i_i2l, i_l2i, i_i2b, i_i2s, i_ifeq, i_ifne, i_iflt, i_ifge, i_ifgt, i_ifle, i_cmpeq, i_cmpne, i_cmplt, i_cmpge, i_cmpgt, i_cmple, i_acmpeq, i_acmpne, i_ifnull, i_ifnonnull, i_getI, i_getR, i_putI, i_putZ, i_putR, i_ald, i_ldL, i_ldR, i_ast, i_stL, i_stR, i_alen, i_new, i_newa, i_iret, i_zret, i_lret, i_aret, i_vret, i_raise, i_throw, i_recv, i_objinit, i_tsw3, lget, lset, lput1, lput2, lkil, ltrim, largs, isL, takev, dropv, nthv, pushO, catv, gd, true_and, and_true, Option.some.injEq, Prod.mk.injEq, exists_eq_left', if_true, if_false, reduceCtorEq, Bool.false_eq_true, lcmp_ge, lcmp_lt, lcmp_le, lcmp_gt, lcmp_eq, true_or, or_true, not_true_eq_false, not_false_eq_true, false_implies, true_implies, List.length_cons, List.length_nil, sp2]
    have rr : ∀ c i, (c ≠ C + 735 + p ∨ i ≠ 2) → (setR S2 (C + 735 + p) 2 (some S.2.2)).2.1 c i = S2.2.1 c i := fun c i hn => setR_ne hn
    have b0 : ∀ c i, c < S.2.2 → S2.2.1 c i = S.2.1 c i := fun c i hc => by
      rw [(k3 c hc).2]
      show (if c = S.2.2 then _ else _) = _
      rw [if_neg (by omega)]
    have b1 : ∀ c, c < S.2.2 → S2.1 c = S.1 c := fun c hc => by
      rw [(k3 c hc).1]
      show (if c = S.2.2 then _ else _) = _
      rw [if_neg (by omega)]
    have b2 : ∀ c i, c < S.2.2 → D2 c i = D c i := fun c i hc => by
      rw [k5 c i hc]
      show (if c = S.2.2 then _ else _) = _
      rw [if_neg (by omega)]
    have hJ := h.newLz (i := 16 + p) (a := S.2.2) (ad := C + 735 + p) (k := 2) (S' := setR S2 (C + 735 + p) 2 (some S.2.2)) (D' := D2) hW (by omega) q (by omega) (by rw [hl4]; show _ ≤ S2.2.2; omega) b1 (.inr (.inl ⟨by omega, by omega, by omega, rfl⟩)) (fun c j hc hn => by rw [rr c j hn]; exact b0 c j hc) (by
      show pmur _ _ _ _ _ _ = _
      simp only [pmur, and_self, if_true]) (fun _ => k1.sq fun c c1 c2 => ⟨rfl, fun j => rr c j (by omega)⟩) (fun q => absurd q (by omega)) b2
    rw [if_neg (by omega)] at hJ
    refine one _ _ D2 _ _ S.2.2 hJ ?_ (fun j b hj => ?_) ⟨?_, fun c hc => b1 c hc, fun c i c1 c2 => ⟨?_, b2 c i (by omega)⟩⟩ b2 fun c i hc hn => ?_
    · show (if 16 + p = 16 + p then _ else _) = _
      rw [if_pos rfl]
    · show (if j = 16 + p then _ else _) = _
      rw [if_neg (fun w => by rw [w, q] at hj; exact nomatch hj)]; exact hj
    · show S.2.2 ≤ S2.2.2
      omega
    · rw [rr c i (by omega)]; exact b0 c i (by omega)
    · rw [rr c i (.inl hn)]; exact b0 c i hc
end CRE
