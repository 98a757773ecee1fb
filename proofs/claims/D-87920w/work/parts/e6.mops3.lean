/-! the model's calls: lead, quotient, rest, row, put, same -/
-- needs: e5.mops2
set_option maxRecDepth 100000
set_option linter.unusedVariables false
section MOR
variable {M N : Nat} {S : Stat} {s : Cst}
theorem sp_firstOf2 {E : Ex} {B : Nat × Nat} {D : Dat} {a b : Nat} (K : E (.inl (some (.inl (-(foN a b : Int))))) B S D) : Wp P_X16_firstOf_2 E 0 [some (aI (-(a : Int))), some (aI (-(b : Int)))] [] B S D := by
  refine sp_X16_firstOf_2 ?_
  unfold foN at K
  split at K
  · rename_i h; rw [if_neg (by omega)]; exact K
  · rename_i h; rw [if_pos (by omega)]; exact K
theorem sp_firstOf3 {E : Ex} {B : Nat × Nat} {D : Dat} {a b c : Nat} (K : E (.inl (some (.inl (-(foN a (foN b c) : Int))))) B S D) : Wp P_X16_firstOf E 0 [some (aI (-(a : Int))), some (aI (-(b : Int))), some (aI (-(c : Int)))] [] B S D := by
  refine sp_X16_firstOf ?_
  unfold foN at K
  split at K
  · rename_i h; rw [if_neg (by omega)]
    split at K
    · rename_i h2; rw [if_neg (by omega)]; exact K
    · rename_i h2; rw [if_pos (by omega)]; exact K
  · rename_i h; rw [if_pos (by omega)]; exact K
theorem sp_goal {E : Ex} {B : Nat × Nat} {D : Dat} {x : Int} (o : S.1 M = some (16, 0)) (K : E (.inl (some (.inl (-(glN x : Int))))) B S D) : Wp P_X16_goal E 0 [some (aR M), some (aI x)] [] B S D := by
  refine sp_X16_goal o ?_
  have eg : (if 0 ≤ x ∧ x < 16 then (0 : Int) else -1) = -(glN x : Int) := by unfold glN; split <;> rfl
  rw [eg]; exact K
theorem mo_lead {E : Ex} {B : Nat × Nat} {D : Dat} {x y : Int} (hI : moI S D M s) (hW : crW N s) (hN : N < 1000) (K : mK E B S D M (oLead x y s)) : Wp P_X16_lead E 0 [some (aR M), some (aI x), some (aI y)] [] B S D := by
  have o := hI.1.o
  obtain ⟨c1, c2, c3⟩ := hI.1.h13
  obtain ⟨d1, d2⟩ := hI.1.h14
  obtain ⟨f1, f2⟩ := hI.1.h15
  have hle : foN (lkN s x 1) (lkN s y 2) ≤ 3 := foN_le (by have := lkN_le s x 1; omega) (by have := lkN_le s y 2; omega)
  have one : ∀ (v : Int) (D' : Dat), E (.inl (some (.inl v))) B S D' → Wp P_X16_lead E 1 [] [.inl v] B S D' := fun v D' h => by
    refine wp_in ?_
    simp only [P_X16_lead, i_kil, i_icon, i_lcon, i_null, i_loadI, i_loadL, i_loadR, i_istore, i_lstore, i_astore, i_iinc, i_dup, i_dup2, i_pop, i_iadd, i_isub, i_imul, i_idiv, i_irem, i_ineg, i_iand, i_ior, i_ishl, i_ishr, i_lxor, i_ladd, i_lsub, i_lmul, i_ldiv, i_lrem, i_lneg, i_lshl, i_lcmp, i_i2l, i_l2i, i_i2b, i_i2s, i_ifeq, i_ifne, i_iflt, i_ifge, i_ifgt, i_ifle, i_cmpeq, i_cmpne, i_cmplt, i_cmpge, i_cmpgt, i_cmple, i_acmpeq, i_acmpne, i_ifnull, i_ifnonnull, i_getI, i_getR, i_putI, i_putZ, i_putR, i_ald, i_ldL, i_ldR, i_ast, i_stL, i_stR, i_alen, i_new, i_newa, i_iret, i_zret, i_lret, i_aret, i_vret, i_raise, i_throw, i_recv, i_objinit, i_tsw3, lget, lset, lput1, lput2, lkil, ltrim, largs, isL, takev, dropv, nthv, pushO, catv, gd, true_and, and_true, Option.some.injEq, Prod.mk.injEq, exists_eq_left', if_true, if_false, reduceCtorEq, Bool.false_eq_true, lcmp_ge, lcmp_lt, lcmp_le, lcmp_gt, lcmp_eq, true_or, or_true, not_true_eq_false, not_false_eq_true, false_implies, true_implies, List.length_cons, List.length_nil]
    exact h
  refine wp_in ?_
  simp only [P_X16_lead, i_kil, i_icon, i_lcon, i_null, i_loadI, i_loadL, i_loadR, i_istore, i_lstore, i_astore, i_iinc, i_dup, i_dup2, i_pop, i_iadd, i_isub, i_imul, i_idiv, i_irem, i_ineg, i_iand, i_ior, i_ishl, i_ishr, i_lxor, i_ladd, i_lsub, i_lmul, i_ldiv, i_lrem, i_lneg, i_lshl, i_lcmp, i_i2l, i_l2i, i_i2b, i_i2s, i_ifeq, i_ifne, i_iflt, i_ifge, i_ifgt, i_ifle, i_cmpeq, i_cmpne, i_cmplt, i_cmpge, i_cmpgt, i_cmple, i_acmpeq, i_acmpne, i_ifnull, i_ifnonnull, i_getI, i_getR, i_putI, i_putZ, i_putR, i_ald, i_ldL, i_ldR, i_ast, i_stL, i_stR, i_alen, i_new, i_newa, i_iret, i_zret, i_lret, i_aret, i_vret, i_raise, i_throw, i_recv, i_objinit, i_tsw3, lget, lset, lput1, lput2, lkil, ltrim, largs, isL, takev, dropv, nthv, pushO, catv, gd, true_and, and_true, Option.some.injEq, Prod.mk.injEq, exists_eq_left', if_true, if_false, reduceCtorEq, Bool.false_eq_true, lcmp_ge, lcmp_lt, lcmp_le, lcmp_gt, lcmp_eq, true_or, or_true, not_true_eq_false, not_false_eq_true, false_implies, true_implies, List.length_cons, List.length_nil, o]
  repeat (first | refine ⟨in_small (by omega) (by omega), ?_⟩ | (show (_ → _) ∧ (_ → _); first | refine ⟨by omega, fun _ => ?_⟩ | refine ⟨fun _ => ?_, by omega⟩) | refine ⟨by omega, ?_⟩ | refine ⟨⟨_, rfl, by assumption⟩, ?_⟩ | refine ⟨okT_I _, ?_⟩ | refine call0 (gd_of rfl) ?_)
  refine mo_look (k := 1) hI rfl ?_
  simp only [P_X16_lead, i_kil, i_icon, i_lcon, i_null, i_loadI, i_loadL, i_loadR, i_istore, i_lstore, i_astore, i_iinc, i_dup, i_dup2, i_pop, i_iadd, i_isub, i_imul, i_idiv, i_irem, i_ineg, i_iand, i_ior, i_ishl, i_ishr, i_lxor, i_ladd, i_lsub, i_lmul, i_ldiv, i_lrem, i_lneg, i_lshl, i_lcmp, i_i2l, i_l2i, i_i2b, i_i2s, i_ifeq, i_ifne, i_iflt, i_ifge, i_ifgt, i_ifle, i_cmpeq, i_cmpne, i_cmplt, i_cmpge, i_cmpgt, i_cmple, i_acmpeq, i_acmpne, i_ifnull, i_ifnonnull, i_getI, i_getR, i_putI, i_putZ, i_putR, i_ald, i_ldL, i_ldR, i_ast, i_stL, i_stR, i_alen, i_new, i_newa, i_iret, i_zret, i_lret, i_aret, i_vret, i_raise, i_throw, i_recv, i_objinit, i_tsw3, lget, lset, lput1, lput2, lkil, ltrim, largs, isL, takev, dropv, nthv, pushO, catv, gd, true_and, and_true, Option.some.injEq, Prod.mk.injEq, exists_eq_left', if_true, if_false, reduceCtorEq, Bool.false_eq_true, lcmp_ge, lcmp_lt, lcmp_le, lcmp_gt, lcmp_eq, true_or, or_true, not_true_eq_false, not_false_eq_true, false_implies, true_implies, List.length_cons, List.length_nil]
  repeat (first | refine ⟨in_small (by omega) (by omega), ?_⟩ | (show (_ → _) ∧ (_ → _); first | refine ⟨by omega, fun _ => ?_⟩ | refine ⟨fun _ => ?_, by omega⟩) | refine ⟨by omega, ?_⟩ | refine ⟨⟨_, rfl, by assumption⟩, ?_⟩ | refine ⟨okT_I _, ?_⟩ | refine call0 (gd_of rfl) ?_)
  refine mo_look (k := 2) hI rfl ?_
  simp only [P_X16_lead, i_kil, i_icon, i_lcon, i_null, i_loadI, i_loadL, i_loadR, i_istore, i_lstore, i_astore, i_iinc, i_dup, i_dup2, i_pop, i_iadd, i_isub, i_imul, i_idiv, i_irem, i_ineg, i_iand, i_ior, i_ishl, i_ishr, i_lxor, i_ladd, i_lsub, i_lmul, i_ldiv, i_lrem, i_lneg, i_lshl, i_lcmp, i_i2l, i_l2i, i_i2b, i_i2s, i_ifeq, i_ifne, i_iflt, i_ifge, i_ifgt, i_ifle, i_cmpeq, i_cmpne, i_cmplt, i_cmpge, i_cmpgt, i_cmple, i_acmpeq, i_acmpne, i_ifnull, i_ifnonnull, i_getI, i_getR, i_putI, i_putZ, i_putR, i_ald, i_ldL, i_ldR, i_ast, i_stL, i_stR, i_alen, i_new, i_newa, i_iret, i_zret, i_lret, i_aret, i_vret, i_raise, i_throw, i_recv, i_objinit, i_tsw3, lget, lset, lput1, lput2, lkil, ltrim, largs, isL, takev, dropv, nthv, pushO, catv, gd, true_and, and_true, Option.some.injEq, Prod.mk.injEq, exists_eq_left', if_true, if_false, reduceCtorEq, Bool.false_eq_true, lcmp_ge, lcmp_lt, lcmp_le, lcmp_gt, lcmp_eq, true_or, or_true, not_true_eq_false, not_false_eq_true, false_implies, true_implies, List.length_cons, List.length_nil]
  repeat (first | refine ⟨in_small (by omega) (by omega), ?_⟩ | (show (_ → _) ∧ (_ → _); first | refine ⟨by omega, fun _ => ?_⟩ | refine ⟨fun _ => ?_, by omega⟩) | refine ⟨by omega, ?_⟩ | refine ⟨⟨_, rfl, by assumption⟩, ?_⟩ | refine ⟨okT_I _, ?_⟩ | refine call0 (gd_of rfl) ?_)
  refine sp_firstOf2 ?_
  simp only [P_X16_lead, i_kil, i_icon, i_lcon, i_null, i_loadI, i_loadL, i_loadR, i_istore, i_lstore, i_astore, i_iinc, i_dup, i_dup2, i_pop, i_iadd, i_isub, i_imul, i_idiv, i_irem, i_ineg, i_iand, i_ior, i_ishl, i_ishr, i_lxor, i_ladd, i_lsub, i_lmul, i_ldiv, i_lrem, i_lneg, i_lshl, i_lcmp, i_i2l, i_l2i, i_i2b, i_i2s, i_ifeq, i_ifne, i_iflt, i_ifge, i_ifgt, i_ifle, i_cmpeq, i_cmpne, i_cmplt, i_cmpge, i_cmpgt, i_cmple, i_acmpeq, i_acmpne, i_ifnull, i_ifnonnull, i_getI, i_getR, i_putI, i_putZ, i_putR, i_ald, i_ldL, i_ldR, i_ast, i_stL, i_stR, i_alen, i_new, i_newa, i_iret, i_zret, i_lret, i_aret, i_vret, i_raise, i_throw, i_recv, i_objinit, i_tsw3, lget, lset, lput1, lput2, lkil, ltrim, largs, isL, takev, dropv, nthv, pushO, catv, gd, true_and, and_true, Option.some.injEq, Prod.mk.injEq, exists_eq_left', if_true, if_false, reduceCtorEq, Bool.false_eq_true, lcmp_ge, lcmp_lt, lcmp_le, lcmp_gt, lcmp_eq, true_or, or_true, not_true_eq_false, not_false_eq_true, false_implies, true_implies, List.length_cons, List.length_nil, o, c1, c2]
  refine ⟨fun w => ?_, fun w => ?_⟩
  · have h00 : foN (lkN s x 1) (lkN s y 2) = 0 := by omega
    obtain ⟨h0, h0'⟩ := foN_0.mp h00
    obtain ⟨p, φ, hp, hp16, ht⟩ := lk1 h0
    obtain ⟨q, c, g, hq, hq16, hu⟩ := lk2 h0'
    subst hp; subst hq
    obtain ⟨hm, hs1, hs2, hs3⟩ := hI.poly hp16 ht
    obtain ⟨ho1, ho2⟩ := hI.ord hq16 hu
    have hw := hW.1 q hq16
    rw [hu] at hw
    obtain ⟨hw1, hw2⟩ := hw
    have hc := hm.pc
    repeat (first | refine ⟨in_small (by omega) (by omega), ?_⟩ | (show (_ → _) ∧ (_ → _); first | refine ⟨by omega, fun _ => ?_⟩ | refine ⟨fun _ => ?_, by omega⟩) | refine ⟨by omega, ?_⟩ | refine ⟨⟨_, rfl, by assumption⟩, ?_⟩ | refine ⟨okT_I _, ?_⟩ | refine call0 (gd_of rfl) ?_)
    simp only [hs1]
    simp only [P_X16_lead, i_kil, i_icon, i_lcon, i_null, i_loadI, i_loadL, i_loadR, i_istore, i_lstore, i_astore, i_iinc, i_dup, i_dup2, i_pop, i_iadd, i_isub, i_imul, i_idiv, i_irem, i_ineg, i_iand, i_ior, i_ishl, i_ishr, i_lxor, i_ladd, i_lsub, i_lmul, i_ldiv, i_lrem, i_lneg, i_lshl, i_lcmp, i_i2l, i_l2i, i_i2b, i_i2s, i_ifeq, i_ifne, i_iflt, i_ifge, i_ifgt, i_ifle, i_cmpeq, i_cmpne, i_cmplt, i_cmpge, i_cmpgt, i_cmple, i_acmpeq, i_acmpne, i_ifnull, i_ifnonnull, i_getI, i_getR, i_putI, i_putZ, i_putR, i_ald, i_ldL, i_ldR, i_ast, i_stL, i_stR, i_alen, i_new, i_newa, i_iret, i_zret, i_lret, i_aret, i_vret, i_raise, i_throw, i_recv, i_objinit, i_tsw3, lget, lset, lput1, lput2, lkil, ltrim, largs, isL, takev, dropv, nthv, pushO, catv, gd, true_and, and_true, Option.some.injEq, Prod.mk.injEq, exists_eq_left', if_true, if_false, reduceCtorEq, Bool.false_eq_true, lcmp_ge, lcmp_lt, lcmp_le, lcmp_gt, lcmp_eq, true_or, or_true, not_true_eq_false, not_false_eq_true, false_implies, true_implies, List.length_cons, List.length_nil, hs3]
    rw [hc]
    refine ⟨fun w2 => ?_, fun w2 => ?_⟩
    · obtain ⟨n, e, hn⟩ := hm
      have hs5 := hs2.2.1
      have hs6 := hs2.2.2.1
      simp only [P_X16_lead, i_kil, i_icon, i_lcon, i_null, i_loadI, i_loadL, i_loadR, i_istore, i_lstore, i_astore, i_iinc, i_dup, i_dup2, i_pop, i_iadd, i_isub, i_imul, i_idiv, i_irem, i_ineg, i_iand, i_ior, i_ishl, i_ishr, i_lxor, i_ladd, i_lsub, i_lmul, i_ldiv, i_lrem, i_lneg, i_lshl, i_lcmp, i_i2l, i_l2i, i_i2b, i_i2s, i_ifeq, i_ifne, i_iflt, i_ifge, i_ifgt, i_ifle, i_cmpeq, i_cmpne, i_cmplt, i_cmpge, i_cmpgt, i_cmple, i_acmpeq, i_acmpne, i_ifnull, i_ifnonnull, i_getI, i_getR, i_putI, i_putZ, i_putR, i_ald, i_ldL, i_ldR, i_ast, i_stL, i_stR, i_alen, i_new, i_newa, i_iret, i_zret, i_lret, i_aret, i_vret, i_raise, i_throw, i_recv, i_objinit, i_tsw3, lget, lset, lput1, lput2, lkil, ltrim, largs, isL, takev, dropv, nthv, pushO, catv, gd, true_and, and_true, Option.some.injEq, Prod.mk.injEq, exists_eq_left', if_true, if_false, reduceCtorEq, Bool.false_eq_true, lcmp_ge, lcmp_lt, lcmp_le, lcmp_gt, lcmp_eq, true_or, or_true, not_true_eq_false, not_false_eq_true, false_implies, true_implies, List.length_cons, List.length_nil, hs3, hs5, d1, d2, f1, f2]
      repeat (first | refine ⟨in_small (by omega) (by omega), ?_⟩ | (show (_ → _) ∧ (_ → _); first | refine ⟨by omega, fun _ => ?_⟩ | refine ⟨fun _ => ?_, by omega⟩) | refine ⟨by omega, ?_⟩ | refine ⟨⟨_, rfl, by assumption⟩, ?_⟩ | refine ⟨okT_I _, ?_⟩ | refine call0 (gd_of rfl) ?_)
      have hn0 : n ≠ 0 := by rw [hn.cnt]; omega
      refine sp_X18_lead hs2 hn hw1 ho1 (.inl ho2) (by omega) fun k hk hl => ?_
      simp only [P_X16_lead, i_kil, i_icon, i_lcon, i_null, i_loadI, i_loadL, i_loadR, i_istore, i_lstore, i_astore, i_iinc, i_dup, i_dup2, i_pop, i_iadd, i_isub, i_imul, i_idiv, i_irem, i_ineg, i_iand, i_ior, i_ishl, i_ishr, i_lxor, i_ladd, i_lsub, i_lmul, i_ldiv, i_lrem, i_lneg, i_lshl, i_lcmp, i_i2l, i_l2i, i_i2b, i_i2s, i_ifeq, i_ifne, i_iflt, i_ifge, i_ifgt, i_ifle, i_cmpeq, i_cmpne, i_cmplt, i_cmpge, i_cmpgt, i_cmple, i_acmpeq, i_acmpne, i_ifnull, i_ifnonnull, i_getI, i_getR, i_putI, i_putZ, i_putR, i_ald, i_ldL, i_ldR, i_ast, i_stL, i_stR, i_alen, i_new, i_newa, i_iret, i_zret, i_lret, i_aret, i_vret, i_raise, i_throw, i_recv, i_objinit, i_tsw3, lget, lset, lput1, lput2, lkil, ltrim, largs, isL, takev, dropv, nthv, pushO, catv, gd, true_and, and_true, Option.some.injEq, Prod.mk.injEq, exists_eq_left', if_true, if_false, reduceCtorEq, Bool.false_eq_true, lcmp_ge, lcmp_lt, lcmp_le, lcmp_gt, lcmp_eq, true_or, or_true, not_true_eq_false, not_false_eq_true, false_implies, true_implies, List.length_cons, List.length_nil, hs6]
      have h60 := hn.1
      repeat (first | refine ⟨in_small (by omega) (by omega), ?_⟩ | (show (_ → _) ∧ (_ → _); first | refine ⟨by omega, fun _ => ?_⟩ | refine ⟨fun _ => ?_, by omega⟩) | refine ⟨by omega, ?_⟩ | refine ⟨⟨_, rfl, by assumption⟩, ?_⟩ | refine ⟨okT_I _, ?_⟩ | refine call0 (gd_of rfl) ?_)
      rw [(hn.2.2.1 k hk).2.1]
      exact one _ _ (K D _ _ (rR_q h00 ⟨φ, c, g, ht, hu, .inr ⟨by omega, rfl, e k, hl, rfl⟩⟩) hI mO.rfl)
    · repeat (first | refine ⟨in_small (by omega) (by omega), ?_⟩ | (show (_ → _) ∧ (_ → _); first | refine ⟨by omega, fun _ => ?_⟩ | refine ⟨fun _ => ?_, by omega⟩) | refine ⟨by omega, ?_⟩ | refine ⟨⟨_, rfl, by assumption⟩, ?_⟩ | refine ⟨okT_I _, ?_⟩ | refine call0 (gd_of rfl) ?_)
      refine mo_ans hI hW hN (k := 7) (by decide) rfl fun D' h1 h2 => ?_
      simp only [P_X16_lead, i_kil, i_icon, i_lcon, i_null, i_loadI, i_loadL, i_loadR, i_istore, i_lstore, i_astore, i_iinc, i_dup, i_dup2, i_pop, i_iadd, i_isub, i_imul, i_idiv, i_irem, i_ineg, i_iand, i_ior, i_ishl, i_ishr, i_lxor, i_ladd, i_lsub, i_lmul, i_ldiv, i_lrem, i_lneg, i_lshl, i_lcmp, i_i2l, i_l2i, i_i2b, i_i2s, i_ifeq, i_ifne, i_iflt, i_ifge, i_ifgt, i_ifle, i_cmpeq, i_cmpne, i_cmplt, i_cmpge, i_cmpgt, i_cmple, i_acmpeq, i_acmpne, i_ifnull, i_ifnonnull, i_getI, i_getR, i_putI, i_putZ, i_putR, i_ald, i_ldL, i_ldR, i_ast, i_stL, i_stR, i_alen, i_new, i_newa, i_iret, i_zret, i_lret, i_aret, i_vret, i_raise, i_throw, i_recv, i_objinit, i_tsw3, lget, lset, lput1, lput2, lkil, ltrim, largs, isL, takev, dropv, nthv, pushO, catv, gd, true_and, and_true, Option.some.injEq, Prod.mk.injEq, exists_eq_left', if_true, if_false, reduceCtorEq, Bool.false_eq_true, lcmp_ge, lcmp_lt, lcmp_le, lcmp_gt, lcmp_eq, true_or, or_true, not_true_eq_false, not_false_eq_true, false_implies, true_implies, List.length_cons, List.length_nil]
      exact one _ _ (K D' _ _ (rR_q h00 ⟨φ, c, g, ht, hu, .inl ⟨by omega, rfl, rfl⟩⟩) h1 h2)
  · repeat (first | refine ⟨in_small (by omega) (by omega), ?_⟩ | (show (_ → _) ∧ (_ → _); first | refine ⟨by omega, fun _ => ?_⟩ | refine ⟨fun _ => ?_, by omega⟩) | refine ⟨by omega, ?_⟩ | refine ⟨⟨_, rfl, by assumption⟩, ?_⟩ | refine ⟨okT_I _, ?_⟩ | refine call0 (gd_of rfl) ?_)
    refine mo_ans hI hW hN (k := foN (lkN s x 1) (lkN s y 2)) (by omega) rfl fun D' h1 h2 => ?_
    simp only [P_X16_lead, i_kil, i_icon, i_lcon, i_null, i_loadI, i_loadL, i_loadR, i_istore, i_lstore, i_astore, i_iinc, i_dup, i_dup2, i_pop, i_iadd, i_isub, i_imul, i_idiv, i_irem, i_ineg, i_iand, i_ior, i_ishl, i_ishr, i_lxor, i_ladd, i_lsub, i_lmul, i_ldiv, i_lrem, i_lneg, i_lshl, i_lcmp, i_i2l, i_l2i, i_i2b, i_i2s, i_ifeq, i_ifne, i_iflt, i_ifge, i_ifgt, i_ifle, i_cmpeq, i_cmpne, i_cmplt, i_cmpge, i_cmpgt, i_cmple, i_acmpeq, i_acmpne, i_ifnull, i_ifnonnull, i_getI, i_getR, i_putI, i_putZ, i_putR, i_ald, i_ldL, i_ldR, i_ast, i_stL, i_stR, i_alen, i_new, i_newa, i_iret, i_zret, i_lret, i_aret, i_vret, i_raise, i_throw, i_recv, i_objinit, i_tsw3, lget, lset, lput1, lput2, lkil, ltrim, largs, isL, takev, dropv, nthv, pushO, catv, gd, true_and, and_true, Option.some.injEq, Prod.mk.injEq, exists_eq_left', if_true, if_false, reduceCtorEq, Bool.false_eq_true, lcmp_ge, lcmp_lt, lcmp_le, lcmp_gt, lcmp_eq, true_or, or_true, not_true_eq_false, not_false_eq_true, false_implies, true_implies, List.length_cons, List.length_nil]
    exact K D' _ _ (rR_f (by omega) rfl) h1 h2
theorem mo_quotient {E : Ex} {B : Nat × Nat} {D : Dat} {k x : Int} (hI : moI S D M s) (hW : crW N s) (hN : N < 1000) (K : mK E B S D M (oQuotient k x s)) : Wp P_X16_quotient E 0 [some (aR M), some (aI k), some (aI x)] [] B S D := by
  have o := hI.1.o
  obtain ⟨c1, c2, c3⟩ := hI.1.h24
  obtain ⟨q1, q2, q3⟩ := hI.2.2.2.2.2.1
  have q6 := hW.2.2.2.2.1.1
  have hgl := glN_le x
  have two : ∀ (f : Nat) (R : Cst → Int → Prop), 1 ≤ f ∧ f ≤ 7 → mK E B S D M R → R (uFn s f) (-(f : Int)) → Wp P_X16_quotient E 2 [] [.inl (-(f : Int)), .inr (.inr (some M))] B S D := fun f R h1 hK h2 => by
    refine wp_in ?_
    simp only [P_X16_quotient, i_kil, i_icon, i_lcon, i_null, i_loadI, i_loadL, i_loadR, i_istore, i_lstore, i_astore, i_iinc, i_dup, i_dup2, i_pop, i_iadd, i_isub, i_imul, i_idiv, i_irem, i_ineg, i_iand, i_ior, i_ishl, i_ishr, i_lxor, i_ladd, i_lsub, i_lmul, i_ldiv, i_lrem, i_lneg, i_lshl, i_lcmp, i_i2l, i_l2i, i_i2b, i_i2s, i_ifeq, i_ifne, i_iflt, i_ifge, i_ifgt, i_ifle, i_cmpeq, i_cmpne, i_cmplt, i_cmpge, i_cmpgt, i_cmple, i_acmpeq, i_acmpne, i_ifnull, i_ifnonnull, i_getI, i_getR, i_putI, i_putZ, i_putR, i_ald, i_ldL, i_ldR, i_ast, i_stL, i_stR, i_alen, i_new, i_newa, i_iret, i_zret, i_lret, i_aret, i_vret, i_raise, i_throw, i_recv, i_objinit, i_tsw3, lget, lset, lput1, lput2, lkil, ltrim, largs, isL, takev, dropv, nthv, pushO, catv, gd, true_and, and_true, Option.some.injEq, Prod.mk.injEq, exists_eq_left', if_true, if_false, reduceCtorEq, Bool.false_eq_true, lcmp_ge, lcmp_lt, lcmp_le, lcmp_gt, lcmp_eq, true_or, or_true, not_true_eq_false, not_false_eq_true, false_implies, true_implies, List.length_cons, List.length_nil, o]
    repeat (first | refine ⟨in_small (by omega) (by omega), ?_⟩ | (show (_ → _) ∧ (_ → _); first | refine ⟨by omega, fun _ => ?_⟩ | refine ⟨fun _ => ?_, by omega⟩) | refine ⟨by omega, ?_⟩ | refine ⟨⟨_, rfl, by assumption⟩, ?_⟩ | refine ⟨okT_I _, ?_⟩ | refine call0 (gd_of rfl) ?_)
    refine mo_ans hI hW hN h1 rfl fun D' h3 h4 => ?_
    simp only [P_X16_quotient, i_kil, i_icon, i_lcon, i_null, i_loadI, i_loadL, i_loadR, i_istore, i_lstore, i_astore, i_iinc, i_dup, i_dup2, i_pop, i_iadd, i_isub, i_imul, i_idiv, i_irem, i_ineg, i_iand, i_ior, i_ishl, i_ishr, i_lxor, i_ladd, i_lsub, i_lmul, i_ldiv, i_lrem, i_lneg, i_lshl, i_lcmp, i_i2l, i_l2i, i_i2b, i_i2s, i_ifeq, i_ifne, i_iflt, i_ifge, i_ifgt, i_ifle, i_cmpeq, i_cmpne, i_cmplt, i_cmpge, i_cmpgt, i_cmple, i_acmpeq, i_acmpne, i_ifnull, i_ifnonnull, i_getI, i_getR, i_putI, i_putZ, i_putR, i_ald, i_ldL, i_ldR, i_ast, i_stL, i_stR, i_alen, i_new, i_newa, i_iret, i_zret, i_lret, i_aret, i_vret, i_raise, i_throw, i_recv, i_objinit, i_tsw3, lget, lset, lput1, lput2, lkil, ltrim, largs, isL, takev, dropv, nthv, pushO, catv, gd, true_and, and_true, Option.some.injEq, Prod.mk.injEq, exists_eq_left', if_true, if_false, reduceCtorEq, Bool.false_eq_true, lcmp_ge, lcmp_lt, lcmp_le, lcmp_gt, lcmp_eq, true_or, or_true, not_true_eq_false, not_false_eq_true, false_implies, true_implies, List.length_cons, List.length_nil]
    exact hK D' _ _ h2 h3 h4
  have one : (glN x ≠ 0 ∨ ¬ (0 ≤ k ∧ k < (sQt s).1)) → Wp P_X16_quotient E 1 [some (aR M), none, none, some (aI (-(glN x : Int)))] [] B S D := fun h2 => by
    refine wp_in ?_
    simp only [P_X16_quotient, i_kil, i_icon, i_lcon, i_null, i_loadI, i_loadL, i_loadR, i_istore, i_lstore, i_astore, i_iinc, i_dup, i_dup2, i_pop, i_iadd, i_isub, i_imul, i_idiv, i_irem, i_ineg, i_iand, i_ior, i_ishl, i_ishr, i_lxor, i_ladd, i_lsub, i_lmul, i_ldiv, i_lrem, i_lneg, i_lshl, i_lcmp, i_i2l, i_l2i, i_i2b, i_i2s, i_ifeq, i_ifne, i_iflt, i_ifge, i_ifgt, i_ifle, i_cmpeq, i_cmpne, i_cmplt, i_cmpge, i_cmpgt, i_cmple, i_acmpeq, i_acmpne, i_ifnull, i_ifnonnull, i_getI, i_getR, i_putI, i_putZ, i_putR, i_ald, i_ldL, i_ldR, i_ast, i_stL, i_stR, i_alen, i_new, i_newa, i_iret, i_zret, i_lret, i_aret, i_vret, i_raise, i_throw, i_recv, i_objinit, i_tsw3, lget, lset, lput1, lput2, lkil, ltrim, largs, isL, takev, dropv, nthv, pushO, catv, gd, true_and, and_true, Option.some.injEq, Prod.mk.injEq, exists_eq_left', if_true, if_false, reduceCtorEq, Bool.false_eq_true, lcmp_ge, lcmp_lt, lcmp_le, lcmp_gt, lcmp_eq, true_or, or_true, not_true_eq_false, not_false_eq_true, false_implies, true_implies, List.length_cons, List.length_nil]
    refine ⟨fun w => ?_, fun w => ?_⟩
    · exact two 7 _ (by decide) K (rR_q (by omega) (.inr ⟨by rcases h2 with h2 | h2; omega; exact h2, rfl, rfl⟩))
    · exact two (glN x) _ (by omega) K (rR_f (by omega) rfl)
  refine wp_in ?_
  simp only [P_X16_quotient, i_kil, i_icon, i_lcon, i_null, i_loadI, i_loadL, i_loadR, i_istore, i_lstore, i_astore, i_iinc, i_dup, i_dup2, i_pop, i_iadd, i_isub, i_imul, i_idiv, i_irem, i_ineg, i_iand, i_ior, i_ishl, i_ishr, i_lxor, i_ladd, i_lsub, i_lmul, i_ldiv, i_lrem, i_lneg, i_lshl, i_lcmp, i_i2l, i_l2i, i_i2b, i_i2s, i_ifeq, i_ifne, i_iflt, i_ifge, i_ifgt, i_ifle, i_cmpeq, i_cmpne, i_cmplt, i_cmpge, i_cmpgt, i_cmple, i_acmpeq, i_acmpne, i_ifnull, i_ifnonnull, i_getI, i_getR, i_putI, i_putZ, i_putR, i_ald, i_ldL, i_ldR, i_ast, i_stL, i_stR, i_alen, i_new, i_newa, i_iret, i_zret, i_lret, i_aret, i_vret, i_raise, i_throw, i_recv, i_objinit, i_tsw3, lget, lset, lput1, lput2, lkil, ltrim, largs, isL, takev, dropv, nthv, pushO, catv, gd, true_and, and_true, Option.some.injEq, Prod.mk.injEq, exists_eq_left', if_true, if_false, reduceCtorEq, Bool.false_eq_true, lcmp_ge, lcmp_lt, lcmp_le, lcmp_gt, lcmp_eq, true_or, or_true, not_true_eq_false, not_false_eq_true, false_implies, true_implies, List.length_cons, List.length_nil, o]
  repeat (first | refine ⟨in_small (by omega) (by omega), ?_⟩ | (show (_ → _) ∧ (_ → _); first | refine ⟨by omega, fun _ => ?_⟩ | refine ⟨fun _ => ?_, by omega⟩) | refine ⟨by omega, ?_⟩ | refine ⟨⟨_, rfl, by assumption⟩, ?_⟩ | refine ⟨okT_I _, ?_⟩ | refine call0 (gd_of rfl) ?_)
  refine sp_goal o ?_
  simp only [P_X16_quotient, i_kil, i_icon, i_lcon, i_null, i_loadI, i_loadL, i_loadR, i_istore, i_lstore, i_astore, i_iinc, i_dup, i_dup2, i_pop, i_iadd, i_isub, i_imul, i_idiv, i_irem, i_ineg, i_iand, i_ior, i_ishl, i_ishr, i_lxor, i_ladd, i_lsub, i_lmul, i_ldiv, i_lrem, i_lneg, i_lshl, i_lcmp, i_i2l, i_l2i, i_i2b, i_i2s, i_ifeq, i_ifne, i_iflt, i_ifge, i_ifgt, i_ifle, i_cmpeq, i_cmpne, i_cmplt, i_cmpge, i_cmpgt, i_cmple, i_acmpeq, i_acmpne, i_ifnull, i_ifnonnull, i_getI, i_getR, i_putI, i_putZ, i_putR, i_ald, i_ldL, i_ldR, i_ast, i_stL, i_stR, i_alen, i_new, i_newa, i_iret, i_zret, i_lret, i_aret, i_vret, i_raise, i_throw, i_recv, i_objinit, i_tsw3, lget, lset, lput1, lput2, lkil, ltrim, largs, isL, takev, dropv, nthv, pushO, catv, gd, true_and, and_true, Option.some.injEq, Prod.mk.injEq, exists_eq_left', if_true, if_false, reduceCtorEq, Bool.false_eq_true, lcmp_ge, lcmp_lt, lcmp_le, lcmp_gt, lcmp_eq, true_or, or_true, not_true_eq_false, not_false_eq_true, false_implies, true_implies, List.length_cons, List.length_nil, o, c1, c2]
  refine ⟨fun w => one (.inl (by omega)), fun w => ⟨fun w2 => one (.inr (by omega)), fun w2 => ⟨fun w3 => ?_, fun w3 => one (.inr (by omega))⟩⟩⟩
  rw [q1] at w3
  obtain ⟨p, hp, hp16⟩ := gl_in (by omega : glN x = 0)
  have e := (c3 k.toNat (by omega)).1
  have e2 := (c3 k.toNat (by omega)).2
  rw [show ((k.toNat : Nat) : Int) = k by omega] at e
  repeat (first | refine ⟨in_small (by omega) (by omega), ?_⟩ | (show (_ → _) ∧ (_ → _); first | refine ⟨by omega, fun _ => ?_⟩ | refine ⟨fun _ => ?_, by omega⟩) | refine ⟨by omega, ?_⟩ | refine ⟨⟨_, rfl, by assumption⟩, ?_⟩ | refine ⟨okT_I _, ?_⟩ | refine call0 (gd_of rfl) ?_)
  rw [e]
  refine mo_stand hI hW hp hp16 e2 (by omega) (q2 k.toNat (by omega)) fun D' h1 h2 => ?_
  simp only [P_X16_quotient, i_kil, i_icon, i_lcon, i_null, i_loadI, i_loadL, i_loadR, i_istore, i_lstore, i_astore, i_iinc, i_dup, i_dup2, i_pop, i_iadd, i_isub, i_imul, i_idiv, i_irem, i_ineg, i_iand, i_ior, i_ishl, i_ishr, i_lxor, i_ladd, i_lsub, i_lmul, i_ldiv, i_lrem, i_lneg, i_lshl, i_lcmp, i_i2l, i_l2i, i_i2b, i_i2s, i_ifeq, i_ifne, i_iflt, i_ifge, i_ifgt, i_ifle, i_cmpeq, i_cmpne, i_cmplt, i_cmpge, i_cmpgt, i_cmple, i_acmpeq, i_acmpne, i_ifnull, i_ifnonnull, i_getI, i_getR, i_putI, i_putZ, i_putR, i_ald, i_ldL, i_ldR, i_ast, i_stL, i_stR, i_alen, i_new, i_newa, i_iret, i_zret, i_lret, i_aret, i_vret, i_raise, i_throw, i_recv, i_objinit, i_tsw3, lget, lset, lput1, lput2, lkil, ltrim, largs, isL, takev, dropv, nthv, pushO, catv, gd, true_and, and_true, Option.some.injEq, Prod.mk.injEq, exists_eq_left', if_true, if_false, reduceCtorEq, Bool.false_eq_true, lcmp_ge, lcmp_lt, lcmp_le, lcmp_gt, lcmp_eq, true_or, or_true, not_true_eq_false, not_false_eq_true, false_implies, true_implies, List.length_cons, List.length_nil]
  subst hp
  exact K D' _ _ (rR_q (by omega) (.inl ⟨w2, by omega, rfl, rfl⟩)) h1 h2
theorem mo_rest {E : Ex} {B : Nat × Nat} {D : Dat} {x : Int} (hI : moI S D M s) (hW : crW N s) (hN : N < 1000) (K : mK E B S D M (oRest x s)) : Wp P_X16_rest E 0 [some (aR M), some (aI x)] [] B S D := by
  have o := hI.1.o
  obtain ⟨c1, c2⟩ := hI.1.h26
  obtain ⟨q1, q2, q3⟩ := hI.2.2.2.2.2.2.1
  have hgl := glN_le x
  have two : ∀ (f : Nat) (R : Cst → Int → Prop), 1 ≤ f ∧ f ≤ 7 → mK E B S D M R → R (uFn s f) (-(f : Int)) → Wp P_X16_rest E 2 [] [.inl (-(f : Int)), .inr (.inr (some M))] B S D := fun f R h1 hK h2 => by
    refine wp_in ?_
    simp only [P_X16_rest, i_kil, i_icon, i_lcon, i_null, i_loadI, i_loadL, i_loadR, i_istore, i_lstore, i_astore, i_iinc, i_dup, i_dup2, i_pop, i_iadd, i_isub, i_imul, i_idiv, i_irem, i_ineg, i_iand, i_ior, i_ishl, i_ishr, i_lxor, i_ladd, i_lsub, i_lmul, i_ldiv, i_lrem, i_lneg, i_lshl, i_lcmp, i_i2l, i_l2i, i_i2b, i_i2s, i_ifeq, i_ifne, i_iflt, i_ifge, i_ifgt, i_ifle, i_cmpeq, i_cmpne, i_cmplt, i_cmpge, i_cmpgt, i_cmple, i_acmpeq, i_acmpne, i_ifnull, i_ifnonnull, i_getI, i_getR, i_putI, i_putZ, i_putR, i_ald, i_ldL, i_ldR, i_ast, i_stL, i_stR, i_alen, i_new, i_newa, i_iret, i_zret, i_lret, i_aret, i_vret, i_raise, i_throw, i_recv, i_objinit, i_tsw3, lget, lset, lput1, lput2, lkil, ltrim, largs, isL, takev, dropv, nthv, pushO, catv, gd, true_and, and_true, Option.some.injEq, Prod.mk.injEq, exists_eq_left', if_true, if_false, reduceCtorEq, Bool.false_eq_true, lcmp_ge, lcmp_lt, lcmp_le, lcmp_gt, lcmp_eq, true_or, or_true, not_true_eq_false, not_false_eq_true, false_implies, true_implies, List.length_cons, List.length_nil, o]
    repeat (first | refine ⟨in_small (by omega) (by omega), ?_⟩ | (show (_ → _) ∧ (_ → _); first | refine ⟨by omega, fun _ => ?_⟩ | refine ⟨fun _ => ?_, by omega⟩) | refine ⟨by omega, ?_⟩ | refine ⟨⟨_, rfl, by assumption⟩, ?_⟩ | refine ⟨okT_I _, ?_⟩ | refine call0 (gd_of rfl) ?_)
    refine mo_ans hI hW hN h1 rfl fun D' h3 h4 => ?_
    simp only [P_X16_rest, i_kil, i_icon, i_lcon, i_null, i_loadI, i_loadL, i_loadR, i_istore, i_lstore, i_astore, i_iinc, i_dup, i_dup2, i_pop, i_iadd, i_isub, i_imul, i_idiv, i_irem, i_ineg, i_iand, i_ior, i_ishl, i_ishr, i_lxor, i_ladd, i_lsub, i_lmul, i_ldiv, i_lrem, i_lneg, i_lshl, i_lcmp, i_i2l, i_l2i, i_i2b, i_i2s, i_ifeq, i_ifne, i_iflt, i_ifge, i_ifgt, i_ifle, i_cmpeq, i_cmpne, i_cmplt, i_cmpge, i_cmpgt, i_cmple, i_acmpeq, i_acmpne, i_ifnull, i_ifnonnull, i_getI, i_getR, i_putI, i_putZ, i_putR, i_ald, i_ldL, i_ldR, i_ast, i_stL, i_stR, i_alen, i_new, i_newa, i_iret, i_zret, i_lret, i_aret, i_vret, i_raise, i_throw, i_recv, i_objinit, i_tsw3, lget, lset, lput1, lput2, lkil, ltrim, largs, isL, takev, dropv, nthv, pushO, catv, gd, true_and, and_true, Option.some.injEq, Prod.mk.injEq, exists_eq_left', if_true, if_false, reduceCtorEq, Bool.false_eq_true, lcmp_ge, lcmp_lt, lcmp_le, lcmp_gt, lcmp_eq, true_or, or_true, not_true_eq_false, not_false_eq_true, false_implies, true_implies, List.length_cons, List.length_nil]
    exact hK D' _ _ h2 h3 h4
  have one : (glN x ≠ 0 ∨ sRs s = none) → Wp P_X16_rest E 1 [some (aR M), none, some (aI (-(glN x : Int)))] [] B S D := fun h2 => by
    refine wp_in ?_
    simp only [P_X16_rest, i_kil, i_icon, i_lcon, i_null, i_loadI, i_loadL, i_loadR, i_istore, i_lstore, i_astore, i_iinc, i_dup, i_dup2, i_pop, i_iadd, i_isub, i_imul, i_idiv, i_irem, i_ineg, i_iand, i_ior, i_ishl, i_ishr, i_lxor, i_ladd, i_lsub, i_lmul, i_ldiv, i_lrem, i_lneg, i_lshl, i_lcmp, i_i2l, i_l2i, i_i2b, i_i2s, i_ifeq, i_ifne, i_iflt, i_ifge, i_ifgt, i_ifle, i_cmpeq, i_cmpne, i_cmplt, i_cmpge, i_cmpgt, i_cmple, i_acmpeq, i_acmpne, i_ifnull, i_ifnonnull, i_getI, i_getR, i_putI, i_putZ, i_putR, i_ald, i_ldL, i_ldR, i_ast, i_stL, i_stR, i_alen, i_new, i_newa, i_iret, i_zret, i_lret, i_aret, i_vret, i_raise, i_throw, i_recv, i_objinit, i_tsw3, lget, lset, lput1, lput2, lkil, ltrim, largs, isL, takev, dropv, nthv, pushO, catv, gd, true_and, and_true, Option.some.injEq, Prod.mk.injEq, exists_eq_left', if_true, if_false, reduceCtorEq, Bool.false_eq_true, lcmp_ge, lcmp_lt, lcmp_le, lcmp_gt, lcmp_eq, true_or, or_true, not_true_eq_false, not_false_eq_true, false_implies, true_implies, List.length_cons, List.length_nil]
    refine ⟨fun w => ?_, fun w => ?_⟩
    · exact two 7 _ (by decide) K (rR_q (by omega) (.inr ⟨by rcases h2 with h2 | h2; omega; exact h2, rfl, rfl⟩))
    · exact two (glN x) _ (by omega) K (rR_f (by omega) rfl)
  refine wp_in ?_
  simp only [P_X16_rest, i_kil, i_icon, i_lcon, i_null, i_loadI, i_loadL, i_loadR, i_istore, i_lstore, i_astore, i_iinc, i_dup, i_dup2, i_pop, i_iadd, i_isub, i_imul, i_idiv, i_irem, i_ineg, i_iand, i_ior, i_ishl, i_ishr, i_lxor, i_ladd, i_lsub, i_lmul, i_ldiv, i_lrem, i_lneg, i_lshl, i_lcmp, i_i2l, i_l2i, i_i2b, i_i2s, i_ifeq, i_ifne, i_iflt, i_ifge, i_ifgt, i_ifle, i_cmpeq, i_cmpne, i_cmplt, i_cmpge, i_cmpgt, i_cmple, i_acmpeq, i_acmpne, i_ifnull, i_ifnonnull, i_getI, i_getR, i_putI, i_putZ, i_putR, i_ald, i_ldL, i_ldR, i_ast, i_stL, i_stR, i_alen, i_new, i_newa, i_iret, i_zret, i_lret, i_aret, i_vret, i_raise, i_throw, i_recv, i_objinit, i_tsw3, lget, lset, lput1, lput2, lkil, ltrim, largs, isL, takev, dropv, nthv, pushO, catv, gd, true_and, and_true, Option.some.injEq, Prod.mk.injEq, exists_eq_left', if_true, if_false, reduceCtorEq, Bool.false_eq_true, lcmp_ge, lcmp_lt, lcmp_le, lcmp_gt, lcmp_eq, true_or, or_true, not_true_eq_false, not_false_eq_true, false_implies, true_implies, List.length_cons, List.length_nil, o]
  repeat (first | refine ⟨in_small (by omega) (by omega), ?_⟩ | (show (_ → _) ∧ (_ → _); first | refine ⟨by omega, fun _ => ?_⟩ | refine ⟨fun _ => ?_, by omega⟩) | refine ⟨by omega, ?_⟩ | refine ⟨⟨_, rfl, by assumption⟩, ?_⟩ | refine ⟨okT_I _, ?_⟩ | refine call0 (gd_of rfl) ?_)
  refine sp_goal o ?_
  simp only [P_X16_rest, i_kil, i_icon, i_lcon, i_null, i_loadI, i_loadL, i_loadR, i_istore, i_lstore, i_astore, i_iinc, i_dup, i_dup2, i_pop, i_iadd, i_isub, i_imul, i_idiv, i_irem, i_ineg, i_iand, i_ior, i_ishl, i_ishr, i_lxor, i_ladd, i_lsub, i_lmul, i_ldiv, i_lrem, i_lneg, i_lshl, i_lcmp, i_i2l, i_l2i, i_i2b, i_i2s, i_ifeq, i_ifne, i_iflt, i_ifge, i_ifgt, i_ifle, i_cmpeq, i_cmpne, i_cmplt, i_cmpge, i_cmpgt, i_cmple, i_acmpeq, i_acmpne, i_ifnull, i_ifnonnull, i_getI, i_getR, i_putI, i_putZ, i_putR, i_ald, i_ldL, i_ldR, i_ast, i_stL, i_stR, i_alen, i_new, i_newa, i_iret, i_zret, i_lret, i_aret, i_vret, i_raise, i_throw, i_recv, i_objinit, i_tsw3, lget, lset, lput1, lput2, lkil, ltrim, largs, isL, takev, dropv, nthv, pushO, catv, gd, true_and, and_true, Option.some.injEq, Prod.mk.injEq, exists_eq_left', if_true, if_false, reduceCtorEq, Bool.false_eq_true, lcmp_ge, lcmp_lt, lcmp_le, lcmp_gt, lcmp_eq, true_or, or_true, not_true_eq_false, not_false_eq_true, false_implies, true_implies, List.length_cons, List.length_nil, o, c1]
  refine ⟨fun w => one (.inl (by omega)), fun w => ⟨fun w3 => ?_, fun w3 => one (.inr ?_)⟩⟩
  · rw [q1] at w3
    obtain ⟨ρ, hρ⟩ : ∃ ρ, sRs s = some ρ := by
      rcases h : sRs s with _ | ρ
      · rw [if_pos h] at w3; exact absurd rfl w3
      · exact ⟨ρ, rfl⟩
    obtain ⟨p, hp, hp16⟩ := gl_in (by omega : glN x = 0)
    repeat (first | refine ⟨in_small (by omega) (by omega), ?_⟩ | (show (_ → _) ∧ (_ → _); first | refine ⟨by omega, fun _ => ?_⟩ | refine ⟨fun _ => ?_, by omega⟩) | refine ⟨by omega, ?_⟩ | refine ⟨⟨_, rfl, by assumption⟩, ?_⟩ | refine ⟨okT_I _, ?_⟩ | refine call0 (gd_of rfl) ?_)
    refine mo_stand hI hW hp hp16 c2 (by omega) (q2 ρ hρ) fun D' h1 h2 => ?_
    simp only [P_X16_rest, i_kil, i_icon, i_lcon, i_null, i_loadI, i_loadL, i_loadR, i_istore, i_lstore, i_astore, i_iinc, i_dup, i_dup2, i_pop, i_iadd, i_isub, i_imul, i_idiv, i_irem, i_ineg, i_iand, i_ior, i_ishl, i_ishr, i_lxor, i_ladd, i_lsub, i_lmul, i_ldiv, i_lrem, i_lneg, i_lshl, i_lcmp, i_i2l, i_l2i, i_i2b, i_i2s, i_ifeq, i_ifne, i_iflt, i_ifge, i_ifgt, i_ifle, i_cmpeq, i_cmpne, i_cmplt, i_cmpge, i_cmpgt, i_cmple, i_acmpeq, i_acmpne, i_ifnull, i_ifnonnull, i_getI, i_getR, i_putI, i_putZ, i_putR, i_ald, i_ldL, i_ldR, i_ast, i_stL, i_stR, i_alen, i_new, i_newa, i_iret, i_zret, i_lret, i_aret, i_vret, i_raise, i_throw, i_recv, i_objinit, i_tsw3, lget, lset, lput1, lput2, lkil, ltrim, largs, isL, takev, dropv, nthv, pushO, catv, gd, true_and, and_true, Option.some.injEq, Prod.mk.injEq, exists_eq_left', if_true, if_false, reduceCtorEq, Bool.false_eq_true, lcmp_ge, lcmp_lt, lcmp_le, lcmp_gt, lcmp_eq, true_or, or_true, not_true_eq_false, not_false_eq_true, false_implies, true_implies, List.length_cons, List.length_nil]
    subst hp
    exact K D' _ _ (rR_q (by omega) (.inl ⟨ρ, hρ, rfl, rfl⟩)) h1 h2
  · rw [q1] at w3
    rcases h : sRs s with _ | ρ
    · rfl
    · rw [if_neg (by rw [h]; exact fun q => nomatch q)] at w3; exact absurd w3 (by decide)
theorem mo_row {E : Ex} {B : Nat × Nat} {D : Dat} {x : Int} (hI : moI S D M s) (hW : crW N s) (hN : N < 1000) (K : mK E B S D M (oRow x s)) : Wp P_X16_row E 0 [some (aR M), some (aI x)] [] B S D := by
  have o := hI.1.o
  obtain ⟨c1, c2, c3⟩ := hI.1.h13
  obtain ⟨d1, d2, d3⟩ := hI.1.h22
  obtain ⟨q1, q2⟩ := hI.2.2.2.1
  have q6 := hW.2.2.1.1
  have hle := lkN_le s x 1
  have two : ∀ (f : Nat) (R : Cst → Int → Prop), 1 ≤ f ∧ f ≤ 7 → mK E B S D M R → R (uFn s f) (-(f : Int)) → Wp P_X16_row E 2 [] [.inl (-(f : Int)), .inr (.inr (some M))] B S D := fun f R h1 hK h2 => by
    refine wp_in ?_
    simp only [P_X16_row, i_kil, i_icon, i_lcon, i_null, i_loadI, i_loadL, i_loadR, i_istore, i_lstore, i_astore, i_iinc, i_dup, i_dup2, i_pop, i_iadd, i_isub, i_imul, i_idiv, i_irem, i_ineg, i_iand, i_ior, i_ishl, i_ishr, i_lxor, i_ladd, i_lsub, i_lmul, i_ldiv, i_lrem, i_lneg, i_lshl, i_lcmp, i_i2l, i_l2i, i_i2b, i_i2s, i_ifeq, i_ifne, i_iflt, i_ifge, i_ifgt, i_ifle, i_cmpeq, i_cmpne, i_cmplt, i_cmpge, i_cmpgt, i_cmple, i_acmpeq, i_acmpne, i_ifnull, i_ifnonnull, i_getI, i_getR, i_putI, i_putZ, i_putR, i_ald, i_ldL, i_ldR, i_ast, i_stL, i_stR, i_alen, i_new, i_newa, i_iret, i_zret, i_lret, i_aret, i_vret, i_raise, i_throw, i_recv, i_objinit, i_tsw3, lget, lset, lput1, lput2, lkil, ltrim, largs, isL, takev, dropv, nthv, pushO, catv, gd, true_and, and_true, Option.some.injEq, Prod.mk.injEq, exists_eq_left', if_true, if_false, reduceCtorEq, Bool.false_eq_true, lcmp_ge, lcmp_lt, lcmp_le, lcmp_gt, lcmp_eq, true_or, or_true, not_true_eq_false, not_false_eq_true, false_implies, true_implies, List.length_cons, List.length_nil, o]
    repeat (first | refine ⟨in_small (by omega) (by omega), ?_⟩ | (show (_ → _) ∧ (_ → _); first | refine ⟨by omega, fun _ => ?_⟩ | refine ⟨fun _ => ?_, by omega⟩) | refine ⟨by omega, ?_⟩ | refine ⟨⟨_, rfl, by assumption⟩, ?_⟩ | refine ⟨okT_I _, ?_⟩ | refine call0 (gd_of rfl) ?_)
    refine mo_ans hI hW hN h1 rfl fun D' h3 h4 => ?_
    simp only [P_X16_row, i_kil, i_icon, i_lcon, i_null, i_loadI, i_loadL, i_loadR, i_istore, i_lstore, i_astore, i_iinc, i_dup, i_dup2, i_pop, i_iadd, i_isub, i_imul, i_idiv, i_irem, i_ineg, i_iand, i_ior, i_ishl, i_ishr, i_lxor, i_ladd, i_lsub, i_lmul, i_ldiv, i_lrem, i_lneg, i_lshl, i_lcmp, i_i2l, i_l2i, i_i2b, i_i2s, i_ifeq, i_ifne, i_iflt, i_ifge, i_ifgt, i_ifle, i_cmpeq, i_cmpne, i_cmplt, i_cmpge, i_cmpgt, i_cmple, i_acmpeq, i_acmpne, i_ifnull, i_ifnonnull, i_getI, i_getR, i_putI, i_putZ, i_putR, i_ald, i_ldL, i_ldR, i_ast, i_stL, i_stR, i_alen, i_new, i_newa, i_iret, i_zret, i_lret, i_aret, i_vret, i_raise, i_throw, i_recv, i_objinit, i_tsw3, lget, lset, lput1, lput2, lkil, ltrim, largs, isL, takev, dropv, nthv, pushO, catv, gd, true_and, and_true, Option.some.injEq, Prod.mk.injEq, exists_eq_left', if_true, if_false, reduceCtorEq, Bool.false_eq_true, lcmp_ge, lcmp_lt, lcmp_le, lcmp_gt, lcmp_eq, true_or, or_true, not_true_eq_false, not_false_eq_true, false_implies, true_implies, List.length_cons, List.length_nil]
    exact hK D' _ _ h2 h3 h4
  have one : (lkN s x 1 ≠ 0 ∨ ¬ (sRw s).1 < 6) → Wp P_X16_row E 1 [some (aR M), none, some (aI (-(lkN s x 1 : Int)))] [] B S D := fun h2 => by
    refine wp_in ?_
    simp only [P_X16_row, i_kil, i_icon, i_lcon, i_null, i_loadI, i_loadL, i_loadR, i_istore, i_lstore, i_astore, i_iinc, i_dup, i_dup2, i_pop, i_iadd, i_isub, i_imul, i_idiv, i_irem, i_ineg, i_iand, i_ior, i_ishl, i_ishr, i_lxor, i_ladd, i_lsub, i_lmul, i_ldiv, i_lrem, i_lneg, i_lshl, i_lcmp, i_i2l, i_l2i, i_i2b, i_i2s, i_ifeq, i_ifne, i_iflt, i_ifge, i_ifgt, i_ifle, i_cmpeq, i_cmpne, i_cmplt, i_cmpge, i_cmpgt, i_cmple, i_acmpeq, i_acmpne, i_ifnull, i_ifnonnull, i_getI, i_getR, i_putI, i_putZ, i_putR, i_ald, i_ldL, i_ldR, i_ast, i_stL, i_stR, i_alen, i_new, i_newa, i_iret, i_zret, i_lret, i_aret, i_vret, i_raise, i_throw, i_recv, i_objinit, i_tsw3, lget, lset, lput1, lput2, lkil, ltrim, largs, isL, takev, dropv, nthv, pushO, catv, gd, true_and, and_true, Option.some.injEq, Prod.mk.injEq, exists_eq_left', if_true, if_false, reduceCtorEq, Bool.false_eq_true, lcmp_ge, lcmp_lt, lcmp_le, lcmp_gt, lcmp_eq, true_or, or_true, not_true_eq_false, not_false_eq_true, false_implies, true_implies, List.length_cons, List.length_nil]
    refine ⟨fun w => ?_, fun w => ?_⟩
    · have h0 : lkN s x 1 = 0 := by omega
      obtain ⟨p, φ, hp, hp16, ht⟩ := lk1 h0
      subst hp
      exact two 6 _ (by decide) K (rR_q h0 ⟨φ, ht, .inr ⟨by omega, rfl, rfl⟩⟩)
    · exact two (lkN s x 1) _ (by omega) K (rR_f (by omega) rfl)
  refine wp_in ?_
  simp only [P_X16_row, i_kil, i_icon, i_lcon, i_null, i_loadI, i_loadL, i_loadR, i_istore, i_lstore, i_astore, i_iinc, i_dup, i_dup2, i_pop, i_iadd, i_isub, i_imul, i_idiv, i_irem, i_ineg, i_iand, i_ior, i_ishl, i_ishr, i_lxor, i_ladd, i_lsub, i_lmul, i_ldiv, i_lrem, i_lneg, i_lshl, i_lcmp, i_i2l, i_l2i, i_i2b, i_i2s, i_ifeq, i_ifne, i_iflt, i_ifge, i_ifgt, i_ifle, i_cmpeq, i_cmpne, i_cmplt, i_cmpge, i_cmpgt, i_cmple, i_acmpeq, i_acmpne, i_ifnull, i_ifnonnull, i_getI, i_getR, i_putI, i_putZ, i_putR, i_ald, i_ldL, i_ldR, i_ast, i_stL, i_stR, i_alen, i_new, i_newa, i_iret, i_zret, i_lret, i_aret, i_vret, i_raise, i_throw, i_recv, i_objinit, i_tsw3, lget, lset, lput1, lput2, lkil, ltrim, largs, isL, takev, dropv, nthv, pushO, catv, gd, true_and, and_true, Option.some.injEq, Prod.mk.injEq, exists_eq_left', if_true, if_false, reduceCtorEq, Bool.false_eq_true, lcmp_ge, lcmp_lt, lcmp_le, lcmp_gt, lcmp_eq, true_or, or_true, not_true_eq_false, not_false_eq_true, false_implies, true_implies, List.length_cons, List.length_nil, o]
  repeat (first | refine ⟨in_small (by omega) (by omega), ?_⟩ | (show (_ → _) ∧ (_ → _); first | refine ⟨by omega, fun _ => ?_⟩ | refine ⟨fun _ => ?_, by omega⟩) | refine ⟨by omega, ?_⟩ | refine ⟨⟨_, rfl, by assumption⟩, ?_⟩ | refine ⟨okT_I _, ?_⟩ | refine call0 (gd_of rfl) ?_)
  refine mo_look (k := 1) hI rfl ?_
  simp only [P_X16_row, i_kil, i_icon, i_lcon, i_null, i_loadI, i_loadL, i_loadR, i_istore, i_lstore, i_astore, i_iinc, i_dup, i_dup2, i_pop, i_iadd, i_isub, i_imul, i_idiv, i_irem, i_ineg, i_iand, i_ior, i_ishl, i_ishr, i_lxor, i_ladd, i_lsub, i_lmul, i_ldiv, i_lrem, i_lneg, i_lshl, i_lcmp, i_i2l, i_l2i, i_i2b, i_i2s, i_ifeq, i_ifne, i_iflt, i_ifge, i_ifgt, i_ifle, i_cmpeq, i_cmpne, i_cmplt, i_cmpge, i_cmpgt, i_cmple, i_acmpeq, i_acmpne, i_ifnull, i_ifnonnull, i_getI, i_getR, i_putI, i_putZ, i_putR, i_ald, i_ldL, i_ldR, i_ast, i_stL, i_stR, i_alen, i_new, i_newa, i_iret, i_zret, i_lret, i_aret, i_vret, i_raise, i_throw, i_recv, i_objinit, i_tsw3, lget, lset, lput1, lput2, lkil, ltrim, largs, isL, takev, dropv, nthv, pushO, catv, gd, true_and, and_true, Option.some.injEq, Prod.mk.injEq, exists_eq_left', if_true, if_false, reduceCtorEq, Bool.false_eq_true, lcmp_ge, lcmp_lt, lcmp_le, lcmp_gt, lcmp_eq, true_or, or_true, not_true_eq_false, not_false_eq_true, false_implies, true_implies, List.length_cons, List.length_nil, o, c1, c2, d1, d2, q1]
  refine ⟨fun w => one (.inl (by omega)), fun w => ⟨fun w3 => ?_, fun w3 => one (.inr (by omega))⟩⟩
  have h0 : lkN s x 1 = 0 := by omega
  obtain ⟨p, φ, hp, hp16, ht⟩ := lk1 h0
  subst hp
  obtain ⟨hm, hs1, hs2, hs3⟩ := hI.poly hp16 ht
  obtain ⟨e1, e2⟩ := d3 (sRw s).1 (by omega)
  repeat (first | refine ⟨in_small (by omega) (by omega), ?_⟩ | (show (_ → _) ∧ (_ → _); first | refine ⟨by omega, fun _ => ?_⟩ | refine ⟨fun _ => ?_, by omega⟩) | refine ⟨by omega, ?_⟩ | refine ⟨⟨_, rfl, by assumption⟩, ?_⟩ | refine ⟨okT_I _, ?_⟩ | refine call0 (gd_of rfl) ?_)
  have e3 := e2.1
  simp only [e1, hs1]
  repeat (first | refine ⟨in_small (by omega) (by omega), ?_⟩ | (show (_ → _) ∧ (_ → _); first | refine ⟨by omega, fun _ => ?_⟩ | refine ⟨fun _ => ?_, by omega⟩) | refine ⟨by omega, ?_⟩ | refine ⟨⟨_, rfl, by assumption⟩, ?_⟩ | refine ⟨okT_I _, ?_⟩ | refine call0 (gd_of rfl) ?_)
  refine sp_X18_copy e2 hs2 (by omega) hm fun D1 g1 g2 => ?_
  have q1' : D1 M 23 = (sRw s).1 := by rw [g1 M 23 (by omega)]; exact q1
  simp only [P_X16_row, i_kil, i_icon, i_lcon, i_null, i_loadI, i_loadL, i_loadR, i_istore, i_lstore, i_astore, i_iinc, i_dup, i_dup2, i_pop, i_iadd, i_isub, i_imul, i_idiv, i_irem, i_ineg, i_iand, i_ior, i_ishl, i_ishr, i_lxor, i_ladd, i_lsub, i_lmul, i_ldiv, i_lrem, i_lneg, i_lshl, i_lcmp, i_i2l, i_l2i, i_i2b, i_i2s, i_ifeq, i_ifne, i_iflt, i_ifge, i_ifgt, i_ifle, i_cmpeq, i_cmpne, i_cmplt, i_cmpge, i_cmpgt, i_cmple, i_acmpeq, i_acmpne, i_ifnull, i_ifnonnull, i_getI, i_getR, i_putI, i_putZ, i_putR, i_ald, i_ldL, i_ldR, i_ast, i_stL, i_stR, i_alen, i_new, i_newa, i_iret, i_zret, i_lret, i_aret, i_vret, i_raise, i_throw, i_recv, i_objinit, i_tsw3, lget, lset, lput1, lput2, lkil, ltrim, largs, isL, takev, dropv, nthv, pushO, catv, gd, true_and, and_true, Option.some.injEq, Prod.mk.injEq, exists_eq_left', if_true, if_false, reduceCtorEq, Bool.false_eq_true, lcmp_ge, lcmp_lt, lcmp_le, lcmp_gt, lcmp_eq, true_or, or_true, not_true_eq_false, not_false_eq_true, false_implies, true_implies, List.length_cons, List.length_nil, o, q1']
  repeat (first | refine ⟨in_small (by omega) (by omega), ?_⟩ | (show (_ → _) ∧ (_ → _); first | refine ⟨by omega, fun _ => ?_⟩ | refine ⟨fun _ => ?_, by omega⟩) | refine ⟨by omega, ?_⟩ | refine ⟨⟨_, rfl, by assumption⟩, ?_⟩ | refine ⟨okT_I _, ?_⟩ | refine call0 (gd_of rfl) ?_)
  rw [pmu_eq]
  refine K _ _ _ (rR_q h0 ⟨φ, ht, .inl ⟨by omega, rfl, by omega⟩⟩) (hI.setRw hW (fun c i h1 h2 => ?_) ⟨?_, fun k hk => ?_⟩ (hI.sm.cgr fun c i h => ?_)) fun c i hc => ?_
  · have n1 : c ≠ M ∨ i ≠ 23 := by
      rcases Nat.decEq c M with w | w
      · exact .inl w
      · exact .inr fun q => h2 (.inl ⟨w, q⟩)
    rw [pmu_ne n1, g1 c i ?_]
    by_cases h3 : c < M + 16099 + 488 * (sRw s).1 ∨ M + 16099 + 488 * (sRw s).1 + 243 < c
    · exact h3
    · exact absurd (.inr ⟨(sRw s).1, by omega, by omega, by omega⟩) h2
  · rw [pmu_eq]; show _ = (((sRw s).1 + 1 : Nat) : Int); omega
  · show mpP _ _ (if k = (sRw s).1 then φ else (sRw s).2 k)
    rcases Nat.decEq k (sRw s).1 with w | w
    · rw [if_neg w]
      have : k < (sRw s).1 + 1 := hk
      exact (q2 k (by omega)).cgr fun c i h1 h2 => by rw [pmu_ne (by omega), g1 c i (by omega)]
    · rw [if_pos w, w]
      exact g2.cgr fun c i h1 h2 => by rw [pmu_ne (by omega)]
  · unfold pSm at h
    rw [pmu_ne (by omega), g1 c i (by omega)]
  · rw [pmu_ne (by omega), g1 c i (by omega)]
end MOR
