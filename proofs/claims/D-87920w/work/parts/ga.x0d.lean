/-! the component is made -/
-- needs: g9.x0c
set_option maxRecDepth 100000
set_option linter.unusedVariables false
set_option maxHeartbeats 40000000 in
theorem mk_X0 : Mk P_X0_init 0 (fun q => [some (aR q)]) 818 399202 (fun S D q => cfx S q ∧ x0D S D q) 819 := fun E B S D q hB h1 h2 h3 h4 K => by
  refine wp_in ?_
  simp only [P_X0_init, i_objinit, i_kil, i_icon, i_lcon, i_null, i_loadI, i_loadL, i_loadR, i_istore, i_lstore, i_astore, i_iinc, i_dup, i_dup2, i_pop, i_iadd, i_isub, i_imul, i_idiv, i_irem, i_ineg, i_iand, i_ior, i_ishl, i_ishr, i_lxor, i_ladd, i_lsub, i_lmul, i_ldiv, i_lrem, i_lneg, i_lshl, i_lcmp, i_i2l, i_l2i, i_i2b, i_i2s, i_ifeq, i_ifne, i_iflt, i_ifge, i_ifgt, i_ifle, i_cmpeq, i_cmpne, i_cmplt, i_cmpge, i_cmpgt, i_cmple, i_acmpeq, i_acmpne, i_ifnull, i_ifnonnull, i_getI, i_getR, i_putI, i_putZ, i_ald, i_ldL, i_ldR, i_ast, i_stL, i_stR, i_alen, i_iret, i_zret, i_lret, i_aret, i_vret, i_raise, i_throw, i_recv, i_objinit, i_tsw3, lget, lset, lput1, lput2, lkil, ltrim, largs, isL, takev, dropv, nthv, pushO, catv, gd, true_and, and_true, Option.some.injEq, Prod.mk.injEq, exists_eq_left', if_true, if_false, reduceCtorEq, Bool.false_eq_true, lcmp_ge, lcmp_lt, lcmp_le, lcmp_gt, lcmp_eq, true_or, or_true, not_true_eq_false, not_false_eq_true, false_implies, true_implies, List.length_cons, List.length_nil, h1]
  refine ⟨by decide, ?_⟩
  have u0 : 818 ≤ B.1 ∧ 399202 ≤ B.2 := ⟨Nat.le_of_eq hB.1.symm, Nat.le_of_eq hB.2.symm⟩
  try simp only [P_X0_init, i_kil, i_icon, i_lcon, i_null, i_loadI, i_loadL, i_loadR, i_istore, i_lstore, i_astore, i_iinc, i_dup, i_dup2, i_pop, i_iadd, i_isub, i_imul, i_idiv, i_irem, i_ineg, i_iand, i_ior, i_ishl, i_ishr, i_lxor, i_ladd, i_lsub, i_lmul, i_ldiv, i_lrem, i_lneg, i_lshl, i_lcmp, i_i2l, i_l2i, i_i2b, i_i2s, i_ifeq, i_ifne, i_iflt, i_ifge, i_ifgt, i_ifle, i_cmpeq, i_cmpne, i_cmplt, i_cmpge, i_cmpgt, i_cmple, i_acmpeq, i_acmpne, i_ifnull, i_ifnonnull, i_getI, i_getR, i_putZ, i_ald, i_ldL, i_ldR, i_ast, i_stL, i_stR, i_alen, i_new, i_iret, i_zret, i_lret, i_aret, i_vret, i_raise, i_throw, i_recv, i_objinit, i_tsw3, lget, lset, lput1, lput2, lkil, ltrim, largs, isL, takev, dropv, nthv, pushO, catv, gd, true_and, and_true, Option.some.injEq, Prod.mk.injEq, exists_eq_left', if_true, if_false, reduceCtorEq, Bool.false_eq_true, lcmp_ge, lcmp_lt, lcmp_le, lcmp_gt, lcmp_eq, true_or, or_true, not_true_eq_false, not_false_eq_true, false_implies, true_implies, List.length_cons, List.length_nil, h1]
  refine fldA (p := q) (n := 8) (by decide) ⟨Nat.le_trans (by decide) u0.1, Nat.le_trans (by decide) u0.2⟩ (by rw [h2]; exact Nat.lt_add_of_pos_right (by decide)) h1 fun B1 S1 D1 u1 b1 n1 r1 d1 x1 => ?_
  rw [h2] at n1 r1 x1
  replace u1 : 817 ≤ B1.1 ∧ 399194 ≤ B1.2 := ⟨ubB u0.1 u1.1 (by decide), ubB u0.2 u1.2 (by decide)⟩
  clear u0
  replace n1 : S1.2.2 = q + 2 := n1
  have o1 : S1.1 q = some (0, 0) := by rw [b1.2.1 q (by rw [h2]; exact Nat.lt_add_of_pos_right (by decide))]; exact h1
  simp only [P_X0_init, i_kil, i_icon, i_lcon, i_null, i_loadI, i_loadL, i_loadR, i_istore, i_lstore, i_astore, i_iinc, i_dup, i_dup2, i_pop, i_iadd, i_isub, i_imul, i_idiv, i_irem, i_ineg, i_iand, i_ior, i_ishl, i_ishr, i_lxor, i_ladd, i_lsub, i_lmul, i_ldiv, i_lrem, i_lneg, i_lshl, i_lcmp, i_i2l, i_l2i, i_i2b, i_i2s, i_ifeq, i_ifne, i_iflt, i_ifge, i_ifgt, i_ifle, i_cmpeq, i_cmpne, i_cmplt, i_cmpge, i_cmpgt, i_cmple, i_acmpeq, i_acmpne, i_ifnull, i_ifnonnull, i_getI, i_getR, i_putZ, i_ald, i_ldL, i_ldR, i_ast, i_stL, i_stR, i_alen, i_new, i_iret, i_zret, i_lret, i_aret, i_vret, i_raise, i_throw, i_recv, i_objinit, i_tsw3, lget, lset, lput1, lput2, lkil, ltrim, largs, isL, takev, dropv, nthv, pushO, catv, gd, true_and, and_true, Option.some.injEq, Prod.mk.injEq, exists_eq_left', if_true, if_false, reduceCtorEq, Bool.false_eq_true, lcmp_ge, lcmp_lt, lcmp_le, lcmp_gt, lcmp_eq, true_or, or_true, not_true_eq_false, not_false_eq_true, false_implies, true_implies, List.length_cons, List.length_nil, o1]
  refine fldA (p := q) (n := 8) (by decide) ⟨Nat.le_trans (by decide) u1.1, Nat.le_trans (by decide) u1.2⟩ (by rw [n1]; exact Nat.lt_add_of_pos_right (by decide)) o1 fun B2 S2 D2 u2 b2 n2 r2 d2 x2 => ?_
  rw [n1] at n2 r2 x2
  replace u2 : 816 ≤ B2.1 ∧ 399186 ≤ B2.2 := ⟨ubB u1.1 u2.1 (by decide), ubB u1.2 u2.2 (by decide)⟩
  clear u1
  replace n2 : S2.2.2 = q + 3 := n2
  have o2 : S2.1 q = some (0, 0) := by rw [b2.2.1 q (by rw [n1]; exact Nat.lt_add_of_pos_right (by decide))]; exact o1
  simp only [P_X0_init, i_kil, i_icon, i_lcon, i_null, i_loadI, i_loadL, i_loadR, i_istore, i_lstore, i_astore, i_iinc, i_dup, i_dup2, i_pop, i_iadd, i_isub, i_imul, i_idiv, i_irem, i_ineg, i_iand, i_ior, i_ishl, i_ishr, i_lxor, i_ladd, i_lsub, i_lmul, i_ldiv, i_lrem, i_lneg, i_lshl, i_lcmp, i_i2l, i_l2i, i_i2b, i_i2s, i_ifeq, i_ifne, i_iflt, i_ifge, i_ifgt, i_ifle, i_cmpeq, i_cmpne, i_cmplt, i_cmpge, i_cmpgt, i_cmple, i_acmpeq, i_acmpne, i_ifnull, i_ifnonnull, i_getI, i_getR, i_putZ, i_ald, i_ldL, i_ldR, i_ast, i_stL, i_stR, i_alen, i_new, i_iret, i_zret, i_lret, i_aret, i_vret, i_raise, i_throw, i_recv, i_objinit, i_tsw3, lget, lset, lput1, lput2, lkil, ltrim, largs, isL, takev, dropv, nthv, pushO, catv, gd, true_and, and_true, Option.some.injEq, Prod.mk.injEq, exists_eq_left', if_true, if_false, reduceCtorEq, Bool.false_eq_true, lcmp_ge, lcmp_lt, lcmp_le, lcmp_gt, lcmp_eq, true_or, or_true, not_true_eq_false, not_false_eq_true, false_implies, true_implies, List.length_cons, List.length_nil, o2]
  refine fld (p := q) mk_X1 X1t.loc ⟨Nat.le_trans (by decide) u2.1, Nat.le_trans (by decide) u2.2⟩ (by rw [n2]; exact Nat.lt_add_of_pos_right (by decide)) o2 (by decide) (by rfl) (by rfl) (by rfl) fun B3 S3 D3 u3 b3 n3 r3 d3 x3 => ?_
  rw [n2] at n3 r3 x3
  replace u3 : 797 ≤ B3.1 ∧ 396984 ≤ B3.2 := ⟨ubB u2.1 u3.1 (by decide), ubB u2.2 u3.2 (by decide)⟩
  clear u2
  replace n3 : S3.2.2 = q + 22 := n3
  have o3 : S3.1 q = some (0, 0) := by rw [b3.2.1 q (by rw [n2]; exact Nat.lt_add_of_pos_right (by decide))]; exact o2
  simp only [P_X0_init, i_kil, i_icon, i_lcon, i_null, i_loadI, i_loadL, i_loadR, i_istore, i_lstore, i_astore, i_iinc, i_dup, i_dup2, i_pop, i_iadd, i_isub, i_imul, i_idiv, i_irem, i_ineg, i_iand, i_ior, i_ishl, i_ishr, i_lxor, i_ladd, i_lsub, i_lmul, i_ldiv, i_lrem, i_lneg, i_lshl, i_lcmp, i_i2l, i_l2i, i_i2b, i_i2s, i_ifeq, i_ifne, i_iflt, i_ifge, i_ifgt, i_ifle, i_cmpeq, i_cmpne, i_cmplt, i_cmpge, i_cmpgt, i_cmple, i_acmpeq, i_acmpne, i_ifnull, i_ifnonnull, i_getI, i_getR, i_putZ, i_ald, i_ldL, i_ldR, i_ast, i_stL, i_stR, i_alen, i_new, i_iret, i_zret, i_lret, i_aret, i_vret, i_raise, i_throw, i_recv, i_objinit, i_tsw3, lget, lset, lput1, lput2, lkil, ltrim, largs, isL, takev, dropv, nthv, pushO, catv, gd, true_and, and_true, Option.some.injEq, Prod.mk.injEq, exists_eq_left', if_true, if_false, reduceCtorEq, Bool.false_eq_true, lcmp_ge, lcmp_lt, lcmp_le, lcmp_gt, lcmp_eq, true_or, or_true, not_true_eq_false, not_false_eq_true, false_implies, true_implies, List.length_cons, List.length_nil, o3]
  refine fld (p := q) mk_X2 X2r.loc ⟨Nat.le_trans (by decide) u3.1, Nat.le_trans (by decide) u3.2⟩ (by rw [n3]; exact Nat.lt_add_of_pos_right (by decide)) o3 (by decide) (by rfl) (by rfl) (by rfl) fun B4 S4 D4 u4 b4 n4 r4 d4 x4 => ?_
  rw [n3] at n4 r4 x4
  replace u4 : 786 ≤ B4.1 ∧ 395686 ≤ B4.2 := ⟨ubB u3.1 u4.1 (by decide), ubB u3.2 u4.2 (by decide)⟩
  clear u3
  replace n4 : S4.2.2 = q + 33 := n4
  have o4 : S4.1 q = some (0, 0) := by rw [b4.2.1 q (by rw [n3]; exact Nat.lt_add_of_pos_right (by decide))]; exact o3
  have m5 := mkS1 (by rw [n4]; exact Nat.lt_add_of_pos_right (by decide)) o4
  have t3_5 : S4.2.1 q 3 = some (q + 3) := by simp only [r4, r3, r2, r1]; rfl
  have k3_5 := mkS2 (by rw [n4]; exact Nat.lt_add_of_pos_right (by decide)) t3_5
  have t4_5 : S4.2.1 q 4 = some (q + 22) := by simp only [r4, r3, r2, r1]; rfl
  have k4_5 := mkS2 (by rw [n4]; exact Nat.lt_add_of_pos_right (by decide)) t4_5
  simp only [P_X0_init, i_kil, i_icon, i_lcon, i_null, i_loadI, i_loadL, i_loadR, i_istore, i_lstore, i_astore, i_iinc, i_dup, i_dup2, i_pop, i_iadd, i_isub, i_imul, i_idiv, i_irem, i_ineg, i_iand, i_ior, i_ishl, i_ishr, i_lxor, i_ladd, i_lsub, i_lmul, i_ldiv, i_lrem, i_lneg, i_lshl, i_lcmp, i_i2l, i_l2i, i_i2b, i_i2s, i_ifeq, i_ifne, i_iflt, i_ifge, i_ifgt, i_ifle, i_cmpeq, i_cmpne, i_cmplt, i_cmpge, i_cmpgt, i_cmple, i_acmpeq, i_acmpne, i_ifnull, i_ifnonnull, i_getI, i_getR, i_putZ, i_ald, i_ldL, i_ldR, i_ast, i_stL, i_stR, i_alen, i_new, i_iret, i_zret, i_lret, i_aret, i_vret, i_raise, i_throw, i_recv, i_objinit, i_tsw3, lget, lset, lput1, lput2, lkil, ltrim, largs, isL, takev, dropv, nthv, pushO, catv, gd, true_and, and_true, Option.some.injEq, Prod.mk.injEq, exists_eq_left', if_true, if_false, reduceCtorEq, Bool.false_eq_true, lcmp_ge, lcmp_lt, lcmp_le, lcmp_gt, lcmp_eq, true_or, or_true, not_true_eq_false, not_false_eq_true, false_implies, true_implies, List.length_cons, List.length_nil, o4, m5, t3_5, k3_5, t4_5, k4_5]
  refine fld (p := q) (mk_X4 (q + 3) (q + 22)) (X4d.loc (q + 3) (q + 22)) ⟨Nat.le_trans (by decide) u4.1, Nat.le_trans (by decide) u4.2⟩ (by rw [n4]; exact Nat.lt_add_of_pos_right (by decide)) o4 (by decide) (by rfl) (by rfl) (by rfl) fun B5 S5 D5 u5 b5 n5 r5 d5 x5 => ?_
  rw [n4] at n5 r5 x5
  replace u5 : 754 ≤ B5.1 ∧ 380020 ≤ B5.2 := ⟨ubB u4.1 u5.1 (by decide), ubB u4.2 u5.2 (by decide)⟩
  clear u4
  replace n5 : S5.2.2 = q + 65 := n5
  have o5 : S5.1 q = some (0, 0) := by rw [b5.2.1 q (by rw [n4]; exact Nat.lt_add_of_pos_right (by decide))]; exact o4
  clear t3_5 k3_5
  clear t4_5 k4_5
  have m6 := mkS1 (by rw [n5]; exact Nat.lt_add_of_pos_right (by decide)) o5
  have t3_6 : S5.2.1 q 3 = some (q + 3) := by simp only [r5, r4, r3, r2, r1]; rfl
  have k3_6 := mkS2 (by rw [n5]; exact Nat.lt_add_of_pos_right (by decide)) t3_6
  have t4_6 : S5.2.1 q 4 = some (q + 22) := by simp only [r5, r4, r3, r2, r1]; rfl
  have k4_6 := mkS2 (by rw [n5]; exact Nat.lt_add_of_pos_right (by decide)) t4_6
  simp only [P_X0_init, i_kil, i_icon, i_lcon, i_null, i_loadI, i_loadL, i_loadR, i_istore, i_lstore, i_astore, i_iinc, i_dup, i_dup2, i_pop, i_iadd, i_isub, i_imul, i_idiv, i_irem, i_ineg, i_iand, i_ior, i_ishl, i_ishr, i_lxor, i_ladd, i_lsub, i_lmul, i_ldiv, i_lrem, i_lneg, i_lshl, i_lcmp, i_i2l, i_l2i, i_i2b, i_i2s, i_ifeq, i_ifne, i_iflt, i_ifge, i_ifgt, i_ifle, i_cmpeq, i_cmpne, i_cmplt, i_cmpge, i_cmpgt, i_cmple, i_acmpeq, i_acmpne, i_ifnull, i_ifnonnull, i_getI, i_getR, i_putZ, i_ald, i_ldL, i_ldR, i_ast, i_stL, i_stR, i_alen, i_new, i_iret, i_zret, i_lret, i_aret, i_vret, i_raise, i_throw, i_recv, i_objinit, i_tsw3, lget, lset, lput1, lput2, lkil, ltrim, largs, isL, takev, dropv, nthv, pushO, catv, gd, true_and, and_true, Option.some.injEq, Prod.mk.injEq, exists_eq_left', if_true, if_false, reduceCtorEq, Bool.false_eq_true, lcmp_ge, lcmp_lt, lcmp_le, lcmp_gt, lcmp_eq, true_or, or_true, not_true_eq_false, not_false_eq_true, false_implies, true_implies, List.length_cons, List.length_nil, o5, m6, t3_6, k3_6, t4_6, k4_6]
  refine fld (p := q) (mk_X7 (q + 3) (q + 22)) (X7s.loc (q + 3) (q + 22)) ⟨Nat.le_trans (by decide) u5.1, Nat.le_trans (by decide) u5.2⟩ (by rw [n5]; exact Nat.lt_add_of_pos_right (by decide)) o5 (by decide) (by rfl) (by rfl) (by rfl) fun B6 S6 D6 u6 b6 n6 r6 d6 x6 => ?_
  rw [n5] at n6 r6 x6
  replace u6 : 594 ≤ B6.1 ∧ 345480 ≤ B6.2 := ⟨ubB u5.1 u6.1 (by decide), ubB u5.2 u6.2 (by decide)⟩
  clear u5
  replace n6 : S6.2.2 = q + 225 := n6
  have o6 : S6.1 q = some (0, 0) := by rw [b6.2.1 q (by rw [n5]; exact Nat.lt_add_of_pos_right (by decide))]; exact o5
  clear t3_6 k3_6
  clear t4_6 k4_6
  have m7 := mkS1 (by rw [n6]; exact Nat.lt_add_of_pos_right (by decide)) o6
  have t4_7 : S6.2.1 q 4 = some (q + 22) := by simp only [r6, r5, r4, r3, r2, r1]; rfl
  have k4_7 := mkS2 (by rw [n6]; exact Nat.lt_add_of_pos_right (by decide)) t4_7
  simp only [P_X0_init, i_kil, i_icon, i_lcon, i_null, i_loadI, i_loadL, i_loadR, i_istore, i_lstore, i_astore, i_iinc, i_dup, i_dup2, i_pop, i_iadd, i_isub, i_imul, i_idiv, i_irem, i_ineg, i_iand, i_ior, i_ishl, i_ishr, i_lxor, i_ladd, i_lsub, i_lmul, i_ldiv, i_lrem, i_lneg, i_lshl, i_lcmp, i_i2l, i_l2i, i_i2b, i_i2s, i_ifeq, i_ifne, i_iflt, i_ifge, i_ifgt, i_ifle, i_cmpeq, i_cmpne, i_cmplt, i_cmpge, i_cmpgt, i_cmple, i_acmpeq, i_acmpne, i_ifnull, i_ifnonnull, i_getI, i_getR, i_putZ, i_ald, i_ldL, i_ldR, i_ast, i_stL, i_stR, i_alen, i_new, i_iret, i_zret, i_lret, i_aret, i_vret, i_raise, i_throw, i_recv, i_objinit, i_tsw3, lget, lset, lput1, lput2, lkil, ltrim, largs, isL, takev, dropv, nthv, pushO, catv, gd, true_and, and_true, Option.some.injEq, Prod.mk.injEq, exists_eq_left', if_true, if_false, reduceCtorEq, Bool.false_eq_true, lcmp_ge, lcmp_lt, lcmp_le, lcmp_gt, lcmp_eq, true_or, or_true, not_true_eq_false, not_false_eq_true, false_implies, true_implies, List.length_cons, List.length_nil, o6, m7, t4_7, k4_7]
  refine fld (p := q) (mk_X8 (q + 22)) (X8c.loc (q + 22)) ⟨Nat.le_trans (by decide) u6.1, Nat.le_trans (by decide) u6.2⟩ (by rw [n6]; exact Nat.lt_add_of_pos_right (by decide)) o6 (by decide) (by rfl) (by rfl) (by rfl) fun B7 S7 D7 u7 b7 n7 r7 d7 x7 => ?_
  rw [n6] at n7 r7 x7
  replace u7 : 374 ≤ B7.1 ∧ 328563 ≤ B7.2 := ⟨ubB u6.1 u7.1 (by decide), ubB u6.2 u7.2 (by decide)⟩
  clear u6
  replace n7 : S7.2.2 = q + 445 := n7
  have o7 : S7.1 q = some (0, 0) := by rw [b7.2.1 q (by rw [n6]; exact Nat.lt_add_of_pos_right (by decide))]; exact o6
  clear t4_7 k4_7
  have m8 := mkS1 (by rw [n7]; exact Nat.lt_add_of_pos_right (by decide)) o7
  have t4_8 : S7.2.1 q 4 = some (q + 22) := by simp only [r7, r6, r5, r4, r3, r2, r1]; rfl
  have k4_8 := mkS2 (by rw [n7]; exact Nat.lt_add_of_pos_right (by decide)) t4_8
  simp only [P_X0_init, i_kil, i_icon, i_lcon, i_null, i_loadI, i_loadL, i_loadR, i_istore, i_lstore, i_astore, i_iinc, i_dup, i_dup2, i_pop, i_iadd, i_isub, i_imul, i_idiv, i_irem, i_ineg, i_iand, i_ior, i_ishl, i_ishr, i_lxor, i_ladd, i_lsub, i_lmul, i_ldiv, i_lrem, i_lneg, i_lshl, i_lcmp, i_i2l, i_l2i, i_i2b, i_i2s, i_ifeq, i_ifne, i_iflt, i_ifge, i_ifgt, i_ifle, i_cmpeq, i_cmpne, i_cmplt, i_cmpge, i_cmpgt, i_cmple, i_acmpeq, i_acmpne, i_ifnull, i_ifnonnull, i_getI, i_getR, i_putZ, i_ald, i_ldL, i_ldR, i_ast, i_stL, i_stR, i_alen, i_new, i_iret, i_zret, i_lret, i_aret, i_vret, i_raise, i_throw, i_recv, i_objinit, i_tsw3, lget, lset, lput1, lput2, lkil, ltrim, largs, isL, takev, dropv, nthv, pushO, catv, gd, true_and, and_true, Option.some.injEq, Prod.mk.injEq, exists_eq_left', if_true, if_false, reduceCtorEq, Bool.false_eq_true, lcmp_ge, lcmp_lt, lcmp_le, lcmp_gt, lcmp_eq, true_or, or_true, not_true_eq_false, not_false_eq_true, false_implies, true_implies, List.length_cons, List.length_nil, o7, m8, t4_8, k4_8]
  refine fld (p := q) (mk_X8 (q + 22)) (X8c.loc (q + 22)) ⟨Nat.le_trans (by decide) u7.1, Nat.le_trans (by decide) u7.2⟩ (by rw [n7]; exact Nat.lt_add_of_pos_right (by decide)) o7 (by decide) (by rfl) (by rfl) (by rfl) fun B8 S8 D8 u8 b8 n8 r8 d8 x8 => ?_
  rw [n7] at n8 r8 x8
  replace u8 : 154 ≤ B8.1 ∧ 311646 ≤ B8.2 := ⟨ubB u7.1 u8.1 (by decide), ubB u7.2 u8.2 (by decide)⟩
  clear u7
  replace n8 : S8.2.2 = q + 665 := n8
  have o8 : S8.1 q = some (0, 0) := by rw [b8.2.1 q (by rw [n7]; exact Nat.lt_add_of_pos_right (by decide))]; exact o7
  clear t4_8 k4_8
  have m9 := mkS1 (by rw [n8]; exact Nat.lt_add_of_pos_right (by decide)) o8
  have t4_9 : S8.2.1 q 4 = some (q + 22) := by simp only [r8, r7, r6, r5, r4, r3, r2, r1]; rfl
  have k4_9 := mkS2 (by rw [n8]; exact Nat.lt_add_of_pos_right (by decide)) t4_9
  simp only [P_X0_init, i_kil, i_icon, i_lcon, i_null, i_loadI, i_loadL, i_loadR, i_istore, i_lstore, i_astore, i_iinc, i_dup, i_dup2, i_pop, i_iadd, i_isub, i_imul, i_idiv, i_irem, i_ineg, i_iand, i_ior, i_ishl, i_ishr, i_lxor, i_ladd, i_lsub, i_lmul, i_ldiv, i_lrem, i_lneg, i_lshl, i_lcmp, i_i2l, i_l2i, i_i2b, i_i2s, i_ifeq, i_ifne, i_iflt, i_ifge, i_ifgt, i_ifle, i_cmpeq, i_cmpne, i_cmplt, i_cmpge, i_cmpgt, i_cmple, i_acmpeq, i_acmpne, i_ifnull, i_ifnonnull, i_getI, i_getR, i_putZ, i_ald, i_ldL, i_ldR, i_ast, i_stL, i_stR, i_alen, i_new, i_iret, i_zret, i_lret, i_aret, i_vret, i_raise, i_throw, i_recv, i_objinit, i_tsw3, lget, lset, lput1, lput2, lkil, ltrim, largs, isL, takev, dropv, nthv, pushO, catv, gd, true_and, and_true, Option.some.injEq, Prod.mk.injEq, exists_eq_left', if_true, if_false, reduceCtorEq, Bool.false_eq_true, lcmp_ge, lcmp_lt, lcmp_le, lcmp_gt, lcmp_eq, true_or, or_true, not_true_eq_false, not_false_eq_true, false_implies, true_implies, List.length_cons, List.length_nil, o8, m9, t4_9, k4_9]
  refine fld (p := q) (mk_X6 (q + 22)) (X6q.loc (q + 22)) ⟨Nat.le_trans (by decide) u8.1, Nat.le_trans (by decide) u8.2⟩ (by rw [n8]; exact Nat.lt_add_of_pos_right (by decide)) o8 (by decide) (by rfl) (by rfl) (by rfl) fun B9 S9 D9 u9 b9 n9 r9 d9 x9 => ?_
  rw [n8] at n9 r9 x9
  replace u9 : 145 ≤ B9.1 ∧ 310989 ≤ B9.2 := ⟨ubB u8.1 u9.1 (by decide), ubB u8.2 u9.2 (by decide)⟩
  clear u8
  replace n9 : S9.2.2 = q + 674 := n9
  have o9 : S9.1 q = some (0, 0) := by rw [b9.2.1 q (by rw [n8]; exact Nat.lt_add_of_pos_right (by decide))]; exact o8
  clear t4_9 k4_9
  have m10 := mkS1 (by rw [n9]; exact Nat.lt_add_of_pos_right (by decide)) o9
  have t4_10 : S9.2.1 q 4 = some (q + 22) := by simp only [r9, r8, r7, r6, r5, r4, r3, r2, r1]; rfl
  have k4_10 := mkS2 (by rw [n9]; exact Nat.lt_add_of_pos_right (by decide)) t4_10
  simp only [P_X0_init, i_kil, i_icon, i_lcon, i_null, i_loadI, i_loadL, i_loadR, i_istore, i_lstore, i_astore, i_iinc, i_dup, i_dup2, i_pop, i_iadd, i_isub, i_imul, i_idiv, i_irem, i_ineg, i_iand, i_ior, i_ishl, i_ishr, i_lxor, i_ladd, i_lsub, i_lmul, i_ldiv, i_lrem, i_lneg, i_lshl, i_lcmp, i_i2l, i_l2i, i_i2b, i_i2s, i_ifeq, i_ifne, i_iflt, i_ifge, i_ifgt, i_ifle, i_cmpeq, i_cmpne, i_cmplt, i_cmpge, i_cmpgt, i_cmple, i_acmpeq, i_acmpne, i_ifnull, i_ifnonnull, i_getI, i_getR, i_putZ, i_ald, i_ldL, i_ldR, i_ast, i_stL, i_stR, i_alen, i_new, i_iret, i_zret, i_lret, i_aret, i_vret, i_raise, i_throw, i_recv, i_objinit, i_tsw3, lget, lset, lput1, lput2, lkil, ltrim, largs, isL, takev, dropv, nthv, pushO, catv, gd, true_and, and_true, Option.some.injEq, Prod.mk.injEq, exists_eq_left', if_true, if_false, reduceCtorEq, Bool.false_eq_true, lcmp_ge, lcmp_lt, lcmp_le, lcmp_gt, lcmp_eq, true_or, or_true, not_true_eq_false, not_false_eq_true, false_implies, true_implies, List.length_cons, List.length_nil, o9, m10, t4_10, k4_10]
  refine fld (p := q) (mk_X6 (q + 22)) (X6q.loc (q + 22)) ⟨Nat.le_trans (by decide) u9.1, Nat.le_trans (by decide) u9.2⟩ (by rw [n9]; exact Nat.lt_add_of_pos_right (by decide)) o9 (by decide) (by rfl) (by rfl) (by rfl) fun B10 S10 D10 u10 b10 n10 r10 d10 x10 => ?_
  rw [n9] at n10 r10 x10
  replace u10 : 136 ≤ B10.1 ∧ 310332 ≤ B10.2 := ⟨ubB u9.1 u10.1 (by decide), ubB u9.2 u10.2 (by decide)⟩
  clear u9
  replace n10 : S10.2.2 = q + 683 := n10
  have o10 : S10.1 q = some (0, 0) := by rw [b10.2.1 q (by rw [n9]; exact Nat.lt_add_of_pos_right (by decide))]; exact o9
  clear t4_10 k4_10
  have m11 := mkS1 (by rw [n10]; exact Nat.lt_add_of_pos_right (by decide)) o10
  have t4_11 : S10.2.1 q 4 = some (q + 22) := by simp only [r10, r9, r8, r7, r6, r5, r4, r3, r2, r1]; rfl
  have k4_11 := mkS2 (by rw [n10]; exact Nat.lt_add_of_pos_right (by decide)) t4_11
  simp only [P_X0_init, i_kil, i_icon, i_lcon, i_null, i_loadI, i_loadL, i_loadR, i_istore, i_lstore, i_astore, i_iinc, i_dup, i_dup2, i_pop, i_iadd, i_isub, i_imul, i_idiv, i_irem, i_ineg, i_iand, i_ior, i_ishl, i_ishr, i_lxor, i_ladd, i_lsub, i_lmul, i_ldiv, i_lrem, i_lneg, i_lshl, i_lcmp, i_i2l, i_l2i, i_i2b, i_i2s, i_ifeq, i_ifne, i_iflt, i_ifge, i_ifgt, i_ifle, i_cmpeq, i_cmpne, i_cmplt, i_cmpge, i_cmpgt, i_cmple, i_acmpeq, i_acmpne, i_ifnull, i_ifnonnull, i_getI, i_getR, i_putZ, i_ald, i_ldL, i_ldR, i_ast, i_stL, i_stR, i_alen, i_new, i_iret, i_zret, i_lret, i_aret, i_vret, i_raise, i_throw, i_recv, i_objinit, i_tsw3, lget, lset, lput1, lput2, lkil, ltrim, largs, isL, takev, dropv, nthv, pushO, catv, gd, true_and, and_true, Option.some.injEq, Prod.mk.injEq, exists_eq_left', if_true, if_false, reduceCtorEq, Bool.false_eq_true, lcmp_ge, lcmp_lt, lcmp_le, lcmp_gt, lcmp_eq, true_or, or_true, not_true_eq_false, not_false_eq_true, false_implies, true_implies, List.length_cons, List.length_nil, o10, m11, t4_11, k4_11]
  refine fld (p := q) (mk_X6 (q + 22)) (X6q.loc (q + 22)) ⟨Nat.le_trans (by decide) u10.1, Nat.le_trans (by decide) u10.2⟩ (by rw [n10]; exact Nat.lt_add_of_pos_right (by decide)) o10 (by decide) (by rfl) (by rfl) (by rfl) fun B11 S11 D11 u11 b11 n11 r11 d11 x11 => ?_
  rw [n10] at n11 r11 x11
  replace u11 : 127 ≤ B11.1 ∧ 309675 ≤ B11.2 := ⟨ubB u10.1 u11.1 (by decide), ubB u10.2 u11.2 (by decide)⟩
  clear u10
  replace n11 : S11.2.2 = q + 692 := n11
  have o11 : S11.1 q = some (0, 0) := by rw [b11.2.1 q (by rw [n10]; exact Nat.lt_add_of_pos_right (by decide))]; exact o10
  clear t4_11 k4_11
  simp only [P_X0_init, i_kil, i_icon, i_lcon, i_null, i_loadI, i_loadL, i_loadR, i_istore, i_lstore, i_astore, i_iinc, i_dup, i_dup2, i_pop, i_iadd, i_isub, i_imul, i_idiv, i_irem, i_ineg, i_iand, i_ior, i_ishl, i_ishr, i_lxor, i_ladd, i_lsub, i_lmul, i_ldiv, i_lrem, i_lneg, i_lshl, i_lcmp, i_i2l, i_l2i, i_i2b, i_i2s, i_ifeq, i_ifne, i_iflt, i_ifge, i_ifgt, i_ifle, i_cmpeq, i_cmpne, i_cmplt, i_cmpge, i_cmpgt, i_cmple, i_acmpeq, i_acmpne, i_ifnull, i_ifnonnull, i_getI, i_getR, i_putZ, i_ald, i_ldL, i_ldR, i_ast, i_stL, i_stR, i_alen, i_new, i_iret, i_zret, i_lret, i_aret, i_vret, i_raise, i_throw, i_recv, i_objinit, i_tsw3, lget, lset, lput1, lput2, lkil, ltrim, largs, isL, takev, dropv, nthv, pushO, catv, gd, true_and, and_true, Option.some.injEq, Prod.mk.injEq, exists_eq_left', if_true, if_false, reduceCtorEq, Bool.false_eq_true, lcmp_ge, lcmp_lt, lcmp_le, lcmp_gt, lcmp_eq, true_or, or_true, not_true_eq_false, not_false_eq_true, false_implies, true_implies, List.length_cons, List.length_nil, o11]
  refine fld (p := q) (mk_X3 160 (by decide)) (X3w.loc 160) ⟨Nat.le_trans (by decide) u11.1, Nat.le_trans (by decide) u11.2⟩ (by rw [n11]; exact Nat.lt_add_of_pos_right (by decide)) o11 (by decide) (by rfl) (by rfl) (by rfl) fun B12 S12 D12 u12 b12 n12 r12 d12 x12 => ?_
  rw [n11] at n12 r12 x12
  replace u12 : 125 ≤ B12.1 ∧ 309512 ≤ B12.2 := ⟨ubB u11.1 u12.1 (by decide), ubB u11.2 u12.2 (by decide)⟩
  clear u11
  replace n12 : S12.2.2 = q + 694 := n12
  have o12 : S12.1 q = some (0, 0) := by rw [b12.2.1 q (by rw [n11]; exact Nat.lt_add_of_pos_right (by decide))]; exact o11
  simp only [P_X0_init, i_kil, i_icon, i_lcon, i_null, i_loadI, i_loadL, i_loadR, i_istore, i_lstore, i_astore, i_iinc, i_dup, i_dup2, i_pop, i_iadd, i_isub, i_imul, i_idiv, i_irem, i_ineg, i_iand, i_ior, i_ishl, i_ishr, i_lxor, i_ladd, i_lsub, i_lmul, i_ldiv, i_lrem, i_lneg, i_lshl, i_lcmp, i_i2l, i_l2i, i_i2b, i_i2s, i_ifeq, i_ifne, i_iflt, i_ifge, i_ifgt, i_ifle, i_cmpeq, i_cmpne, i_cmplt, i_cmpge, i_cmpgt, i_cmple, i_acmpeq, i_acmpne, i_ifnull, i_ifnonnull, i_getI, i_getR, i_putZ, i_ald, i_ldL, i_ldR, i_ast, i_stL, i_stR, i_alen, i_new, i_iret, i_zret, i_lret, i_aret, i_vret, i_raise, i_throw, i_recv, i_objinit, i_tsw3, lget, lset, lput1, lput2, lkil, ltrim, largs, isL, takev, dropv, nthv, pushO, catv, gd, true_and, and_true, Option.some.injEq, Prod.mk.injEq, exists_eq_left', if_true, if_false, reduceCtorEq, Bool.false_eq_true, lcmp_ge, lcmp_lt, lcmp_le, lcmp_gt, lcmp_eq, true_or, or_true, not_true_eq_false, not_false_eq_true, false_implies, true_implies, List.length_cons, List.length_nil, o12]
  refine fld (p := q) (mk_X3 160 (by decide)) (X3w.loc 160) ⟨Nat.le_trans (by decide) u12.1, Nat.le_trans (by decide) u12.2⟩ (by rw [n12]; exact Nat.lt_add_of_pos_right (by decide)) o12 (by decide) (by rfl) (by rfl) (by rfl) fun B13 S13 D13 u13 b13 n13 r13 d13 x13 => ?_
  rw [n12] at n13 r13 x13
  replace u13 : 123 ≤ B13.1 ∧ 309349 ≤ B13.2 := ⟨ubB u12.1 u13.1 (by decide), ubB u12.2 u13.2 (by decide)⟩
  clear u12
  replace n13 : S13.2.2 = q + 696 := n13
  have o13 : S13.1 q = some (0, 0) := by rw [b13.2.1 q (by rw [n12]; exact Nat.lt_add_of_pos_right (by decide))]; exact o12
  simp only [P_X0_init, i_kil, i_icon, i_lcon, i_null, i_loadI, i_loadL, i_loadR, i_istore, i_lstore, i_astore, i_iinc, i_dup, i_dup2, i_pop, i_iadd, i_isub, i_imul, i_idiv, i_irem, i_ineg, i_iand, i_ior, i_ishl, i_ishr, i_lxor, i_ladd, i_lsub, i_lmul, i_ldiv, i_lrem, i_lneg, i_lshl, i_lcmp, i_i2l, i_l2i, i_i2b, i_i2s, i_ifeq, i_ifne, i_iflt, i_ifge, i_ifgt, i_ifle, i_cmpeq, i_cmpne, i_cmplt, i_cmpge, i_cmpgt, i_cmple, i_acmpeq, i_acmpne, i_ifnull, i_ifnonnull, i_getI, i_getR, i_putZ, i_ald, i_ldL, i_ldR, i_ast, i_stL, i_stR, i_alen, i_new, i_iret, i_zret, i_lret, i_aret, i_vret, i_raise, i_throw, i_recv, i_objinit, i_tsw3, lget, lset, lput1, lput2, lkil, ltrim, largs, isL, takev, dropv, nthv, pushO, catv, gd, true_and, and_true, Option.some.injEq, Prod.mk.injEq, exists_eq_left', if_true, if_false, reduceCtorEq, Bool.false_eq_true, lcmp_ge, lcmp_lt, lcmp_le, lcmp_gt, lcmp_eq, true_or, or_true, not_true_eq_false, not_false_eq_true, false_implies, true_implies, List.length_cons, List.length_nil, o13]
  refine fld (p := q) (mk_X3 160 (by decide)) (X3w.loc 160) ⟨Nat.le_trans (by decide) u13.1, Nat.le_trans (by decide) u13.2⟩ (by rw [n13]; exact Nat.lt_add_of_pos_right (by decide)) o13 (by decide) (by rfl) (by rfl) (by rfl) fun B14 S14 D14 u14 b14 n14 r14 d14 x14 => ?_
  rw [n13] at n14 r14 x14
  replace u14 : 121 ≤ B14.1 ∧ 309186 ≤ B14.2 := ⟨ubB u13.1 u14.1 (by decide), ubB u13.2 u14.2 (by decide)⟩
  clear u13
  replace n14 : S14.2.2 = q + 698 := n14
  have o14 : S14.1 q = some (0, 0) := by rw [b14.2.1 q (by rw [n13]; exact Nat.lt_add_of_pos_right (by decide))]; exact o13
  simp only [P_X0_init, i_kil, i_icon, i_lcon, i_null, i_loadI, i_loadL, i_loadR, i_istore, i_lstore, i_astore, i_iinc, i_dup, i_dup2, i_pop, i_iadd, i_isub, i_imul, i_idiv, i_irem, i_ineg, i_iand, i_ior, i_ishl, i_ishr, i_lxor, i_ladd, i_lsub, i_lmul, i_ldiv, i_lrem, i_lneg, i_lshl, i_lcmp, i_i2l, i_l2i, i_i2b, i_i2s, i_ifeq, i_ifne, i_iflt, i_ifge, i_ifgt, i_ifle, i_cmpeq, i_cmpne, i_cmplt, i_cmpge, i_cmpgt, i_cmple, i_acmpeq, i_acmpne, i_ifnull, i_ifnonnull, i_getI, i_getR, i_putZ, i_ald, i_ldL, i_ldR, i_ast, i_stL, i_stR, i_alen, i_new, i_iret, i_zret, i_lret, i_aret, i_vret, i_raise, i_throw, i_recv, i_objinit, i_tsw3, lget, lset, lput1, lput2, lkil, ltrim, largs, isL, takev, dropv, nthv, pushO, catv, gd, true_and, and_true, Option.some.injEq, Prod.mk.injEq, exists_eq_left', if_true, if_false, reduceCtorEq, Bool.false_eq_true, lcmp_ge, lcmp_lt, lcmp_le, lcmp_gt, lcmp_eq, true_or, or_true, not_true_eq_false, not_false_eq_true, false_implies, true_implies, List.length_cons, List.length_nil, o14]
  refine fldA (p := q) (n := 16) (by decide) ⟨Nat.le_trans (by decide) u14.1, Nat.le_trans (by decide) u14.2⟩ (by rw [n14]; exact Nat.lt_add_of_pos_right (by decide)) o14 fun B15 S15 D15 u15 b15 n15 r15 d15 x15 => ?_
  rw [n14] at n15 r15 x15
  replace u15 : 120 ≤ B15.1 ∧ 309170 ≤ B15.2 := ⟨ubB u14.1 u15.1 (by decide), ubB u14.2 u15.2 (by decide)⟩
  clear u14
  replace n15 : S15.2.2 = q + 699 := n15
  have o15 : S15.1 q = some (0, 0) := by rw [b15.2.1 q (by rw [n14]; exact Nat.lt_add_of_pos_right (by decide))]; exact o14
  have m16 := mkS1 (by rw [n15]; exact Nat.lt_add_of_pos_right (by decide)) o15
  have t3_16 : S15.2.1 q 3 = some (q + 3) := by simp only [r15, r14, r13, r12, r11, r10, r9, r8, r7, r6, r5, r4, r3, r2, r1]; rfl
  have k3_16 := mkS2 (by rw [n15]; exact Nat.lt_add_of_pos_right (by decide)) t3_16
  simp only [P_X0_init, i_kil, i_icon, i_lcon, i_null, i_loadI, i_loadL, i_loadR, i_istore, i_lstore, i_astore, i_iinc, i_dup, i_dup2, i_pop, i_iadd, i_isub, i_imul, i_idiv, i_irem, i_ineg, i_iand, i_ior, i_ishl, i_ishr, i_lxor, i_ladd, i_lsub, i_lmul, i_ldiv, i_lrem, i_lneg, i_lshl, i_lcmp, i_i2l, i_l2i, i_i2b, i_i2s, i_ifeq, i_ifne, i_iflt, i_ifge, i_ifgt, i_ifle, i_cmpeq, i_cmpne, i_cmplt, i_cmpge, i_cmpgt, i_cmple, i_acmpeq, i_acmpne, i_ifnull, i_ifnonnull, i_getI, i_getR, i_putZ, i_ald, i_ldL, i_ldR, i_ast, i_stL, i_stR, i_alen, i_new, i_iret, i_zret, i_lret, i_aret, i_vret, i_raise, i_throw, i_recv, i_objinit, i_tsw3, lget, lset, lput1, lput2, lkil, ltrim, largs, isL, takev, dropv, nthv, pushO, catv, gd, true_and, and_true, Option.some.injEq, Prod.mk.injEq, exists_eq_left', if_true, if_false, reduceCtorEq, Bool.false_eq_true, lcmp_ge, lcmp_lt, lcmp_le, lcmp_gt, lcmp_eq, true_or, or_true, not_true_eq_false, not_false_eq_true, false_implies, true_implies, List.length_cons, List.length_nil, o15, m16, t3_16, k3_16]
  refine fld (p := q) (x9_at (c := 9) (T := q + 3) (by decide)) (X9l.loc 9 (q + 3)) ⟨Nat.le_trans (by decide) u15.1, Nat.le_trans (by decide) u15.2⟩ (by rw [n15]; exact Nat.lt_add_of_pos_right (by decide)) o15 (by decide) (by rfl) (by rfl) (by rfl) fun B16 S16 D16 u16 b16 n16 r16 d16 x16 => ?_
  rw [n15] at n16 r16 x16
  replace u16 : 119 ≤ B16.1 ∧ 309169 ≤ B16.2 := ⟨ubB u15.1 u16.1 (by decide), ubB u15.2 u16.2 (by decide)⟩
  clear u15
  replace n16 : S16.2.2 = q + 700 := n16
  have o16 : S16.1 q = some (0, 0) := by rw [b16.2.1 q (by rw [n15]; exact Nat.lt_add_of_pos_right (by decide))]; exact o15
  clear t3_16 k3_16
  simp only [P_X0_init, i_kil, i_icon, i_lcon, i_null, i_loadI, i_loadL, i_loadR, i_istore, i_lstore, i_astore, i_iinc, i_dup, i_dup2, i_pop, i_iadd, i_isub, i_imul, i_idiv, i_irem, i_ineg, i_iand, i_ior, i_ishl, i_ishr, i_lxor, i_ladd, i_lsub, i_lmul, i_ldiv, i_lrem, i_lneg, i_lshl, i_lcmp, i_i2l, i_l2i, i_i2b, i_i2s, i_ifeq, i_ifne, i_iflt, i_ifge, i_ifgt, i_ifle, i_cmpeq, i_cmpne, i_cmplt, i_cmpge, i_cmpgt, i_cmple, i_acmpeq, i_acmpne, i_ifnull, i_ifnonnull, i_getI, i_getR, i_putZ, i_ald, i_ldL, i_ldR, i_ast, i_stL, i_stR, i_alen, i_new, i_iret, i_zret, i_lret, i_aret, i_vret, i_raise, i_throw, i_recv, i_objinit, i_tsw3, lget, lset, lput1, lput2, lkil, ltrim, largs, isL, takev, dropv, nthv, pushO, catv, gd, true_and, and_true, Option.some.injEq, Prod.mk.injEq, exists_eq_left', if_true, if_false, reduceCtorEq, Bool.false_eq_true, lcmp_ge, lcmp_lt, lcmp_le, lcmp_gt, lcmp_eq, true_or, or_true, not_true_eq_false, not_false_eq_true, false_implies, true_implies, List.length_cons, List.length_nil, o16]
  have t16_17 : S16.2.1 q 16 = some (q + 699) := by simp only [r16, r15, r14, r13, r12, r11, r10, r9, r8, r7, r6, r5, r4, r3, r2, r1]; rfl
  have t3_17 : S16.2.1 q 3 = some (q + 3) := by simp only [r16, r15, r14, r13, r12, r11, r10, r9, r8, r7, r6, r5, r4, r3, r2, r1]; rfl
  refine x0_orders (p := q) (T := q + 3) (x9 := q + 699) ⟨Nat.le_trans (by decide) u16.1, Nat.le_trans (by decide) u16.2⟩ (by rw [n16]; exact Nat.lt_add_of_pos_right (by decide)) o16 t3_17 t16_17 x16.1 (by rw [n16]; exact Nat.add_lt_add_left (by decide) q) fun B17 S17 D17 u17 b17 n17 r17 d17 x17 => ?_
  rw [n16] at n17 r17 x17
  replace u17 : 114 ≤ B17.1 ∧ 309158 ≤ B17.2 := ⟨ubB u16.1 u17.1 (by decide), ubB u16.2 u17.2 (by decide)⟩
  clear u16
  replace n17 : S17.2.2 = q + 705 := n17
  have o17 : S17.1 q = some (0, 0) := by rw [b17.2.1 q (by rw [n16]; exact Nat.lt_add_of_pos_right (by decide))]; exact o16
  simp only [P_X0_init, i_kil, i_icon, i_lcon, i_null, i_loadI, i_loadL, i_loadR, i_istore, i_lstore, i_astore, i_iinc, i_dup, i_dup2, i_pop, i_iadd, i_isub, i_imul, i_idiv, i_irem, i_ineg, i_iand, i_ior, i_ishl, i_ishr, i_lxor, i_ladd, i_lsub, i_lmul, i_ldiv, i_lrem, i_lneg, i_lshl, i_lcmp, i_i2l, i_l2i, i_i2b, i_i2s, i_ifeq, i_ifne, i_iflt, i_ifge, i_ifgt, i_ifle, i_cmpeq, i_cmpne, i_cmplt, i_cmpge, i_cmpgt, i_cmple, i_acmpeq, i_acmpne, i_ifnull, i_ifnonnull, i_getI, i_getR, i_putZ, i_ald, i_ldL, i_ldR, i_ast, i_stL, i_stR, i_alen, i_new, i_iret, i_zret, i_lret, i_aret, i_vret, i_raise, i_throw, i_recv, i_objinit, i_tsw3, lget, lset, lput1, lput2, lkil, ltrim, largs, isL, takev, dropv, nthv, pushO, catv, gd, true_and, and_true, Option.some.injEq, Prod.mk.injEq, exists_eq_left', if_true, if_false, reduceCtorEq, Bool.false_eq_true, lcmp_ge, lcmp_lt, lcmp_le, lcmp_gt, lcmp_eq, true_or, or_true, not_true_eq_false, not_false_eq_true, false_implies, true_implies, List.length_cons, List.length_nil, o17]
  refine fld (p := q) mk_X5 X5p.loc ⟨Nat.le_trans (by decide) u17.1, Nat.le_trans (by decide) u17.2⟩ (by rw [n17]; exact Nat.lt_add_of_pos_right (by decide)) o17 (by decide) (by rfl) (by rfl) (by rfl) fun B18 S18 D18 u18 b18 n18 r18 d18 x18 => ?_
  rw [n17] at n18 r18 x18
  replace u18 : 112 ≤ B18.1 ∧ 295506 ≤ B18.2 := ⟨ubB u17.1 u18.1 (by decide), ubB u17.2 u18.2 (by decide)⟩
  clear u17
  replace n18 : S18.2.2 = q + 707 := n18
  have o18 : S18.1 q = some (0, 0) := by rw [b18.2.1 q (by rw [n17]; exact Nat.lt_add_of_pos_right (by decide))]; exact o17
  simp only [P_X0_init, i_kil, i_icon, i_lcon, i_null, i_loadI, i_loadL, i_loadR, i_istore, i_lstore, i_astore, i_iinc, i_dup, i_dup2, i_pop, i_iadd, i_isub, i_imul, i_idiv, i_irem, i_ineg, i_iand, i_ior, i_ishl, i_ishr, i_lxor, i_ladd, i_lsub, i_lmul, i_ldiv, i_lrem, i_lneg, i_lshl, i_lcmp, i_i2l, i_l2i, i_i2b, i_i2s, i_ifeq, i_ifne, i_iflt, i_ifge, i_ifgt, i_ifle, i_cmpeq, i_cmpne, i_cmplt, i_cmpge, i_cmpgt, i_cmple, i_acmpeq, i_acmpne, i_ifnull, i_ifnonnull, i_getI, i_getR, i_putZ, i_ald, i_ldL, i_ldR, i_ast, i_stL, i_stR, i_alen, i_new, i_iret, i_zret, i_lret, i_aret, i_vret, i_raise, i_throw, i_recv, i_objinit, i_tsw3, lget, lset, lput1, lput2, lkil, ltrim, largs, isL, takev, dropv, nthv, pushO, catv, gd, true_and, and_true, Option.some.injEq, Prod.mk.injEq, exists_eq_left', if_true, if_false, reduceCtorEq, Bool.false_eq_true, lcmp_ge, lcmp_lt, lcmp_le, lcmp_gt, lcmp_eq, true_or, or_true, not_true_eq_false, not_false_eq_true, false_implies, true_implies, List.length_cons, List.length_nil, o18]
  refine fldA (p := q) (n := 6) (by decide) ⟨Nat.le_trans (by decide) u18.1, Nat.le_trans (by decide) u18.2⟩ (by rw [n18]; exact Nat.lt_add_of_pos_right (by decide)) o18 fun B19 S19 D19 u19 b19 n19 r19 d19 x19 => ?_
  rw [n18] at n19 r19 x19
  replace u19 : 111 ≤ B19.1 ∧ 295500 ≤ B19.2 := ⟨ubB u18.1 u19.1 (by decide), ubB u18.2 u19.2 (by decide)⟩
  clear u18
  replace n19 : S19.2.2 = q + 708 := n19
  have o19 : S19.1 q = some (0, 0) := by rw [b19.2.1 q (by rw [n18]; exact Nat.lt_add_of_pos_right (by decide))]; exact o18
  simp only [P_X0_init, i_kil, i_icon, i_lcon, i_null, i_loadI, i_loadL, i_loadR, i_istore, i_lstore, i_astore, i_iinc, i_dup, i_dup2, i_pop, i_iadd, i_isub, i_imul, i_idiv, i_irem, i_ineg, i_iand, i_ior, i_ishl, i_ishr, i_lxor, i_ladd, i_lsub, i_lmul, i_ldiv, i_lrem, i_lneg, i_lshl, i_lcmp, i_i2l, i_l2i, i_i2b, i_i2s, i_ifeq, i_ifne, i_iflt, i_ifge, i_ifgt, i_ifle, i_cmpeq, i_cmpne, i_cmplt, i_cmpge, i_cmpgt, i_cmple, i_acmpeq, i_acmpne, i_ifnull, i_ifnonnull, i_getI, i_getR, i_putZ, i_ald, i_ldL, i_ldR, i_ast, i_stL, i_stR, i_alen, i_new, i_iret, i_zret, i_lret, i_aret, i_vret, i_raise, i_throw, i_recv, i_objinit, i_tsw3, lget, lset, lput1, lput2, lkil, ltrim, largs, isL, takev, dropv, nthv, pushO, catv, gd, true_and, and_true, Option.some.injEq, Prod.mk.injEq, exists_eq_left', if_true, if_false, reduceCtorEq, Bool.false_eq_true, lcmp_ge, lcmp_lt, lcmp_le, lcmp_gt, lcmp_eq, true_or, or_true, not_true_eq_false, not_false_eq_true, false_implies, true_implies, List.length_cons, List.length_nil, o19]
  refine fldA (p := q) (n := 1820) (by decide) ⟨Nat.le_trans (by decide) u19.1, Nat.le_trans (by decide) u19.2⟩ (by rw [n19]; exact Nat.lt_add_of_pos_right (by decide)) o19 fun B20 S20 D20 u20 b20 n20 r20 d20 x20 => ?_
  rw [n19] at n20 r20 x20
  replace u20 : 110 ≤ B20.1 ∧ 293680 ≤ B20.2 := ⟨ubB u19.1 u20.1 (by decide), ubB u19.2 u20.2 (by decide)⟩
  clear u19
  replace n20 : S20.2.2 = q + 709 := n20
  have o20 : S20.1 q = some (0, 0) := by rw [b20.2.1 q (by rw [n19]; exact Nat.lt_add_of_pos_right (by decide))]; exact o19
  simp only [P_X0_init, i_kil, i_icon, i_lcon, i_null, i_loadI, i_loadL, i_loadR, i_istore, i_lstore, i_astore, i_iinc, i_dup, i_dup2, i_pop, i_iadd, i_isub, i_imul, i_idiv, i_irem, i_ineg, i_iand, i_ior, i_ishl, i_ishr, i_lxor, i_ladd, i_lsub, i_lmul, i_ldiv, i_lrem, i_lneg, i_lshl, i_lcmp, i_i2l, i_l2i, i_i2b, i_i2s, i_ifeq, i_ifne, i_iflt, i_ifge, i_ifgt, i_ifle, i_cmpeq, i_cmpne, i_cmplt, i_cmpge, i_cmpgt, i_cmple, i_acmpeq, i_acmpne, i_ifnull, i_ifnonnull, i_getI, i_getR, i_putZ, i_ald, i_ldL, i_ldR, i_ast, i_stL, i_stR, i_alen, i_new, i_iret, i_zret, i_lret, i_aret, i_vret, i_raise, i_throw, i_recv, i_objinit, i_tsw3, lget, lset, lput1, lput2, lkil, ltrim, largs, isL, takev, dropv, nthv, pushO, catv, gd, true_and, and_true, Option.some.injEq, Prod.mk.injEq, exists_eq_left', if_true, if_false, reduceCtorEq, Bool.false_eq_true, lcmp_ge, lcmp_lt, lcmp_le, lcmp_gt, lcmp_eq, true_or, or_true, not_true_eq_false, not_false_eq_true, false_implies, true_implies, List.length_cons, List.length_nil, o20]
  refine fldA (p := q) (n := 6) (by decide) ⟨Nat.le_trans (by decide) u20.1, Nat.le_trans (by decide) u20.2⟩ (by rw [n20]; exact Nat.lt_add_of_pos_right (by decide)) o20 fun B21 S21 D21 u21 b21 n21 r21 d21 x21 => ?_
  rw [n20] at n21 r21 x21
  replace u21 : 109 ≤ B21.1 ∧ 293674 ≤ B21.2 := ⟨ubB u20.1 u21.1 (by decide), ubB u20.2 u21.2 (by decide)⟩
  clear u20
  replace n21 : S21.2.2 = q + 710 := n21
  have o21 : S21.1 q = some (0, 0) := by rw [b21.2.1 q (by rw [n20]; exact Nat.lt_add_of_pos_right (by decide))]; exact o20
  simp only [P_X0_init, i_kil, i_icon, i_lcon, i_null, i_loadI, i_loadL, i_loadR, i_istore, i_lstore, i_astore, i_iinc, i_dup, i_dup2, i_pop, i_iadd, i_isub, i_imul, i_idiv, i_irem, i_ineg, i_iand, i_ior, i_ishl, i_ishr, i_lxor, i_ladd, i_lsub, i_lmul, i_ldiv, i_lrem, i_lneg, i_lshl, i_lcmp, i_i2l, i_l2i, i_i2b, i_i2s, i_ifeq, i_ifne, i_iflt, i_ifge, i_ifgt, i_ifle, i_cmpeq, i_cmpne, i_cmplt, i_cmpge, i_cmpgt, i_cmple, i_acmpeq, i_acmpne, i_ifnull, i_ifnonnull, i_getI, i_getR, i_putZ, i_ald, i_ldL, i_ldR, i_ast, i_stL, i_stR, i_alen, i_new, i_iret, i_zret, i_lret, i_aret, i_vret, i_raise, i_throw, i_recv, i_objinit, i_tsw3, lget, lset, lput1, lput2, lkil, ltrim, largs, isL, takev, dropv, nthv, pushO, catv, gd, true_and, and_true, Option.some.injEq, Prod.mk.injEq, exists_eq_left', if_true, if_false, reduceCtorEq, Bool.false_eq_true, lcmp_ge, lcmp_lt, lcmp_le, lcmp_gt, lcmp_eq, true_or, or_true, not_true_eq_false, not_false_eq_true, false_implies, true_implies, List.length_cons, List.length_nil, o21]
  refine fldA (p := q) (n := 6) (by decide) ⟨Nat.le_trans (by decide) u21.1, Nat.le_trans (by decide) u21.2⟩ (by rw [n21]; exact Nat.lt_add_of_pos_right (by decide)) o21 fun B22 S22 D22 u22 b22 n22 r22 d22 x22 => ?_
  rw [n21] at n22 r22 x22
  replace u22 : 108 ≤ B22.1 ∧ 293668 ≤ B22.2 := ⟨ubB u21.1 u22.1 (by decide), ubB u21.2 u22.2 (by decide)⟩
  clear u21
  replace n22 : S22.2.2 = q + 711 := n22
  have o22 : S22.1 q = some (0, 0) := by rw [b22.2.1 q (by rw [n21]; exact Nat.lt_add_of_pos_right (by decide))]; exact o21
  simp only [P_X0_init, i_kil, i_icon, i_lcon, i_null, i_loadI, i_loadL, i_loadR, i_istore, i_lstore, i_astore, i_iinc, i_dup, i_dup2, i_pop, i_iadd, i_isub, i_imul, i_idiv, i_irem, i_ineg, i_iand, i_ior, i_ishl, i_ishr, i_lxor, i_ladd, i_lsub, i_lmul, i_ldiv, i_lrem, i_lneg, i_lshl, i_lcmp, i_i2l, i_l2i, i_i2b, i_i2s, i_ifeq, i_ifne, i_iflt, i_ifge, i_ifgt, i_ifle, i_cmpeq, i_cmpne, i_cmplt, i_cmpge, i_cmpgt, i_cmple, i_acmpeq, i_acmpne, i_ifnull, i_ifnonnull, i_getI, i_getR, i_putZ, i_ald, i_ldL, i_ldR, i_ast, i_stL, i_stR, i_alen, i_new, i_iret, i_zret, i_lret, i_aret, i_vret, i_raise, i_throw, i_recv, i_objinit, i_tsw3, lget, lset, lput1, lput2, lkil, ltrim, largs, isL, takev, dropv, nthv, pushO, catv, gd, true_and, and_true, Option.some.injEq, Prod.mk.injEq, exists_eq_left', if_true, if_false, reduceCtorEq, Bool.false_eq_true, lcmp_ge, lcmp_lt, lcmp_le, lcmp_gt, lcmp_eq, true_or, or_true, not_true_eq_false, not_false_eq_true, false_implies, true_implies, List.length_cons, List.length_nil, o22]
  refine fld (p := q) mk_X5 X5p.loc ⟨Nat.le_trans (by decide) u22.1, Nat.le_trans (by decide) u22.2⟩ (by rw [n22]; exact Nat.lt_add_of_pos_right (by decide)) o22 (by decide) (by rfl) (by rfl) (by rfl) fun B23 S23 D23 u23 b23 n23 r23 d23 x23 => ?_
  rw [n22] at n23 r23 x23
  replace u23 : 106 ≤ B23.1 ∧ 280016 ≤ B23.2 := ⟨ubB u22.1 u23.1 (by decide), ubB u22.2 u23.2 (by decide)⟩
  clear u22
  replace n23 : S23.2.2 = q + 713 := n23
  have o23 : S23.1 q = some (0, 0) := by rw [b23.2.1 q (by rw [n22]; exact Nat.lt_add_of_pos_right (by decide))]; exact o22
  simp only [P_X0_init, i_kil, i_icon, i_lcon, i_null, i_loadI, i_loadL, i_loadR, i_istore, i_lstore, i_astore, i_iinc, i_dup, i_dup2, i_pop, i_iadd, i_isub, i_imul, i_idiv, i_irem, i_ineg, i_iand, i_ior, i_ishl, i_ishr, i_lxor, i_ladd, i_lsub, i_lmul, i_ldiv, i_lrem, i_lneg, i_lshl, i_lcmp, i_i2l, i_l2i, i_i2b, i_i2s, i_ifeq, i_ifne, i_iflt, i_ifge, i_ifgt, i_ifle, i_cmpeq, i_cmpne, i_cmplt, i_cmpge, i_cmpgt, i_cmple, i_acmpeq, i_acmpne, i_ifnull, i_ifnonnull, i_getI, i_getR, i_putZ, i_ald, i_ldL, i_ldR, i_ast, i_stL, i_stR, i_alen, i_new, i_iret, i_zret, i_lret, i_aret, i_vret, i_raise, i_throw, i_recv, i_objinit, i_tsw3, lget, lset, lput1, lput2, lkil, ltrim, largs, isL, takev, dropv, nthv, pushO, catv, gd, true_and, and_true, Option.some.injEq, Prod.mk.injEq, exists_eq_left', if_true, if_false, reduceCtorEq, Bool.false_eq_true, lcmp_ge, lcmp_lt, lcmp_le, lcmp_gt, lcmp_eq, true_or, or_true, not_true_eq_false, not_false_eq_true, false_implies, true_implies, List.length_cons, List.length_nil, o23]
  refine fld (p := q) mk_X5 X5p.loc ⟨Nat.le_trans (by decide) u23.1, Nat.le_trans (by decide) u23.2⟩ (by rw [n23]; exact Nat.lt_add_of_pos_right (by decide)) o23 (by decide) (by rfl) (by rfl) (by rfl) fun B24 S24 D24 u24 b24 n24 r24 d24 x24 => ?_
  rw [n23] at n24 r24 x24
  replace u24 : 104 ≤ B24.1 ∧ 266364 ≤ B24.2 := ⟨ubB u23.1 u24.1 (by decide), ubB u23.2 u24.2 (by decide)⟩
  clear u23
  replace n24 : S24.2.2 = q + 715 := n24
  have o24 : S24.1 q = some (0, 0) := by rw [b24.2.1 q (by rw [n23]; exact Nat.lt_add_of_pos_right (by decide))]; exact o23
  simp only [P_X0_init, i_kil, i_icon, i_lcon, i_null, i_loadI, i_loadL, i_loadR, i_istore, i_lstore, i_astore, i_iinc, i_dup, i_dup2, i_pop, i_iadd, i_isub, i_imul, i_idiv, i_irem, i_ineg, i_iand, i_ior, i_ishl, i_ishr, i_lxor, i_ladd, i_lsub, i_lmul, i_ldiv, i_lrem, i_lneg, i_lshl, i_lcmp, i_i2l, i_l2i, i_i2b, i_i2s, i_ifeq, i_ifne, i_iflt, i_ifge, i_ifgt, i_ifle, i_cmpeq, i_cmpne, i_cmplt, i_cmpge, i_cmpgt, i_cmple, i_acmpeq, i_acmpne, i_ifnull, i_ifnonnull, i_getI, i_getR, i_putZ, i_ald, i_ldL, i_ldR, i_ast, i_stL, i_stR, i_alen, i_new, i_iret, i_zret, i_lret, i_aret, i_vret, i_raise, i_throw, i_recv, i_objinit, i_tsw3, lget, lset, lput1, lput2, lkil, ltrim, largs, isL, takev, dropv, nthv, pushO, catv, gd, true_and, and_true, Option.some.injEq, Prod.mk.injEq, exists_eq_left', if_true, if_false, reduceCtorEq, Bool.false_eq_true, lcmp_ge, lcmp_lt, lcmp_le, lcmp_gt, lcmp_eq, true_or, or_true, not_true_eq_false, not_false_eq_true, false_implies, true_implies, List.length_cons, List.length_nil, o24]
  refine fldA (p := q) (n := 15) (by decide) ⟨Nat.le_trans (by decide) u24.1, Nat.le_trans (by decide) u24.2⟩ (by rw [n24]; exact Nat.lt_add_of_pos_right (by decide)) o24 fun B25 S25 D25 u25 b25 n25 r25 d25 x25 => ?_
  rw [n24] at n25 r25 x25
  replace u25 : 103 ≤ B25.1 ∧ 266349 ≤ B25.2 := ⟨ubB u24.1 u25.1 (by decide), ubB u24.2 u25.2 (by decide)⟩
  clear u24
  replace n25 : S25.2.2 = q + 716 := n25
  have o25 : S25.1 q = some (0, 0) := by rw [b25.2.1 q (by rw [n24]; exact Nat.lt_add_of_pos_right (by decide))]; exact o24
  simp only [P_X0_init, i_kil, i_icon, i_lcon, i_null, i_loadI, i_loadL, i_loadR, i_istore, i_lstore, i_astore, i_iinc, i_dup, i_dup2, i_pop, i_iadd, i_isub, i_imul, i_idiv, i_irem, i_ineg, i_iand, i_ior, i_ishl, i_ishr, i_lxor, i_ladd, i_lsub, i_lmul, i_ldiv, i_lrem, i_lneg, i_lshl, i_lcmp, i_i2l, i_l2i, i_i2b, i_i2s, i_ifeq, i_ifne, i_iflt, i_ifge, i_ifgt, i_ifle, i_cmpeq, i_cmpne, i_cmplt, i_cmpge, i_cmpgt, i_cmple, i_acmpeq, i_acmpne, i_ifnull, i_ifnonnull, i_getI, i_getR, i_putZ, i_ald, i_ldL, i_ldR, i_ast, i_stL, i_stR, i_alen, i_new, i_iret, i_zret, i_lret, i_aret, i_vret, i_raise, i_throw, i_recv, i_objinit, i_tsw3, lget, lset, lput1, lput2, lkil, ltrim, largs, isL, takev, dropv, nthv, pushO, catv, gd, true_and, and_true, Option.some.injEq, Prod.mk.injEq, exists_eq_left', if_true, if_false, reduceCtorEq, Bool.false_eq_true, lcmp_ge, lcmp_lt, lcmp_le, lcmp_gt, lcmp_eq, true_or, or_true, not_true_eq_false, not_false_eq_true, false_implies, true_implies, List.length_cons, List.length_nil, o25]
  refine fldA (p := q) (n := 9) (by decide) ⟨Nat.le_trans (by decide) u25.1, Nat.le_trans (by decide) u25.2⟩ (by rw [n25]; exact Nat.lt_add_of_pos_right (by decide)) o25 fun B26 S26 D26 u26 b26 n26 r26 d26 x26 => ?_
  rw [n25] at n26 r26 x26
  replace u26 : 102 ≤ B26.1 ∧ 266340 ≤ B26.2 := ⟨ubB u25.1 u26.1 (by decide), ubB u25.2 u26.2 (by decide)⟩
  clear u25
  replace n26 : S26.2.2 = q + 717 := n26
  have o26 : S26.1 q = some (0, 0) := by rw [b26.2.1 q (by rw [n25]; exact Nat.lt_add_of_pos_right (by decide))]; exact o25
  simp only [P_X0_init, i_kil, i_icon, i_lcon, i_null, i_loadI, i_loadL, i_loadR, i_istore, i_lstore, i_astore, i_iinc, i_dup, i_dup2, i_pop, i_iadd, i_isub, i_imul, i_idiv, i_irem, i_ineg, i_iand, i_ior, i_ishl, i_ishr, i_lxor, i_ladd, i_lsub, i_lmul, i_ldiv, i_lrem, i_lneg, i_lshl, i_lcmp, i_i2l, i_l2i, i_i2b, i_i2s, i_ifeq, i_ifne, i_iflt, i_ifge, i_ifgt, i_ifle, i_cmpeq, i_cmpne, i_cmplt, i_cmpge, i_cmpgt, i_cmple, i_acmpeq, i_acmpne, i_ifnull, i_ifnonnull, i_getI, i_getR, i_putZ, i_ald, i_ldL, i_ldR, i_ast, i_stL, i_stR, i_alen, i_new, i_iret, i_zret, i_lret, i_aret, i_vret, i_raise, i_throw, i_recv, i_objinit, i_tsw3, lget, lset, lput1, lput2, lkil, ltrim, largs, isL, takev, dropv, nthv, pushO, catv, gd, true_and, and_true, Option.some.injEq, Prod.mk.injEq, exists_eq_left', if_true, if_false, reduceCtorEq, Bool.false_eq_true, lcmp_ge, lcmp_lt, lcmp_le, lcmp_gt, lcmp_eq, true_or, or_true, not_true_eq_false, not_false_eq_true, false_implies, true_implies, List.length_cons, List.length_nil, o26]
  refine fldA (p := q) (n := 9) (by decide) ⟨Nat.le_trans (by decide) u26.1, Nat.le_trans (by decide) u26.2⟩ (by rw [n26]; exact Nat.lt_add_of_pos_right (by decide)) o26 fun B27 S27 D27 u27 b27 n27 r27 d27 x27 => ?_
  rw [n26] at n27 r27 x27
  replace u27 : 101 ≤ B27.1 ∧ 266331 ≤ B27.2 := ⟨ubB u26.1 u27.1 (by decide), ubB u26.2 u27.2 (by decide)⟩
  clear u26
  replace n27 : S27.2.2 = q + 718 := n27
  have o27 : S27.1 q = some (0, 0) := by rw [b27.2.1 q (by rw [n26]; exact Nat.lt_add_of_pos_right (by decide))]; exact o26
  simp only [P_X0_init, i_kil, i_icon, i_lcon, i_null, i_loadI, i_loadL, i_loadR, i_istore, i_lstore, i_astore, i_iinc, i_dup, i_dup2, i_pop, i_iadd, i_isub, i_imul, i_idiv, i_irem, i_ineg, i_iand, i_ior, i_ishl, i_ishr, i_lxor, i_ladd, i_lsub, i_lmul, i_ldiv, i_lrem, i_lneg, i_lshl, i_lcmp, i_i2l, i_l2i, i_i2b, i_i2s, i_ifeq, i_ifne, i_iflt, i_ifge, i_ifgt, i_ifle, i_cmpeq, i_cmpne, i_cmplt, i_cmpge, i_cmpgt, i_cmple, i_acmpeq, i_acmpne, i_ifnull, i_ifnonnull, i_getI, i_getR, i_putZ, i_ald, i_ldL, i_ldR, i_ast, i_stL, i_stR, i_alen, i_new, i_iret, i_zret, i_lret, i_aret, i_vret, i_raise, i_throw, i_recv, i_objinit, i_tsw3, lget, lset, lput1, lput2, lkil, ltrim, largs, isL, takev, dropv, nthv, pushO, catv, gd, true_and, and_true, Option.some.injEq, Prod.mk.injEq, exists_eq_left', if_true, if_false, reduceCtorEq, Bool.false_eq_true, lcmp_ge, lcmp_lt, lcmp_le, lcmp_gt, lcmp_eq, true_or, or_true, not_true_eq_false, not_false_eq_true, false_implies, true_implies, List.length_cons, List.length_nil, o27]
  refine fldA (p := q) (n := 8) (by decide) ⟨Nat.le_trans (by decide) u27.1, Nat.le_trans (by decide) u27.2⟩ (by rw [n27]; exact Nat.lt_add_of_pos_right (by decide)) o27 fun B28 S28 D28 u28 b28 n28 r28 d28 x28 => ?_
  rw [n27] at n28 r28 x28
  replace u28 : 100 ≤ B28.1 ∧ 266323 ≤ B28.2 := ⟨ubB u27.1 u28.1 (by decide), ubB u27.2 u28.2 (by decide)⟩
  clear u27
  replace n28 : S28.2.2 = q + 719 := n28
  have o28 : S28.1 q = some (0, 0) := by rw [b28.2.1 q (by rw [n27]; exact Nat.lt_add_of_pos_right (by decide))]; exact o27
  simp only [P_X0_init, i_kil, i_icon, i_lcon, i_null, i_loadI, i_loadL, i_loadR, i_istore, i_lstore, i_astore, i_iinc, i_dup, i_dup2, i_pop, i_iadd, i_isub, i_imul, i_idiv, i_irem, i_ineg, i_iand, i_ior, i_ishl, i_ishr, i_lxor, i_ladd, i_lsub, i_lmul, i_ldiv, i_lrem, i_lneg, i_lshl, i_lcmp, i_i2l, i_l2i, i_i2b, i_i2s, i_ifeq, i_ifne, i_iflt, i_ifge, i_ifgt, i_ifle, i_cmpeq, i_cmpne, i_cmplt, i_cmpge, i_cmpgt, i_cmple, i_acmpeq, i_acmpne, i_ifnull, i_ifnonnull, i_getI, i_getR, i_putZ, i_ald, i_ldL, i_ldR, i_ast, i_stL, i_stR, i_alen, i_new, i_iret, i_zret, i_lret, i_aret, i_vret, i_raise, i_throw, i_recv, i_objinit, i_tsw3, lget, lset, lput1, lput2, lkil, ltrim, largs, isL, takev, dropv, nthv, pushO, catv, gd, true_and, and_true, Option.some.injEq, Prod.mk.injEq, exists_eq_left', if_true, if_false, reduceCtorEq, Bool.false_eq_true, lcmp_ge, lcmp_lt, lcmp_le, lcmp_gt, lcmp_eq, true_or, or_true, not_true_eq_false, not_false_eq_true, false_implies, true_implies, List.length_cons, List.length_nil, o28]
  refine fldI (p := q) (by rw [n28]; exact Nat.lt_add_of_pos_right (by decide)) o28 fun D29 b29 d29 => ?_
  simp only [P_X0_init, i_kil, i_icon, i_lcon, i_null, i_loadI, i_loadL, i_loadR, i_istore, i_lstore, i_astore, i_iinc, i_dup, i_dup2, i_pop, i_iadd, i_isub, i_imul, i_idiv, i_irem, i_ineg, i_iand, i_ior, i_ishl, i_ishr, i_lxor, i_ladd, i_lsub, i_lmul, i_ldiv, i_lrem, i_lneg, i_lshl, i_lcmp, i_i2l, i_l2i, i_i2b, i_i2s, i_ifeq, i_ifne, i_iflt, i_ifge, i_ifgt, i_ifle, i_cmpeq, i_cmpne, i_cmplt, i_cmpge, i_cmpgt, i_cmple, i_acmpeq, i_acmpne, i_ifnull, i_ifnonnull, i_getI, i_getR, i_putZ, i_ald, i_ldL, i_ldR, i_ast, i_stL, i_stR, i_alen, i_new, i_iret, i_zret, i_lret, i_aret, i_vret, i_raise, i_throw, i_recv, i_objinit, i_tsw3, lget, lset, lput1, lput2, lkil, ltrim, largs, isL, takev, dropv, nthv, pushO, catv, gd, true_and, and_true, Option.some.injEq, Prod.mk.injEq, exists_eq_left', if_true, if_false, reduceCtorEq, Bool.false_eq_true, lcmp_ge, lcmp_lt, lcmp_le, lcmp_gt, lcmp_eq, true_or, or_true, not_true_eq_false, not_false_eq_true, false_implies, true_implies, List.length_cons, List.length_nil, o28]
  refine fld (p := q) mk_X13 X13r.loc ⟨Nat.le_trans (by decide) u28.1, Nat.le_trans (by decide) u28.2⟩ (by rw [n28]; exact Nat.lt_add_of_pos_right (by decide)) o28 (by decide) (by rfl) (by rfl) (by rfl) fun B30 S30 D30 u30 b30 n30 r30 d30 x30 => ?_
  rw [n28] at n30 r30 x30
  replace u30 : 96 ≤ B30.1 ∧ 266274 ≤ B30.2 := ⟨ubB u28.1 u30.1 (by decide), ubB u28.2 u30.2 (by decide)⟩
  clear u28
  replace n30 : S30.2.2 = q + 723 := n30
  have o30 : S30.1 q = some (0, 0) := by rw [b30.2.1 q (by rw [n28]; exact Nat.lt_add_of_pos_right (by decide))]; exact o28
  simp only [P_X0_init, i_kil, i_icon, i_lcon, i_null, i_loadI, i_loadL, i_loadR, i_istore, i_lstore, i_astore, i_iinc, i_dup, i_dup2, i_pop, i_iadd, i_isub, i_imul, i_idiv, i_irem, i_ineg, i_iand, i_ior, i_ishl, i_ishr, i_lxor, i_ladd, i_lsub, i_lmul, i_ldiv, i_lrem, i_lneg, i_lshl, i_lcmp, i_i2l, i_l2i, i_i2b, i_i2s, i_ifeq, i_ifne, i_iflt, i_ifge, i_ifgt, i_ifle, i_cmpeq, i_cmpne, i_cmplt, i_cmpge, i_cmpgt, i_cmple, i_acmpeq, i_acmpne, i_ifnull, i_ifnonnull, i_getI, i_getR, i_putZ, i_ald, i_ldL, i_ldR, i_ast, i_stL, i_stR, i_alen, i_new, i_iret, i_zret, i_lret, i_aret, i_vret, i_raise, i_throw, i_recv, i_objinit, i_tsw3, lget, lset, lput1, lput2, lkil, ltrim, largs, isL, takev, dropv, nthv, pushO, catv, gd, true_and, and_true, Option.some.injEq, Prod.mk.injEq, exists_eq_left', if_true, if_false, reduceCtorEq, Bool.false_eq_true, lcmp_ge, lcmp_lt, lcmp_le, lcmp_gt, lcmp_eq, true_or, or_true, not_true_eq_false, not_false_eq_true, false_implies, true_implies, List.length_cons, List.length_nil, o30]
  refine fldA (p := q) (n := 20000) (by decide) ⟨Nat.le_trans (by decide) u30.1, Nat.le_trans (by decide) u30.2⟩ (by rw [n30]; exact Nat.lt_add_of_pos_right (by decide)) o30 fun B31 S31 D31 u31 b31 n31 r31 d31 x31 => ?_
  rw [n30] at n31 r31 x31
  replace u31 : 95 ≤ B31.1 ∧ 246274 ≤ B31.2 := ⟨ubB u30.1 u31.1 (by decide), ubB u30.2 u31.2 (by decide)⟩
  clear u30
  replace n31 : S31.2.2 = q + 724 := n31
  have o31 : S31.1 q = some (0, 0) := by rw [b31.2.1 q (by rw [n30]; exact Nat.lt_add_of_pos_right (by decide))]; exact o30
  simp only [P_X0_init, i_kil, i_icon, i_lcon, i_null, i_loadI, i_loadL, i_loadR, i_istore, i_lstore, i_astore, i_iinc, i_dup, i_dup2, i_pop, i_iadd, i_isub, i_imul, i_idiv, i_irem, i_ineg, i_iand, i_ior, i_ishl, i_ishr, i_lxor, i_ladd, i_lsub, i_lmul, i_ldiv, i_lrem, i_lneg, i_lshl, i_lcmp, i_i2l, i_l2i, i_i2b, i_i2s, i_ifeq, i_ifne, i_iflt, i_ifge, i_ifgt, i_ifle, i_cmpeq, i_cmpne, i_cmplt, i_cmpge, i_cmpgt, i_cmple, i_acmpeq, i_acmpne, i_ifnull, i_ifnonnull, i_getI, i_getR, i_putZ, i_ald, i_ldL, i_ldR, i_ast, i_stL, i_stR, i_alen, i_new, i_iret, i_zret, i_lret, i_aret, i_vret, i_raise, i_throw, i_recv, i_objinit, i_tsw3, lget, lset, lput1, lput2, lkil, ltrim, largs, isL, takev, dropv, nthv, pushO, catv, gd, true_and, and_true, Option.some.injEq, Prod.mk.injEq, exists_eq_left', if_true, if_false, reduceCtorEq, Bool.false_eq_true, lcmp_ge, lcmp_lt, lcmp_le, lcmp_gt, lcmp_eq, true_or, or_true, not_true_eq_false, not_false_eq_true, false_implies, true_implies, List.length_cons, List.length_nil, o31]
  refine fld (p := q) mk_X13 X13r.loc ⟨Nat.le_trans (by decide) u31.1, Nat.le_trans (by decide) u31.2⟩ (by rw [n31]; exact Nat.lt_add_of_pos_right (by decide)) o31 (by decide) (by rfl) (by rfl) (by rfl) fun B32 S32 D32 u32 b32 n32 r32 d32 x32 => ?_
  rw [n31] at n32 r32 x32
  replace u32 : 91 ≤ B32.1 ∧ 246225 ≤ B32.2 := ⟨ubB u31.1 u32.1 (by decide), ubB u31.2 u32.2 (by decide)⟩
  clear u31
  replace n32 : S32.2.2 = q + 728 := n32
  have o32 : S32.1 q = some (0, 0) := by rw [b32.2.1 q (by rw [n31]; exact Nat.lt_add_of_pos_right (by decide))]; exact o31
  have g32 : bE q S32 S32 D32 D32 := bE.rfl
  have g31 : bE q S31 S32 D31 D32 := b32.tr g32
  have g30 : bE q S30 S32 D30 D32 := b31.tr g31
  have g29 : bE q S28 S32 D29 D32 := b30.tr g30
  have g28 : bE q S28 S32 D28 D32 := b29.tr g29
  have g27 : bE q S27 S32 D27 D32 := b28.tr g28
  have g26 : bE q S26 S32 D26 D32 := b27.tr g27
  have g25 : bE q S25 S32 D25 D32 := b26.tr g26
  have g24 : bE q S24 S32 D24 D32 := b25.tr g25
  have g23 : bE q S23 S32 D23 D32 := b24.tr g24
  have g22 : bE q S22 S32 D22 D32 := b23.tr g23
  have g21 : bE q S21 S32 D21 D32 := b22.tr g22
  have g20 : bE q S20 S32 D20 D32 := b21.tr g21
  have g19 : bE q S19 S32 D19 D32 := b20.tr g20
  have g18 : bE q S18 S32 D18 D32 := b19.tr g19
  have g17 : bE q S17 S32 D17 D32 := b18.tr g18
  have g16 : bE q S16 S32 D16 D32 := b17.tr g17
  have g15 : bE q S15 S32 D15 D32 := b16.tr g16
  have g14 : bE q S14 S32 D14 D32 := b15.tr g15
  have g13 : bE q S13 S32 D13 D32 := b14.tr g14
  have g12 : bE q S12 S32 D12 D32 := b13.tr g13
  have g11 : bE q S11 S32 D11 D32 := b12.tr g12
  have g10 : bE q S10 S32 D10 D32 := b11.tr g11
  have g9 : bE q S9 S32 D9 D32 := b10.tr g10
  have g8 : bE q S8 S32 D8 D32 := b9.tr g9
  have g7 : bE q S7 S32 D7 D32 := b8.tr g8
  have g6 : bE q S6 S32 D6 D32 := b7.tr g7
  have g5 : bE q S5 S32 D5 D32 := b6.tr g6
  have g4 : bE q S4 S32 D4 D32 := b5.tr g5
  have g3 : bE q S3 S32 D3 D32 := b4.tr g4
  have g2 : bE q S2 S32 D2 D32 := b3.tr g3
  have g1 : bE q S1 S32 D1 D32 := b2.tr g2
  have g0 : bE q S S32 D D32 := b1.tr g1
  have y1 := (X0a.loc 111 8).go g1 (Nat.le_of_eq n1.symm) (Or.inl (Nat.lt_add_of_pos_right (by decide))) x1
  have y2 := (X0a.loc 100 8).go g2 (Nat.le_of_eq n2.symm) (Or.inl (Nat.lt_add_of_pos_right (by decide))) x2
  have y3 := X1t.loc.go g3 (Nat.le_of_eq n3.symm) (Or.inl (Nat.lt_add_of_pos_right (by decide))) x3
  have y4 := X2r.loc.go g4 (Nat.le_of_eq n4.symm) (Or.inl (Nat.lt_add_of_pos_right (by decide))) x4
  have y5 := (X4d.loc (q + 3) (q + 22)).go g5 (Nat.le_of_eq n5.symm) (Or.inl (Nat.lt_add_of_pos_right (by decide))) x5
  have y6 := (X7s.loc (q + 3) (q + 22)).go g6 (Nat.le_of_eq n6.symm) (Or.inl (Nat.lt_add_of_pos_right (by decide))) x6
  have y7 := (X8c.loc (q + 22)).go g7 (Nat.le_of_eq n7.symm) (Or.inl (Nat.lt_add_of_pos_right (by decide))) x7
  have y8 := (X8c.loc (q + 22)).go g8 (Nat.le_of_eq n8.symm) (Or.inl (Nat.lt_add_of_pos_right (by decide))) x8
  have y9 := (X6q.loc (q + 22)).go g9 (Nat.le_of_eq n9.symm) (Or.inl (Nat.lt_add_of_pos_right (by decide))) x9
  have y10 := (X6q.loc (q + 22)).go g10 (Nat.le_of_eq n10.symm) (Or.inl (Nat.lt_add_of_pos_right (by decide))) x10
  have y11 := (X6q.loc (q + 22)).go g11 (Nat.le_of_eq n11.symm) (Or.inl (Nat.lt_add_of_pos_right (by decide))) x11
  have y12 := (X3w.loc 160).go g12 (Nat.le_of_eq n12.symm) (Or.inl (Nat.lt_add_of_pos_right (by decide))) x12
  have y13 := (X3w.loc 160).go g13 (Nat.le_of_eq n13.symm) (Or.inl (Nat.lt_add_of_pos_right (by decide))) x13
  have y14 := (X3w.loc 160).go g14 (Nat.le_of_eq n14.symm) (Or.inl (Nat.lt_add_of_pos_right (by decide))) x14
  have y15 := (X0a.loc 108 16).go g15 (Nat.le_of_eq n15.symm) (Or.inl (Nat.lt_add_of_pos_right (by decide))) x15
  have y16 := (X9l.loc 9 (q + 3)).go g16 (Nat.le_of_eq n16.symm) (Or.inl (Nat.lt_add_of_pos_right (by decide))) x16
  have y17 := (XO.loc (q + 3) (q + 699)).go g17 (Nat.le_of_eq n17.symm) (Or.inl (Nat.lt_add_of_pos_right (by decide))) x17
  have y18 := X5p.loc.go g18 (Nat.le_of_eq n18.symm) (Or.inl (Nat.lt_add_of_pos_right (by decide))) x18
  have y19 := (X0a.loc 107 6).go g19 (Nat.le_of_eq n19.symm) (Or.inl (Nat.lt_add_of_pos_right (by decide))) x19
  have y20 := (X0a.loc 100 1820).go g20 (Nat.le_of_eq n20.symm) (Or.inl (Nat.lt_add_of_pos_right (by decide))) x20
  have y21 := (X0a.loc 107 6).go g21 (Nat.le_of_eq n21.symm) (Or.inl (Nat.lt_add_of_pos_right (by decide))) x21
  have y22 := (X0a.loc 107 6).go g22 (Nat.le_of_eq n22.symm) (Or.inl (Nat.lt_add_of_pos_right (by decide))) x22
  have y23 := X5p.loc.go g23 (Nat.le_of_eq n23.symm) (Or.inl (Nat.lt_add_of_pos_right (by decide))) x23
  have y24 := X5p.loc.go g24 (Nat.le_of_eq n24.symm) (Or.inl (Nat.lt_add_of_pos_right (by decide))) x24
  have y25 := (X0a.loc 107 15).go g25 (Nat.le_of_eq n25.symm) (Or.inl (Nat.lt_add_of_pos_right (by decide))) x25
  have y26 := (X0a.loc 100 9).go g26 (Nat.le_of_eq n26.symm) (Or.inl (Nat.lt_add_of_pos_right (by decide))) x26
  have y27 := (X0a.loc 100 9).go g27 (Nat.le_of_eq n27.symm) (Or.inl (Nat.lt_add_of_pos_right (by decide))) x27
  have y28 := (X0a.loc 110 8).go g28 (Nat.le_of_eq n28.symm) (Or.inl (Nat.lt_add_of_pos_right (by decide))) x28
  have y30 := X13r.loc.go g30 (Nat.le_of_eq n30.symm) (Or.inl (Nat.lt_add_of_pos_right (by decide))) x30
  have y31 := (X0a.loc 101 20000).go g31 (Nat.le_of_eq n31.symm) (Or.inl (Nat.lt_add_of_pos_right (by decide))) x31
  have y32 := X13r.loc.go g32 (Nat.le_of_eq n32.symm) (Or.inl (Nat.lt_add_of_pos_right (by decide))) x32
  have hw : x0W S32 D32 q := ⟨o32, n32, fun i => by rw [r32, r31, r30, r28, r27, r26, r25, r24, r23, r22, r21, r20, r19, r18, r17, r16, r15, r14, r13, r12, r11, r10, r9, r8, r7, r6, r5, r4, r3, r2, r1, h3]; rfl, fun i => by rw [d32, d31, d30, d29, d28, d27, d26, d25, d24, d23, d22, d21, d20, d19, d18, d17, d16, d15, d14, d13, d12, d11, d10, d9, d8, d7, d6, d5, d4, d3, d2, d1, h4], y1, y2, y3, y4, y5, y6, y7, y8, y9, y10, y11, y12, y13, y14, y15, y16, y17, y18, y19, y20, y21, y22, y23, y24, y25, y26, y27, y28, y30, y31, y32⟩
  clear r1 r2 r3 r4 r5 r6 r7 r8 r9 r10 r11 r12 r13 r14 r15 r16 r17 r18 r19 r20 r21 r22 r23 r24 r25 r26 r27 r28 r30 r31 r32
  simp only [P_X0_init, i_kil, i_icon, i_lcon, i_null, i_loadI, i_loadL, i_loadR, i_istore, i_lstore, i_astore, i_iinc, i_dup, i_dup2, i_pop, i_iadd, i_isub, i_imul, i_idiv, i_irem, i_ineg, i_iand, i_ior, i_ishl, i_ishr, i_lxor, i_ladd, i_lsub, i_lmul, i_ldiv, i_lrem, i_lneg, i_lshl, i_lcmp, i_i2l, i_l2i, i_i2b, i_i2s, i_ifeq, i_ifne, i_iflt, i_ifge, i_ifgt, i_ifle, i_cmpeq, i_cmpne, i_cmplt, i_cmpge, i_cmpgt, i_cmple, i_acmpeq, i_acmpne, i_ifnull, i_ifnonnull, i_getI, i_getR, i_putI, i_putZ, i_putR, i_ald, i_ldL, i_ldR, i_ast, i_stL, i_stR, i_alen, i_new, i_newa, i_iret, i_zret, i_lret, i_aret, i_vret, i_raise, i_throw, i_recv, i_objinit, i_tsw3, lget, lset, lput1, lput2, lkil, ltrim, largs, isL, takev, dropv, nthv, pushO, catv, gd, true_and, and_true, Option.some.injEq, Prod.mk.injEq, exists_eq_left', if_true, if_false, reduceCtorEq, Bool.false_eq_true, lcmp_ge, lcmp_lt, lcmp_le, lcmp_gt, lcmp_eq, true_or, or_true, not_true_eq_false, not_false_eq_true, false_implies, true_implies, List.length_cons, List.length_nil]
  refine x0_l1 7 1 _ S32 D32 rfl (by decide) ⟨Nat.le_trans (by decide) u32.1, Nat.le_trans (by decide) u32.2⟩ o32 (hw.2.2.1 0) y1.1 n32 (fun j j1 j2 => absurd (Nat.lt_of_lt_of_le j2 j1) (Nat.lt_irrefl _)) fun B101 S101 D101 u101 c1 n101 e101 => ?_
  have v1 : 84 ≤ B101.1 ∧ 246176 ≤ B101.2 := ⟨ubB u32.1 u101.1 (by decide), ubB u32.2 u101.2 (by decide)⟩
  exact x0_end hw c1 n101 e101 v1 fun B9 S9 D9 w1 w2 w3 => K B9 S9 D9 w1 w3 (g0.trF w2 (fun a ha => by rw [h2]; exact x0G_ge ha))
