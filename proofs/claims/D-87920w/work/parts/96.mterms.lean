/-! the model's terms and orders -/
set_option maxRecDepth 100000
set_option linter.unusedVariables false
def tcode (t : Nat) : Int := (tx0 t : Int) + 16 * (tx1 t : Int) + 256 * (tx2 t : Int)
theorem texp_all : ∀ t : Fin 455, ∀ l : Fin 3, andI (shrI (tcode t) (4 * ((l : Nat) : Int))) 15 = txl l t := by decide +kernel
theorem texp {t l : Nat} (h : t < 455) (hl : l < 3) : andI (shrI (tcode t) (4 * (l : Int))) 15 = txl l t := texp_all ⟨t, h⟩ ⟨l, hl⟩
theorem tcode_lim {t : Nat} (h : t < 455) : 0 ≤ tcode t ∧ tcode t ≤ 4000 := by
  have := tx_lim h
  unfold tcode; omega
theorem sp_X16_exponent {E : Ex} {B : Nat × Nat} {S : Stat} {D : Dat} {t l : Nat} {x : Int} (ht : t < 455) (hl : l < 3) (hx : x = l) (k : E (.inl (some (.inl (txl l t : Int)))) B S D) : Wp P_X16_exponent E 0 [some (aI (tcode t)), some (aI x)] [] B S D := by
  subst hx
  refine wp_in ?_
  simp only [P_X16_exponent, i_kil, i_icon, i_lcon, i_null, i_loadI, i_loadL, i_loadR, i_istore, i_lstore, i_astore, i_iinc, i_dup, i_dup2, i_pop, i_iadd, i_isub, i_imul, i_idiv, i_irem, i_ineg, i_iand, i_ior, i_ishl, i_ishr, i_lxor, i_ladd, i_lsub, i_lmul, i_ldiv, i_lrem, i_lneg, i_lshl, i_lcmp, i_i2l, i_l2i, i_i2b, i_i2s, i_ifeq, i_ifne, i_iflt, i_ifge, i_ifgt, i_ifle, i_cmpeq, i_cmpne, i_cmplt, i_cmpge, i_cmpgt, i_cmple, i_acmpeq, i_acmpne, i_ifnull, i_ifnonnull, i_getI, i_getR, i_putI, i_putZ, i_putR, i_ald, i_ldL, i_ldR, i_ast, i_stL, i_stR, i_alen, i_new, i_newa, i_iret, i_zret, i_lret, i_aret, i_vret, i_raise, i_throw, i_recv, i_objinit, i_tsw3, lget, lset, lput1, lput2, lkil, ltrim, largs, isL, takev, dropv, nthv, pushO, catv, gd, true_and, and_true, Option.some.injEq, Prod.mk.injEq, exists_eq_left', if_true, if_false, reduceCtorEq, Bool.false_eq_true, lcmp_ge, lcmp_lt, lcmp_le, lcmp_gt, lcmp_eq, true_or, or_true, not_true_eq_false, not_false_eq_true, false_implies, true_implies, List.length_cons, List.length_nil, texp ht hl]
  exact ⟨in_small (by omega) (by omega), k⟩
theorem wp_exp {K : Tm} {ls : List (Option PV)} {st : List PV} {B : Nat × Nat} {S : Stat} {D : Dat} {t l : Nat} {x y : Int} (hc : gdb (.inl x :: .inl y :: st) 2 2 = true) (hy : y = tcode t) (ht : t < 455) (hl : l < 3) (hx : x = l) (h : K ls (.inl (txl l t : Int) :: st) B S D) : i_call K P_X16_exponent 2 2 i_none ls (.inl x :: .inl y :: st) B S D := by
  subst hy
  refine call0 (gd_of hc) ?_
  simp only [takev, takev0, largs, isL]
  refine sp_X16_exponent ht hl hx ?_
  show K ls (.inl _ :: dropv (.inl x :: .inl (tcode t) :: st) 2) B S D
  simp only [dropv, dropv0]
  exact h
set_option maxHeartbeats 1000000 in
theorem sp_X16_degreeOf {E : Ex} {B : Nat × Nat} {S : Stat} {D : Dat} {t : Nat} (ht : t < 455) (k : E (.inl (some (.inl ((tx0 t : Int) + tx1 t + tx2 t)))) B S D) : Wp P_X16_degreeOf E 0 [some (aI (tcode t))] [] B S D := by
  have := tx_lim ht
  refine wp_in ?_
  simp only [P_X16_degreeOf, i_kil, i_icon, i_lcon, i_null, i_loadI, i_loadL, i_loadR, i_istore, i_lstore, i_astore, i_iinc, i_dup, i_dup2, i_pop, i_iadd, i_isub, i_imul, i_idiv, i_irem, i_ineg, i_iand, i_ior, i_ishl, i_ishr, i_lxor, i_ladd, i_lsub, i_lmul, i_ldiv, i_lrem, i_lneg, i_lshl, i_lcmp, i_i2l, i_l2i, i_i2b, i_i2s, i_ifeq, i_ifne, i_iflt, i_ifge, i_ifgt, i_ifle, i_cmpeq, i_cmpne, i_cmplt, i_cmpge, i_cmpgt, i_cmple, i_acmpeq, i_acmpne, i_ifnull, i_ifnonnull, i_getI, i_getR, i_putI, i_putZ, i_putR, i_ald, i_ldL, i_ldR, i_ast, i_stL, i_stR, i_alen, i_new, i_newa, i_iret, i_zret, i_lret, i_aret, i_vret, i_raise, i_throw, i_recv, i_objinit, i_tsw3, lget, lset, lput1, lput2, lkil, ltrim, largs, isL, takev, dropv, nthv, pushO, catv, gd, true_and, and_true, Option.some.injEq, Prod.mk.injEq, exists_eq_left', if_true, if_false, reduceCtorEq, Bool.false_eq_true, lcmp_ge, lcmp_lt, lcmp_le, lcmp_gt, lcmp_eq, true_or, or_true, not_true_eq_false, not_false_eq_true, false_implies, true_implies, List.length_cons, List.length_nil]
  refine wp_exp (l := 0) rfl rfl ht (by omega) rfl ?_
  simp only [P_X16_degreeOf, i_kil, i_icon, i_lcon, i_null, i_loadI, i_loadL, i_loadR, i_istore, i_lstore, i_astore, i_iinc, i_dup, i_dup2, i_pop, i_iadd, i_isub, i_imul, i_idiv, i_irem, i_ineg, i_iand, i_ior, i_ishl, i_ishr, i_lxor, i_ladd, i_lsub, i_lmul, i_ldiv, i_lrem, i_lneg, i_lshl, i_lcmp, i_i2l, i_l2i, i_i2b, i_i2s, i_ifeq, i_ifne, i_iflt, i_ifge, i_ifgt, i_ifle, i_cmpeq, i_cmpne, i_cmplt, i_cmpge, i_cmpgt, i_cmple, i_acmpeq, i_acmpne, i_ifnull, i_ifnonnull, i_getI, i_getR, i_putI, i_putZ, i_putR, i_ald, i_ldL, i_ldR, i_ast, i_stL, i_stR, i_alen, i_new, i_newa, i_iret, i_zret, i_lret, i_aret, i_vret, i_raise, i_throw, i_recv, i_objinit, i_tsw3, lget, lset, lput1, lput2, lkil, ltrim, largs, isL, takev, dropv, nthv, pushO, catv, gd, true_and, and_true, Option.some.injEq, Prod.mk.injEq, exists_eq_left', if_true, if_false, reduceCtorEq, Bool.false_eq_true, lcmp_ge, lcmp_lt, lcmp_le, lcmp_gt, lcmp_eq, true_or, or_true, not_true_eq_false, not_false_eq_true, false_implies, true_implies, List.length_cons, List.length_nil]
  refine wp_exp (l := 1) rfl rfl ht (by omega) rfl ?_
  simp only [P_X16_degreeOf, i_kil, i_icon, i_lcon, i_null, i_loadI, i_loadL, i_loadR, i_istore, i_lstore, i_astore, i_iinc, i_dup, i_dup2, i_pop, i_iadd, i_isub, i_imul, i_idiv, i_irem, i_ineg, i_iand, i_ior, i_ishl, i_ishr, i_lxor, i_ladd, i_lsub, i_lmul, i_ldiv, i_lrem, i_lneg, i_lshl, i_lcmp, i_i2l, i_l2i, i_i2b, i_i2s, i_ifeq, i_ifne, i_iflt, i_ifge, i_ifgt, i_ifle, i_cmpeq, i_cmpne, i_cmplt, i_cmpge, i_cmpgt, i_cmple, i_acmpeq, i_acmpne, i_ifnull, i_ifnonnull, i_getI, i_getR, i_putI, i_putZ, i_putR, i_ald, i_ldL, i_ldR, i_ast, i_stL, i_stR, i_alen, i_new, i_newa, i_iret, i_zret, i_lret, i_aret, i_vret, i_raise, i_throw, i_recv, i_objinit, i_tsw3, lget, lset, lput1, lput2, lkil, ltrim, largs, isL, takev, dropv, nthv, pushO, catv, gd, true_and, and_true, Option.some.injEq, Prod.mk.injEq, exists_eq_left', if_true, if_false, reduceCtorEq, Bool.false_eq_true, lcmp_ge, lcmp_lt, lcmp_le, lcmp_gt, lcmp_eq, true_or, or_true, not_true_eq_false, not_false_eq_true, false_implies, true_implies, List.length_cons, List.length_nil, txl]
  refine ⟨in_small (by omega) (by omega), ?_⟩
  refine wp_exp (l := 2) rfl rfl ht (by omega) rfl ?_
  simp only [P_X16_degreeOf, i_kil, i_icon, i_lcon, i_null, i_loadI, i_loadL, i_loadR, i_istore, i_lstore, i_astore, i_iinc, i_dup, i_dup2, i_pop, i_iadd, i_isub, i_imul, i_idiv, i_irem, i_ineg, i_iand, i_ior, i_ishl, i_ishr, i_lxor, i_ladd, i_lsub, i_lmul, i_ldiv, i_lrem, i_lneg, i_lshl, i_lcmp, i_i2l, i_l2i, i_i2b, i_i2s, i_ifeq, i_ifne, i_iflt, i_ifge, i_ifgt, i_ifle, i_cmpeq, i_cmpne, i_cmplt, i_cmpge, i_cmpgt, i_cmple, i_acmpeq, i_acmpne, i_ifnull, i_ifnonnull, i_getI, i_getR, i_putI, i_putZ, i_putR, i_ald, i_ldL, i_ldR, i_ast, i_stL, i_stR, i_alen, i_new, i_newa, i_iret, i_zret, i_lret, i_aret, i_vret, i_raise, i_throw, i_recv, i_objinit, i_tsw3, lget, lset, lput1, lput2, lkil, ltrim, largs, isL, takev, dropv, nthv, pushO, catv, gd, true_and, and_true, Option.some.injEq, Prod.mk.injEq, exists_eq_left', if_true, if_false, reduceCtorEq, Bool.false_eq_true, lcmp_ge, lcmp_lt, lcmp_le, lcmp_gt, lcmp_eq, true_or, or_true, not_true_eq_false, not_false_eq_true, false_implies, true_implies, List.length_cons, List.length_nil, txl]
  exact ⟨in_small (by omega) (by omega), k⟩
def lexS (t u : Nat) : Nat → Nat → Int
  | 0, l => 0
  | n + 1, l => if td l t u = 0 then lexS t u n (l + 1) else Int.sign (td l t u)
theorem lexS_lexI (t u : Nat) : lexS t u 3 0 = Int.sign (lexI t u) := by
  simp only [lexS, lexI]
  split
  · split
    · split
      · rename_i h; rw [h]; rfl
      · rfl
    · rfl
  · rfl
theorem sgn_ne {x y : Int} (h : ¬ x = y) : (x < y → Int.sign (x - y) = -1) ∧ (¬ x < y → Int.sign (x - y) = 1) :=
  ⟨fun g => Int.sign_eq_neg_one_of_neg (by omega), fun g => Int.sign_eq_one_of_pos (by omega)⟩
set_option maxHeartbeats 1000000 in
theorem sp_X16_lex {E : Ex} {B : Nat × Nat} {S : Stat} {D : Dat} {t u : Nat} (ht : t < 455) (hu : u < 455) (k : E (.inl (some (.inl (Int.sign (lexI t u))))) B S D) : Wp P_X16_lex E 0 [some (aI (tcode t)), some (aI (tcode u))] [] B S D := by
  rw [← lexS_lexI] at k
  obtain ⟨R, hR⟩ : ∃ R, R = lexS t u 3 0 := ⟨_, rfl⟩
  rw [← hR] at k
  have fin : ∀ z, z = R → Wp P_X16_lex E 2 [] [aI z] B S D := fun z h => by
    refine wp_in ?_
    simp only [P_X16_lex, i_kil, i_icon, i_lcon, i_null, i_loadI, i_loadL, i_loadR, i_istore, i_lstore, i_astore, i_iinc, i_dup, i_dup2, i_pop, i_iadd, i_isub, i_imul, i_idiv, i_irem, i_ineg, i_iand, i_ior, i_ishl, i_ishr, i_lxor, i_ladd, i_lsub, i_lmul, i_ldiv, i_lrem, i_lneg, i_lshl, i_lcmp, i_i2l, i_l2i, i_i2b, i_i2s, i_ifeq, i_ifne, i_iflt, i_ifge, i_ifgt, i_ifle, i_cmpeq, i_cmpne, i_cmplt, i_cmpge, i_cmpgt, i_cmple, i_acmpeq, i_acmpne, i_ifnull, i_ifnonnull, i_getI, i_getR, i_putI, i_putZ, i_putR, i_ald, i_ldL, i_ldR, i_ast, i_stL, i_stR, i_alen, i_new, i_newa, i_iret, i_zret, i_lret, i_aret, i_vret, i_raise, i_throw, i_recv, i_objinit, i_tsw3, lget, lset, lput1, lput2, lkil, ltrim, largs, isL, takev, dropv, nthv, pushO, catv, gd, true_and, and_true, Option.some.injEq, Prod.mk.injEq, exists_eq_left', if_true, if_false, reduceCtorEq, Bool.false_eq_true, lcmp_ge, lcmp_lt, lcmp_le, lcmp_gt, lcmp_eq, true_or, or_true, not_true_eq_false, not_false_eq_true, false_implies, true_implies, List.length_cons, List.length_nil]
    rw [h]; exact k
  have loop : ∀ (n l : Nat), l + n = 3 → lexS t u n l = R → Wp P_X16_lex E 1 [some (aI (tcode t)), some (aI (tcode u)), some (aI l)] [] B S D := by
    intro n
    induction n with
    | zero =>
      intro l hl hr
      have h3 : l = 3 := by omega
      subst h3
      refine wp_in ?_
      simp only [P_X16_lex, i_kil, i_icon, i_lcon, i_null, i_loadI, i_loadL, i_loadR, i_istore, i_lstore, i_astore, i_iinc, i_dup, i_dup2, i_pop, i_iadd, i_isub, i_imul, i_idiv, i_irem, i_ineg, i_iand, i_ior, i_ishl, i_ishr, i_lxor, i_ladd, i_lsub, i_lmul, i_ldiv, i_lrem, i_lneg, i_lshl, i_lcmp, i_i2l, i_l2i, i_i2b, i_i2s, i_ifeq, i_ifne, i_iflt, i_ifge, i_ifgt, i_ifle, i_cmpeq, i_cmpne, i_cmplt, i_cmpge, i_cmpgt, i_cmple, i_acmpeq, i_acmpne, i_ifnull, i_ifnonnull, i_getI, i_getR, i_putI, i_putZ, i_putR, i_ald, i_ldL, i_ldR, i_ast, i_stL, i_stR, i_alen, i_new, i_newa, i_iret, i_zret, i_lret, i_aret, i_vret, i_raise, i_throw, i_recv, i_objinit, i_tsw3, lget, lset, lput1, lput2, lkil, ltrim, largs, isL, takev, dropv, nthv, pushO, catv, gd, true_and, and_true, Option.some.injEq, Prod.mk.injEq, exists_eq_left', if_true, if_false, reduceCtorEq, Bool.false_eq_true, lcmp_ge, lcmp_lt, lcmp_le, lcmp_gt, lcmp_eq, true_or, or_true, not_true_eq_false, not_false_eq_true, false_implies, true_implies, List.length_cons, List.length_nil]
      simp only [lexS] at hr
      exact ⟨fun _ => by rw [hr]; exact k, fun h => by omega⟩
    | succ n ih =>
      intro l hl hr
      simp only [lexS] at hr
      have e1 := txl_lim (l := l) ht
      have e2 := txl_lim (l := l) hu
      refine wp_in ?_
      simp only [P_X16_lex, i_kil, i_icon, i_lcon, i_null, i_loadI, i_loadL, i_loadR, i_istore, i_lstore, i_astore, i_iinc, i_dup, i_dup2, i_pop, i_iadd, i_isub, i_imul, i_idiv, i_irem, i_ineg, i_iand, i_ior, i_ishl, i_ishr, i_lxor, i_ladd, i_lsub, i_lmul, i_ldiv, i_lrem, i_lneg, i_lshl, i_lcmp, i_i2l, i_l2i, i_i2b, i_i2s, i_ifeq, i_ifne, i_iflt, i_ifge, i_ifgt, i_ifle, i_cmpeq, i_cmpne, i_cmplt, i_cmpge, i_cmpgt, i_cmple, i_acmpeq, i_acmpne, i_ifnull, i_ifnonnull, i_getI, i_getR, i_putI, i_putZ, i_putR, i_ald, i_ldL, i_ldR, i_ast, i_stL, i_stR, i_alen, i_new, i_newa, i_iret, i_zret, i_lret, i_aret, i_vret, i_raise, i_throw, i_recv, i_objinit, i_tsw3, lget, lset, lput1, lput2, lkil, ltrim, largs, isL, takev, dropv, nthv, pushO, catv, gd, true_and, and_true, Option.some.injEq, Prod.mk.injEq, exists_eq_left', if_true, if_false, reduceCtorEq, Bool.false_eq_true, lcmp_ge, lcmp_lt, lcmp_le, lcmp_gt, lcmp_eq, true_or, or_true, not_true_eq_false, not_false_eq_true, false_implies, true_implies, List.length_cons, List.length_nil]
      refine ⟨fun h => by omega, fun _ => ?_⟩
      refine wp_exp rfl rfl ht (by omega) rfl ?_
      simp only [P_X16_lex, i_kil, i_icon, i_lcon, i_null, i_loadI, i_loadL, i_loadR, i_istore, i_lstore, i_astore, i_iinc, i_dup, i_dup2, i_pop, i_iadd, i_isub, i_imul, i_idiv, i_irem, i_ineg, i_iand, i_ior, i_ishl, i_ishr, i_lxor, i_ladd, i_lsub, i_lmul, i_ldiv, i_lrem, i_lneg, i_lshl, i_lcmp, i_i2l, i_l2i, i_i2b, i_i2s, i_ifeq, i_ifne, i_iflt, i_ifge, i_ifgt, i_ifle, i_cmpeq, i_cmpne, i_cmplt, i_cmpge, i_cmpgt, i_cmple, i_acmpeq, i_acmpne, i_ifnull, i_ifnonnull, i_getI, i_getR, i_putI, i_putZ, i_putR, i_ald, i_ldL, i_ldR, i_ast, i_stL, i_stR, i_alen, i_new, i_newa, i_iret, i_zret, i_lret, i_aret, i_vret, i_raise, i_throw, i_recv, i_objinit, i_tsw3, lget, lset, lput1, lput2, lkil, ltrim, largs, isL, takev, dropv, nthv, pushO, catv, gd, true_and, and_true, Option.some.injEq, Prod.mk.injEq, exists_eq_left', if_true, if_false, reduceCtorEq, Bool.false_eq_true, lcmp_ge, lcmp_lt, lcmp_le, lcmp_gt, lcmp_eq, true_or, or_true, not_true_eq_false, not_false_eq_true, false_implies, true_implies, List.length_cons, List.length_nil]
      refine wp_exp rfl rfl hu (by omega) rfl ?_
      simp only [P_X16_lex, i_kil, i_icon, i_lcon, i_null, i_loadI, i_loadL, i_loadR, i_istore, i_lstore, i_astore, i_iinc, i_dup, i_dup2, i_pop, i_iadd, i_isub, i_imul, i_idiv, i_irem, i_ineg, i_iand, i_ior, i_ishl, i_ishr, i_lxor, i_ladd, i_lsub, i_lmul, i_ldiv, i_lrem, i_lneg, i_lshl, i_lcmp, i_i2l, i_l2i, i_i2b, i_i2s, i_ifeq, i_ifne, i_iflt, i_ifge, i_ifgt, i_ifle, i_cmpeq, i_cmpne, i_cmplt, i_cmpge, i_cmpgt, i_cmple, i_acmpeq, i_acmpne, i_ifnull, i_ifnonnull, i_getI, i_getR, i_putI, i_putZ, i_putR, i_ald, i_ldL, i_ldR, i_ast, i_stL, i_stR, i_alen, i_new, i_newa, i_iret, i_zret, i_lret, i_aret, i_vret, i_raise, i_throw, i_recv, i_objinit, i_tsw3, lget, lset, lput1, lput2, lkil, ltrim, largs, isL, takev, dropv, nthv, pushO, catv, gd, true_and, and_true, Option.some.injEq, Prod.mk.injEq, exists_eq_left', if_true, if_false, reduceCtorEq, Bool.false_eq_true, lcmp_ge, lcmp_lt, lcmp_le, lcmp_gt, lcmp_eq, true_or, or_true, not_true_eq_false, not_false_eq_true, false_implies, true_implies, List.length_cons, List.length_nil]
      refine ⟨fun h => ⟨in_small (by omega) (by omega), ?_⟩, fun h => ?_⟩
      · rw [if_pos (by unfold td; omega)] at hr
        exact ih (l + 1) (by omega) hr
      · have hne : ¬ td l t u = 0 := by unfold td; omega
        rw [if_neg hne] at hr
        obtain ⟨s1, s2⟩ := sgn_ne h
        refine wp_exp rfl rfl ht (by omega) rfl ?_
        simp only [P_X16_lex, i_kil, i_icon, i_lcon, i_null, i_loadI, i_loadL, i_loadR, i_istore, i_lstore, i_astore, i_iinc, i_dup, i_dup2, i_pop, i_iadd, i_isub, i_imul, i_idiv, i_irem, i_ineg, i_iand, i_ior, i_ishl, i_ishr, i_lxor, i_ladd, i_lsub, i_lmul, i_ldiv, i_lrem, i_lneg, i_lshl, i_lcmp, i_i2l, i_l2i, i_i2b, i_i2s, i_ifeq, i_ifne, i_iflt, i_ifge, i_ifgt, i_ifle, i_cmpeq, i_cmpne, i_cmplt, i_cmpge, i_cmpgt, i_cmple, i_acmpeq, i_acmpne, i_ifnull, i_ifnonnull, i_getI, i_getR, i_putI, i_putZ, i_putR, i_ald, i_ldL, i_ldR, i_ast, i_stL, i_stR, i_alen, i_new, i_newa, i_iret, i_zret, i_lret, i_aret, i_vret, i_raise, i_throw, i_recv, i_objinit, i_tsw3, lget, lset, lput1, lput2, lkil, ltrim, largs, isL, takev, dropv, nthv, pushO, catv, gd, true_and, and_true, Option.some.injEq, Prod.mk.injEq, exists_eq_left', if_true, if_false, reduceCtorEq, Bool.false_eq_true, lcmp_ge, lcmp_lt, lcmp_le, lcmp_gt, lcmp_eq, true_or, or_true, not_true_eq_false, not_false_eq_true, false_implies, true_implies, List.length_cons, List.length_nil]
        refine wp_exp rfl rfl hu (by omega) rfl ?_
        simp only [P_X16_lex, i_kil, i_icon, i_lcon, i_null, i_loadI, i_loadL, i_loadR, i_istore, i_lstore, i_astore, i_iinc, i_dup, i_dup2, i_pop, i_iadd, i_isub, i_imul, i_idiv, i_irem, i_ineg, i_iand, i_ior, i_ishl, i_ishr, i_lxor, i_ladd, i_lsub, i_lmul, i_ldiv, i_lrem, i_lneg, i_lshl, i_lcmp, i_i2l, i_l2i, i_i2b, i_i2s, i_ifeq, i_ifne, i_iflt, i_ifge, i_ifgt, i_ifle, i_cmpeq, i_cmpne, i_cmplt, i_cmpge, i_cmpgt, i_cmple, i_acmpeq, i_acmpne, i_ifnull, i_ifnonnull, i_getI, i_getR, i_putI, i_putZ, i_putR, i_ald, i_ldL, i_ldR, i_ast, i_stL, i_stR, i_alen, i_new, i_newa, i_iret, i_zret, i_lret, i_aret, i_vret, i_raise, i_throw, i_recv, i_objinit, i_tsw3, lget, lset, lput1, lput2, lkil, ltrim, largs, isL, takev, dropv, nthv, pushO, catv, gd, true_and, and_true, Option.some.injEq, Prod.mk.injEq, exists_eq_left', if_true, if_false, reduceCtorEq, Bool.false_eq_true, lcmp_ge, lcmp_lt, lcmp_le, lcmp_gt, lcmp_eq, true_or, or_true, not_true_eq_false, not_false_eq_true, false_implies, true_implies, List.length_cons, List.length_nil]
        refine ⟨fun g => fin 1 ?_, fun g => fin (-1) ?_⟩
        · rw [← hr]; unfold td; exact (s2 (by omega)).symm
        · rw [← hr]; unfold td; exact (s1 (by omega)).symm
  refine wp_in ?_
  simp only [P_X16_lex, i_kil, i_icon, i_lcon, i_null, i_loadI, i_loadL, i_loadR, i_istore, i_lstore, i_astore, i_iinc, i_dup, i_dup2, i_pop, i_iadd, i_isub, i_imul, i_idiv, i_irem, i_ineg, i_iand, i_ior, i_ishl, i_ishr, i_lxor, i_ladd, i_lsub, i_lmul, i_ldiv, i_lrem, i_lneg, i_lshl, i_lcmp, i_i2l, i_l2i, i_i2b, i_i2s, i_ifeq, i_ifne, i_iflt, i_ifge, i_ifgt, i_ifle, i_cmpeq, i_cmpne, i_cmplt, i_cmpge, i_cmpgt, i_cmple, i_acmpeq, i_acmpne, i_ifnull, i_ifnonnull, i_getI, i_getR, i_putI, i_putZ, i_putR, i_ald, i_ldL, i_ldR, i_ast, i_stL, i_stR, i_alen, i_new, i_newa, i_iret, i_zret, i_lret, i_aret, i_vret, i_raise, i_throw, i_recv, i_objinit, i_tsw3, lget, lset, lput1, lput2, lkil, ltrim, largs, isL, takev, dropv, nthv, pushO, catv, gd, true_and, and_true, Option.some.injEq, Prod.mk.injEq, exists_eq_left', if_true, if_false, reduceCtorEq, Bool.false_eq_true, lcmp_ge, lcmp_lt, lcmp_le, lcmp_gt, lcmp_eq, true_or, or_true, not_true_eq_false, not_false_eq_true, false_implies, true_implies, List.length_cons, List.length_nil]
  exact loop 3 0 rfl hR.symm
/-- the sums of letters as the model takes them -/
def wone (f t : Nat) : Nat → Int
  | 0 => 0
  | n + 1 => wone f t n + (txl (f + n) t : Int)
theorem wone_lim {f t : Nat} (h : t < 455) (n : Nat) : 0 ≤ wone f t n ∧ wone f t n ≤ 12 * (n : Int) := by
  induction n with
  | zero => simp [wone]
  | succ n ih =>
    have := txl_lim (l := f + n) h
    simp only [wone]
    omega
theorem wone_wsum (f t u n : Nat) : wsum f t u n = wone f t n - wone f u n := by
  induction n with
  | zero => rfl
  | succ n ih => simp only [wone, wsum, ih, td]; omega
theorem sgn_sign {x y : Int} : Int.sign (x - y) = if x < y then -1 else if x = y then 0 else 1 := by
  split
  · exact Int.sign_eq_neg_one_of_neg (by omega)
  · split
    · rename_i h; rw [h, Int.sub_self]; rfl
    · exact Int.sign_eq_one_of_pos (by omega)
set_option maxHeartbeats 1000000 in
theorem sp_X16_reverse {E : Ex} {B : Nat × Nat} {S : Stat} {D : Dat} {f n t u : Nat} {x y : Int} (ht : t < 455) (hu : u < 455) (hn : f + n ≤ 3) (hn1 : 1 ≤ n) (hx : x = f) (hy : y = (f + n : Nat)) (k : E (.inl (some (.inl (Int.sign (amongI f n t u))))) B S D) : Wp P_X16_reverse E 0 [some (aI (tcode t)), some (aI (tcode u)), some (aI x), some (aI y)] [] B S D := by
  subst hx
  subst hy
  obtain ⟨R, hR⟩ : ∃ R, R = Int.sign (amongI f n t u) := ⟨_, rfl⟩
  rw [← hR] at k
  unfold amongI at hR
  have fin : ∀ z, z = R → Wp P_X16_reverse E 4 [] [aI z] B S D := fun z h => by
    refine wp_in ?_
    simp only [P_X16_reverse, i_kil, i_icon, i_lcon, i_null, i_loadI, i_loadL, i_loadR, i_istore, i_lstore, i_astore, i_iinc, i_dup, i_dup2, i_pop, i_iadd, i_isub, i_imul, i_idiv, i_irem, i_ineg, i_iand, i_ior, i_ishl, i_ishr, i_lxor, i_ladd, i_lsub, i_lmul, i_ldiv, i_lrem, i_lneg, i_lshl, i_lcmp, i_i2l, i_l2i, i_i2b, i_i2s, i_ifeq, i_ifne, i_iflt, i_ifge, i_ifgt, i_ifle, i_cmpeq, i_cmpne, i_cmplt, i_cmpge, i_cmpgt, i_cmple, i_acmpeq, i_acmpne, i_ifnull, i_ifnonnull, i_getI, i_getR, i_putI, i_putZ, i_putR, i_ald, i_ldL, i_ldR, i_ast, i_stL, i_stR, i_alen, i_new, i_newa, i_iret, i_zret, i_lret, i_aret, i_vret, i_raise, i_throw, i_recv, i_objinit, i_tsw3, lget, lset, lput1, lput2, lkil, ltrim, largs, isL, takev, dropv, nthv, pushO, catv, gd, true_and, and_true, Option.some.injEq, Prod.mk.injEq, exists_eq_left', if_true, if_false, reduceCtorEq, Bool.false_eq_true, lcmp_ge, lcmp_lt, lcmp_le, lcmp_gt, lcmp_eq, true_or, or_true, not_true_eq_false, not_false_eq_true, false_implies, true_implies, List.length_cons, List.length_nil]
    rw [h]; exact k
  have back : ∀ (m : Nat), m < n → R = Int.sign (arev f t u m 0) → Wp P_X16_reverse E 3 [some (aI (tcode t)), some (aI (tcode u)), some (aI f), none, none, none, some (aI ((f + m : Nat) : Int))] [] B S D := by
    intro m
    induction m with
    | zero =>
      intro hm hr
      refine wp_in ?_
      simp only [P_X16_reverse, i_kil, i_icon, i_lcon, i_null, i_loadI, i_loadL, i_loadR, i_istore, i_lstore, i_astore, i_iinc, i_dup, i_dup2, i_pop, i_iadd, i_isub, i_imul, i_idiv, i_irem, i_ineg, i_iand, i_ior, i_ishl, i_ishr, i_lxor, i_ladd, i_lsub, i_lmul, i_ldiv, i_lrem, i_lneg, i_lshl, i_lcmp, i_i2l, i_l2i, i_i2b, i_i2s, i_ifeq, i_ifne, i_iflt, i_ifge, i_ifgt, i_ifle, i_cmpeq, i_cmpne, i_cmplt, i_cmpge, i_cmpgt, i_cmple, i_acmpeq, i_acmpne, i_ifnull, i_ifnonnull, i_getI, i_getR, i_putI, i_putZ, i_putR, i_ald, i_ldL, i_ldR, i_ast, i_stL, i_stR, i_alen, i_new, i_newa, i_iret, i_zret, i_lret, i_aret, i_vret, i_raise, i_throw, i_recv, i_objinit, i_tsw3, lget, lset, lput1, lput2, lkil, ltrim, largs, isL, takev, dropv, nthv, pushO, catv, gd, true_and, and_true, Option.some.injEq, Prod.mk.injEq, exists_eq_left', if_true, if_false, reduceCtorEq, Bool.false_eq_true, lcmp_ge, lcmp_lt, lcmp_le, lcmp_gt, lcmp_eq, true_or, or_true, not_true_eq_false, not_false_eq_true, false_implies, true_implies, List.length_cons, List.length_nil]
      simp only [arev] at hr
      refine ⟨fun _ => ?_, fun h => by omega⟩
      rw [hr] at k; exact k
    | succ m ih =>
      intro hm hr
      simp only [arev, if_true] at hr
      have e1 := txl_lim (l := f + m + 1) ht
      have e2 := txl_lim (l := f + m + 1) hu
      refine wp_in ?_
      simp only [P_X16_reverse, i_kil, i_icon, i_lcon, i_null, i_loadI, i_loadL, i_loadR, i_istore, i_lstore, i_astore, i_iinc, i_dup, i_dup2, i_pop, i_iadd, i_isub, i_imul, i_idiv, i_irem, i_ineg, i_iand, i_ior, i_ishl, i_ishr, i_lxor, i_ladd, i_lsub, i_lmul, i_ldiv, i_lrem, i_lneg, i_lshl, i_lcmp, i_i2l, i_l2i, i_i2b, i_i2s, i_ifeq, i_ifne, i_iflt, i_ifge, i_ifgt, i_ifle, i_cmpeq, i_cmpne, i_cmplt, i_cmpge, i_cmpgt, i_cmple, i_acmpeq, i_acmpne, i_ifnull, i_ifnonnull, i_getI, i_getR, i_putI, i_putZ, i_putR, i_ald, i_ldL, i_ldR, i_ast, i_stL, i_stR, i_alen, i_new, i_newa, i_iret, i_zret, i_lret, i_aret, i_vret, i_raise, i_throw, i_recv, i_objinit, i_tsw3, lget, lset, lput1, lput2, lkil, ltrim, largs, isL, takev, dropv, nthv, pushO, catv, gd, true_and, and_true, Option.some.injEq, Prod.mk.injEq, exists_eq_left', if_true, if_false, reduceCtorEq, Bool.false_eq_true, lcmp_ge, lcmp_lt, lcmp_le, lcmp_gt, lcmp_eq, true_or, or_true, not_true_eq_false, not_false_eq_true, false_implies, true_implies, List.length_cons, List.length_nil]
      refine ⟨fun h => by omega, fun _ => ?_⟩
      refine wp_exp (l := f + m + 1) rfl rfl ht (by omega) (by omega) ?_
      simp only [P_X16_reverse, i_kil, i_icon, i_lcon, i_null, i_loadI, i_loadL, i_loadR, i_istore, i_lstore, i_astore, i_iinc, i_dup, i_dup2, i_pop, i_iadd, i_isub, i_imul, i_idiv, i_irem, i_ineg, i_iand, i_ior, i_ishl, i_ishr, i_lxor, i_ladd, i_lsub, i_lmul, i_ldiv, i_lrem, i_lneg, i_lshl, i_lcmp, i_i2l, i_l2i, i_i2b, i_i2s, i_ifeq, i_ifne, i_iflt, i_ifge, i_ifgt, i_ifle, i_cmpeq, i_cmpne, i_cmplt, i_cmpge, i_cmpgt, i_cmple, i_acmpeq, i_acmpne, i_ifnull, i_ifnonnull, i_getI, i_getR, i_putI, i_putZ, i_putR, i_ald, i_ldL, i_ldR, i_ast, i_stL, i_stR, i_alen, i_new, i_newa, i_iret, i_zret, i_lret, i_aret, i_vret, i_raise, i_throw, i_recv, i_objinit, i_tsw3, lget, lset, lput1, lput2, lkil, ltrim, largs, isL, takev, dropv, nthv, pushO, catv, gd, true_and, and_true, Option.some.injEq, Prod.mk.injEq, exists_eq_left', if_true, if_false, reduceCtorEq, Bool.false_eq_true, lcmp_ge, lcmp_lt, lcmp_le, lcmp_gt, lcmp_eq, true_or, or_true, not_true_eq_false, not_false_eq_true, false_implies, true_implies, List.length_cons, List.length_nil]
      refine wp_exp (l := f + m + 1) rfl rfl hu (by omega) (by omega) ?_
      simp only [P_X16_reverse, i_kil, i_icon, i_lcon, i_null, i_loadI, i_loadL, i_loadR, i_istore, i_lstore, i_astore, i_iinc, i_dup, i_dup2, i_pop, i_iadd, i_isub, i_imul, i_idiv, i_irem, i_ineg, i_iand, i_ior, i_ishl, i_ishr, i_lxor, i_ladd, i_lsub, i_lmul, i_ldiv, i_lrem, i_lneg, i_lshl, i_lcmp, i_i2l, i_l2i, i_i2b, i_i2s, i_ifeq, i_ifne, i_iflt, i_ifge, i_ifgt, i_ifle, i_cmpeq, i_cmpne, i_cmplt, i_cmpge, i_cmpgt, i_cmple, i_acmpeq, i_acmpne, i_ifnull, i_ifnonnull, i_getI, i_getR, i_putI, i_putZ, i_putR, i_ald, i_ldL, i_ldR, i_ast, i_stL, i_stR, i_alen, i_new, i_newa, i_iret, i_zret, i_lret, i_aret, i_vret, i_raise, i_throw, i_recv, i_objinit, i_tsw3, lget, lset, lput1, lput2, lkil, ltrim, largs, isL, takev, dropv, nthv, pushO, catv, gd, true_and, and_true, Option.some.injEq, Prod.mk.injEq, exists_eq_left', if_true, if_false, reduceCtorEq, Bool.false_eq_true, lcmp_ge, lcmp_lt, lcmp_le, lcmp_gt, lcmp_eq, true_or, or_true, not_true_eq_false, not_false_eq_true, false_implies, true_implies, List.length_cons, List.length_nil]
      refine ⟨fun h => ⟨in_small (by omega) (by omega), ?_⟩, fun h => ?_⟩
      · rw [show td (f + m + 1) t u = 0 by unfold td; omega] at hr
        have Q := ih (by omega) hr
        rw [show ((f + (m + 1) : Nat) : Int) + -1 = ((f + m : Nat) : Int) by omega]
        exact Q
      · have hne : ¬ -(td (f + m + 1) t u) = 0 := by unfold td; omega
        have ez : arev f t u m (-(td (f + m + 1) t u)) = -(td (f + m + 1) t u) := by
          cases m with
          | zero => rfl
          | succ m => simp only [arev]; rw [if_neg hne]
        rw [ez] at hr
        obtain ⟨s1, s2⟩ := sgn_ne h
        refine wp_exp (l := f + m + 1) rfl rfl ht (by omega) (by omega) ?_
        simp only [P_X16_reverse, i_kil, i_icon, i_lcon, i_null, i_loadI, i_loadL, i_loadR, i_istore, i_lstore, i_astore, i_iinc, i_dup, i_dup2, i_pop, i_iadd, i_isub, i_imul, i_idiv, i_irem, i_ineg, i_iand, i_ior, i_ishl, i_ishr, i_lxor, i_ladd, i_lsub, i_lmul, i_ldiv, i_lrem, i_lneg, i_lshl, i_lcmp, i_i2l, i_l2i, i_i2b, i_i2s, i_ifeq, i_ifne, i_iflt, i_ifge, i_ifgt, i_ifle, i_cmpeq, i_cmpne, i_cmplt, i_cmpge, i_cmpgt, i_cmple, i_acmpeq, i_acmpne, i_ifnull, i_ifnonnull, i_getI, i_getR, i_putI, i_putZ, i_putR, i_ald, i_ldL, i_ldR, i_ast, i_stL, i_stR, i_alen, i_new, i_newa, i_iret, i_zret, i_lret, i_aret, i_vret, i_raise, i_throw, i_recv, i_objinit, i_tsw3, lget, lset, lput1, lput2, lkil, ltrim, largs, isL, takev, dropv, nthv, pushO, catv, gd, true_and, and_true, Option.some.injEq, Prod.mk.injEq, exists_eq_left', if_true, if_false, reduceCtorEq, Bool.false_eq_true, lcmp_ge, lcmp_lt, lcmp_le, lcmp_gt, lcmp_eq, true_or, or_true, not_true_eq_false, not_false_eq_true, false_implies, true_implies, List.length_cons, List.length_nil]
        refine wp_exp (l := f + m + 1) rfl rfl hu (by omega) (by omega) ?_
        simp only [P_X16_reverse, i_kil, i_icon, i_lcon, i_null, i_loadI, i_loadL, i_loadR, i_istore, i_lstore, i_astore, i_iinc, i_dup, i_dup2, i_pop, i_iadd, i_isub, i_imul, i_idiv, i_irem, i_ineg, i_iand, i_ior, i_ishl, i_ishr, i_lxor, i_ladd, i_lsub, i_lmul, i_ldiv, i_lrem, i_lneg, i_lshl, i_lcmp, i_i2l, i_l2i, i_i2b, i_i2s, i_ifeq, i_ifne, i_iflt, i_ifge, i_ifgt, i_ifle, i_cmpeq, i_cmpne, i_cmplt, i_cmpge, i_cmpgt, i_cmple, i_acmpeq, i_acmpne, i_ifnull, i_ifnonnull, i_getI, i_getR, i_putI, i_putZ, i_putR, i_ald, i_ldL, i_ldR, i_ast, i_stL, i_stR, i_alen, i_new, i_newa, i_iret, i_zret, i_lret, i_aret, i_vret, i_raise, i_throw, i_recv, i_objinit, i_tsw3, lget, lset, lput1, lput2, lkil, ltrim, largs, isL, takev, dropv, nthv, pushO, catv, gd, true_and, and_true, Option.some.injEq, Prod.mk.injEq, exists_eq_left', if_true, if_false, reduceCtorEq, Bool.false_eq_true, lcmp_ge, lcmp_lt, lcmp_le, lcmp_gt, lcmp_eq, true_or, or_true, not_true_eq_false, not_false_eq_true, false_implies, true_implies, List.length_cons, List.length_nil]
        unfold td at hr
        rw [Int.sign_neg] at hr
        refine ⟨fun g => fin 1 ?_, fun g => fin (-1) ?_⟩
        · rw [hr, s1 (by omega)]; rfl
        · rw [hr, s2 (by omega)]
  have loop : ∀ (L j : Nat), j + L = n → Wp P_X16_reverse E 1 [some (aI (tcode t)), some (aI (tcode u)), some (aI f), some (aI ((f + n : Nat) : Int)), some (aI (wone f t j)), some (aI (wone f u j)), some (aI ((f + j : Nat) : Int))] [] B S D := by
    intro L
    induction L with
    | zero =>
      intro j hj
      have hjn : j = n := by omega
      subst hjn
      have l1 := wone_lim (f := f) ht j
      have l2 := wone_lim (f := f) hu j
      rw [wone_wsum] at hR
      obtain ⟨p, rfl⟩ : ∃ p, j = p + 1 := ⟨j - 1, by omega⟩
      rw [show p + 1 - 1 = p by omega] at hR
      have fin2 : ∀ z, ¬ wone f t (p + 1) = wone f u (p + 1) → z = Int.sign (wone f t (p + 1) - wone f u (p + 1)) → Wp P_X16_reverse E 2 [] [aI z] B S D := fun z h h2 => by
        have ez : arev f t u p (wone f t (p + 1) - wone f u (p + 1)) = wone f t (p + 1) - wone f u (p + 1) := by
          cases p with
          | zero => rfl
          | succ m => simp only [arev]; rw [if_neg (by omega)]
        rw [ez, ← h2] at hR
        refine wp_in ?_
        simp only [P_X16_reverse, i_kil, i_icon, i_lcon, i_null, i_loadI, i_loadL, i_loadR, i_istore, i_lstore, i_astore, i_iinc, i_dup, i_dup2, i_pop, i_iadd, i_isub, i_imul, i_idiv, i_irem, i_ineg, i_iand, i_ior, i_ishl, i_ishr, i_lxor, i_ladd, i_lsub, i_lmul, i_ldiv, i_lrem, i_lneg, i_lshl, i_lcmp, i_i2l, i_l2i, i_i2b, i_i2s, i_ifeq, i_ifne, i_iflt, i_ifge, i_ifgt, i_ifle, i_cmpeq, i_cmpne, i_cmplt, i_cmpge, i_cmpgt, i_cmple, i_acmpeq, i_acmpne, i_ifnull, i_ifnonnull, i_getI, i_getR, i_putI, i_putZ, i_putR, i_ald, i_ldL, i_ldR, i_ast, i_stL, i_stR, i_alen, i_new, i_newa, i_iret, i_zret, i_lret, i_aret, i_vret, i_raise, i_throw, i_recv, i_objinit, i_tsw3, lget, lset, lput1, lput2, lkil, ltrim, largs, isL, takev, dropv, nthv, pushO, catv, gd, true_and, and_true, Option.some.injEq, Prod.mk.injEq, exists_eq_left', if_true, if_false, reduceCtorEq, Bool.false_eq_true, lcmp_ge, lcmp_lt, lcmp_le, lcmp_gt, lcmp_eq, true_or, or_true, not_true_eq_false, not_false_eq_true, false_implies, true_implies, List.length_cons, List.length_nil]
        rw [← hR]; exact k
      refine wp_in ?_
      simp only [P_X16_reverse, i_kil, i_icon, i_lcon, i_null, i_loadI, i_loadL, i_loadR, i_istore, i_lstore, i_astore, i_iinc, i_dup, i_dup2, i_pop, i_iadd, i_isub, i_imul, i_idiv, i_irem, i_ineg, i_iand, i_ior, i_ishl, i_ishr, i_lxor, i_ladd, i_lsub, i_lmul, i_ldiv, i_lrem, i_lneg, i_lshl, i_lcmp, i_i2l, i_l2i, i_i2b, i_i2s, i_ifeq, i_ifne, i_iflt, i_ifge, i_ifgt, i_ifle, i_cmpeq, i_cmpne, i_cmplt, i_cmpge, i_cmpgt, i_cmple, i_acmpeq, i_acmpne, i_ifnull, i_ifnonnull, i_getI, i_getR, i_putI, i_putZ, i_putR, i_ald, i_ldL, i_ldR, i_ast, i_stL, i_stR, i_alen, i_new, i_newa, i_iret, i_zret, i_lret, i_aret, i_vret, i_raise, i_throw, i_recv, i_objinit, i_tsw3, lget, lset, lput1, lput2, lkil, ltrim, largs, isL, takev, dropv, nthv, pushO, catv, gd, true_and, and_true, Option.some.injEq, Prod.mk.injEq, exists_eq_left', if_true, if_false, reduceCtorEq, Bool.false_eq_true, lcmp_ge, lcmp_lt, lcmp_le, lcmp_gt, lcmp_eq, true_or, or_true, not_true_eq_false, not_false_eq_true, false_implies, true_implies, List.length_cons, List.length_nil]
      refine ⟨fun _ => ⟨fun h => ⟨in_small (by omega) (by omega), ?_⟩, fun h => ?_⟩, fun h => absurd h (Int.lt_irrefl _)⟩
      · rw [h, Int.sub_self] at hR
        have Q := back p (by omega) hR
        rw [show ((f + (p + 1) : Nat) : Int) - 1 = ((f + p : Nat) : Int) by omega]
        exact Q
      · obtain ⟨s1, s2⟩ := sgn_ne h
        refine ⟨fun g => fin2 1 h (s2 (by omega)).symm, fun g => fin2 (-1) h (s1 (by omega)).symm⟩
    | succ L ih =>
      intro j hj
      have l1 := wone_lim (f := f) ht j
      have l2 := wone_lim (f := f) hu j
      have e1 := txl_lim (l := f + j) ht
      have e2 := txl_lim (l := f + j) hu
      refine wp_in ?_
      simp only [P_X16_reverse, i_kil, i_icon, i_lcon, i_null, i_loadI, i_loadL, i_loadR, i_istore, i_lstore, i_astore, i_iinc, i_dup, i_dup2, i_pop, i_iadd, i_isub, i_imul, i_idiv, i_irem, i_ineg, i_iand, i_ior, i_ishl, i_ishr, i_lxor, i_ladd, i_lsub, i_lmul, i_ldiv, i_lrem, i_lneg, i_lshl, i_lcmp, i_i2l, i_l2i, i_i2b, i_i2s, i_ifeq, i_ifne, i_iflt, i_ifge, i_ifgt, i_ifle, i_cmpeq, i_cmpne, i_cmplt, i_cmpge, i_cmpgt, i_cmple, i_acmpeq, i_acmpne, i_ifnull, i_ifnonnull, i_getI, i_getR, i_putI, i_putZ, i_putR, i_ald, i_ldL, i_ldR, i_ast, i_stL, i_stR, i_alen, i_new, i_newa, i_iret, i_zret, i_lret, i_aret, i_vret, i_raise, i_throw, i_recv, i_objinit, i_tsw3, lget, lset, lput1, lput2, lkil, ltrim, largs, isL, takev, dropv, nthv, pushO, catv, gd, true_and, and_true, Option.some.injEq, Prod.mk.injEq, exists_eq_left', if_true, if_false, reduceCtorEq, Bool.false_eq_true, lcmp_ge, lcmp_lt, lcmp_le, lcmp_gt, lcmp_eq, true_or, or_true, not_true_eq_false, not_false_eq_true, false_implies, true_implies, List.length_cons, List.length_nil]
      refine ⟨fun h => by omega, fun _ => ?_⟩
      refine wp_exp (l := f + j) rfl rfl ht (by omega) rfl ?_
      simp only [P_X16_reverse, i_kil, i_icon, i_lcon, i_null, i_loadI, i_loadL, i_loadR, i_istore, i_lstore, i_astore, i_iinc, i_dup, i_dup2, i_pop, i_iadd, i_isub, i_imul, i_idiv, i_irem, i_ineg, i_iand, i_ior, i_ishl, i_ishr, i_lxor, i_ladd, i_lsub, i_lmul, i_ldiv, i_lrem, i_lneg, i_lshl, i_lcmp, i_i2l, i_l2i, i_i2b, i_i2s, i_ifeq, i_ifne, i_iflt, i_ifge, i_ifgt, i_ifle, i_cmpeq, i_cmpne, i_cmplt, i_cmpge, i_cmpgt, i_cmple, i_acmpeq, i_acmpne, i_ifnull, i_ifnonnull, i_getI, i_getR, i_putI, i_putZ, i_putR, i_ald, i_ldL, i_ldR, i_ast, i_stL, i_stR, i_alen, i_new, i_newa, i_iret, i_zret, i_lret, i_aret, i_vret, i_raise, i_throw, i_recv, i_objinit, i_tsw3, lget, lset, lput1, lput2, lkil, ltrim, largs, isL, takev, dropv, nthv, pushO, catv, gd, true_and, and_true, Option.some.injEq, Prod.mk.injEq, exists_eq_left', if_true, if_false, reduceCtorEq, Bool.false_eq_true, lcmp_ge, lcmp_lt, lcmp_le, lcmp_gt, lcmp_eq, true_or, or_true, not_true_eq_false, not_false_eq_true, false_implies, true_implies, List.length_cons, List.length_nil]
      refine ⟨in_small (by omega) (by omega), ?_⟩
      refine wp_exp (l := f + j) rfl rfl hu (by omega) rfl ?_
      simp only [P_X16_reverse, i_kil, i_icon, i_lcon, i_null, i_loadI, i_loadL, i_loadR, i_istore, i_lstore, i_astore, i_iinc, i_dup, i_dup2, i_pop, i_iadd, i_isub, i_imul, i_idiv, i_irem, i_ineg, i_iand, i_ior, i_ishl, i_ishr, i_lxor, i_ladd, i_lsub, i_lmul, i_ldiv, i_lrem, i_lneg, i_lshl, i_lcmp, i_i2l, i_l2i, i_i2b, i_i2s, i_ifeq, i_ifne, i_iflt, i_ifge, i_ifgt, i_ifle, i_cmpeq, i_cmpne, i_cmplt, i_cmpge, i_cmpgt, i_cmple, i_acmpeq, i_acmpne, i_ifnull, i_ifnonnull, i_getI, i_getR, i_putI, i_putZ, i_putR, i_ald, i_ldL, i_ldR, i_ast, i_stL, i_stR, i_alen, i_new, i_newa, i_iret, i_zret, i_lret, i_aret, i_vret, i_raise, i_throw, i_recv, i_objinit, i_tsw3, lget, lset, lput1, lput2, lkil, ltrim, largs, isL, takev, dropv, nthv, pushO, catv, gd, true_and, and_true, Option.some.injEq, Prod.mk.injEq, exists_eq_left', if_true, if_false, reduceCtorEq, Bool.false_eq_true, lcmp_ge, lcmp_lt, lcmp_le, lcmp_gt, lcmp_eq, true_or, or_true, not_true_eq_false, not_false_eq_true, false_implies, true_implies, List.length_cons, List.length_nil]
      refine ⟨in_small (by omega) (by omega), in_small (by omega) (by omega), ?_⟩
      exact ih (j + 1) (by omega)
  refine wp_in ?_
  simp only [P_X16_reverse, i_kil, i_icon, i_lcon, i_null, i_loadI, i_loadL, i_loadR, i_istore, i_lstore, i_astore, i_iinc, i_dup, i_dup2, i_pop, i_iadd, i_isub, i_imul, i_idiv, i_irem, i_ineg, i_iand, i_ior, i_ishl, i_ishr, i_lxor, i_ladd, i_lsub, i_lmul, i_ldiv, i_lrem, i_lneg, i_lshl, i_lcmp, i_i2l, i_l2i, i_i2b, i_i2s, i_ifeq, i_ifne, i_iflt, i_ifge, i_ifgt, i_ifle, i_cmpeq, i_cmpne, i_cmplt, i_cmpge, i_cmpgt, i_cmple, i_acmpeq, i_acmpne, i_ifnull, i_ifnonnull, i_getI, i_getR, i_putI, i_putZ, i_putR, i_ald, i_ldL, i_ldR, i_ast, i_stL, i_stR, i_alen, i_new, i_newa, i_iret, i_zret, i_lret, i_aret, i_vret, i_raise, i_throw, i_recv, i_objinit, i_tsw3, lget, lset, lput1, lput2, lkil, ltrim, largs, isL, takev, dropv, nthv, pushO, catv, gd, true_and, and_true, Option.some.injEq, Prod.mk.injEq, exists_eq_left', if_true, if_false, reduceCtorEq, Bool.false_eq_true, lcmp_ge, lcmp_lt, lcmp_le, lcmp_gt, lcmp_eq, true_or, or_true, not_true_eq_false, not_false_eq_true, false_implies, true_implies, List.length_cons, List.length_nil]
  exact loop n 0 (by omega)
