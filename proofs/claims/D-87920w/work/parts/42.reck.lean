/-! Reckoner -/
set_option maxRecDepth 100000
set_option linter.unusedVariables false
theorem sp_J9_max {E : Ex} {B : Nat × Nat} {S : Stat} {D : Dat} {x y : Int} (k : E (.inl (some (.inl (if x < y then y else x)))) B S D) : Wp P_J9_max E 0 [some (aI x), some (aI y)] [] B S D := by
  refine wp_in ?_
  simp only [P_J9_max, i_kil, i_icon, i_lcon, i_null, i_loadI, i_loadL, i_loadR, i_istore, i_lstore, i_astore, i_iinc, i_dup, i_dup2, i_pop, i_iadd, i_isub, i_imul, i_idiv, i_irem, i_ineg, i_iand, i_ior, i_ishl, i_ishr, i_lxor, i_ladd, i_lsub, i_lmul, i_ldiv, i_lrem, i_lneg, i_lshl, i_lcmp, i_i2l, i_l2i, i_i2b, i_i2s, i_ifeq, i_ifne, i_iflt, i_ifge, i_ifgt, i_ifle, i_cmpeq, i_cmpne, i_cmplt, i_cmpge, i_cmpgt, i_cmple, i_acmpeq, i_acmpne, i_ifnull, i_ifnonnull, i_getI, i_getR, i_putI, i_putZ, i_putR, i_ald, i_ldL, i_ldR, i_ast, i_stL, i_stR, i_alen, i_new, i_newa, i_iret, i_zret, i_lret, i_aret, i_vret, i_raise, i_throw, i_recv, i_objinit, i_tsw3, lget, lset, lput1, lput2, lkil, ltrim, largs, isL, takev, dropv, nthv, pushO, catv, gd, true_and, and_true, Option.some.injEq, Prod.mk.injEq, exists_eq_left', if_true, if_false, reduceCtorEq, Bool.false_eq_true, lcmp_ge, lcmp_lt, lcmp_le, lcmp_gt, lcmp_eq, true_or, or_true, not_true_eq_false, not_false_eq_true, false_implies, true_implies, List.length_cons, List.length_nil]
  refine ⟨fun h => wp_in ?_, fun h => wp_in ?_⟩
  · simp only [P_J9_max, i_kil, i_icon, i_lcon, i_null, i_loadI, i_loadL, i_loadR, i_istore, i_lstore, i_astore, i_iinc, i_dup, i_dup2, i_pop, i_iadd, i_isub, i_imul, i_idiv, i_irem, i_ineg, i_iand, i_ior, i_ishl, i_ishr, i_lxor, i_ladd, i_lsub, i_lmul, i_ldiv, i_lrem, i_lneg, i_lshl, i_lcmp, i_i2l, i_l2i, i_i2b, i_i2s, i_ifeq, i_ifne, i_iflt, i_ifge, i_ifgt, i_ifle, i_cmpeq, i_cmpne, i_cmplt, i_cmpge, i_cmpgt, i_cmple, i_acmpeq, i_acmpne, i_ifnull, i_ifnonnull, i_getI, i_getR, i_putI, i_putZ, i_putR, i_ald, i_ldL, i_ldR, i_ast, i_stL, i_stR, i_alen, i_new, i_newa, i_iret, i_zret, i_lret, i_aret, i_vret, i_raise, i_throw, i_recv, i_objinit, i_tsw3, lget, lset, lput1, lput2, lkil, ltrim, largs, isL, takev, dropv, nthv, pushO, catv, gd, true_and, and_true, Option.some.injEq, Prod.mk.injEq, exists_eq_left', if_true, if_false, reduceCtorEq, Bool.false_eq_true, lcmp_ge, lcmp_lt, lcmp_le, lcmp_gt, lcmp_eq, true_or, or_true, not_true_eq_false, not_false_eq_true, false_implies, true_implies, List.length_cons, List.length_nil]
    rw [if_pos h] at k; exact k
  · simp only [P_J9_max, i_kil, i_icon, i_lcon, i_null, i_loadI, i_loadL, i_loadR, i_istore, i_lstore, i_astore, i_iinc, i_dup, i_dup2, i_pop, i_iadd, i_isub, i_imul, i_idiv, i_irem, i_ineg, i_iand, i_ior, i_ishl, i_ishr, i_lxor, i_ladd, i_lsub, i_lmul, i_ldiv, i_lrem, i_lneg, i_lshl, i_lcmp, i_i2l, i_l2i, i_i2b, i_i2s, i_ifeq, i_ifne, i_iflt, i_ifge, i_ifgt, i_ifle, i_cmpeq, i_cmpne, i_cmplt, i_cmpge, i_cmpgt, i_cmple, i_acmpeq, i_acmpne, i_ifnull, i_ifnonnull, i_getI, i_getR, i_putI, i_putZ, i_putR, i_ald, i_ldL, i_ldR, i_ast, i_stL, i_stR, i_alen, i_new, i_newa, i_iret, i_zret, i_lret, i_aret, i_vret, i_raise, i_throw, i_recv, i_objinit, i_tsw3, lget, lset, lput1, lput2, lkil, ltrim, largs, isL, takev, dropv, nthv, pushO, catv, gd, true_and, and_true, Option.some.injEq, Prod.mk.injEq, exists_eq_left', if_true, if_false, reduceCtorEq, Bool.false_eq_true, lcmp_ge, lcmp_lt, lcmp_le, lcmp_gt, lcmp_eq, true_or, or_true, not_true_eq_false, not_false_eq_true, false_implies, true_implies, List.length_cons, List.length_nil]
    rw [if_neg (by omega)] at k; exact k
theorem sp_J9_abs {E : Ex} {B : Nat × Nat} {S : Stat} {D : Dat} {x : Int} (h : -2147483647 ≤ x) (h2 : x ≤ 2147483647) (k : E (.inl (some (.inl (x.natAbs : Int)))) B S D) : Wp P_J9_abs E 0 [some (aI x)] [] B S D := by
  refine wp_in ?_
  simp only [P_J9_abs, i_kil, i_icon, i_lcon, i_null, i_loadI, i_loadL, i_loadR, i_istore, i_lstore, i_astore, i_iinc, i_dup, i_dup2, i_pop, i_iadd, i_isub, i_imul, i_idiv, i_irem, i_ineg, i_iand, i_ior, i_ishl, i_ishr, i_lxor, i_ladd, i_lsub, i_lmul, i_ldiv, i_lrem, i_lneg, i_lshl, i_lcmp, i_i2l, i_l2i, i_i2b, i_i2s, i_ifeq, i_ifne, i_iflt, i_ifge, i_ifgt, i_ifle, i_cmpeq, i_cmpne, i_cmplt, i_cmpge, i_cmpgt, i_cmple, i_acmpeq, i_acmpne, i_ifnull, i_ifnonnull, i_getI, i_getR, i_putI, i_putZ, i_putR, i_ald, i_ldL, i_ldR, i_ast, i_stL, i_stR, i_alen, i_new, i_newa, i_iret, i_zret, i_lret, i_aret, i_vret, i_raise, i_throw, i_recv, i_objinit, i_tsw3, lget, lset, lput1, lput2, lkil, ltrim, largs, isL, takev, dropv, nthv, pushO, catv, gd, true_and, and_true, Option.some.injEq, Prod.mk.injEq, exists_eq_left', if_true, if_false, reduceCtorEq, Bool.false_eq_true, lcmp_ge, lcmp_lt, lcmp_le, lcmp_gt, lcmp_eq, true_or, or_true, not_true_eq_false, not_false_eq_true, false_implies, true_implies, List.length_cons, List.length_nil]
  refine ⟨fun h => wp_in ?_, fun h => ⟨by unfold inI; omega, wp_in ?_⟩⟩
  · simp only [P_J9_abs, i_kil, i_icon, i_lcon, i_null, i_loadI, i_loadL, i_loadR, i_istore, i_lstore, i_astore, i_iinc, i_dup, i_dup2, i_pop, i_iadd, i_isub, i_imul, i_idiv, i_irem, i_ineg, i_iand, i_ior, i_ishl, i_ishr, i_lxor, i_ladd, i_lsub, i_lmul, i_ldiv, i_lrem, i_lneg, i_lshl, i_lcmp, i_i2l, i_l2i, i_i2b, i_i2s, i_ifeq, i_ifne, i_iflt, i_ifge, i_ifgt, i_ifle, i_cmpeq, i_cmpne, i_cmplt, i_cmpge, i_cmpgt, i_cmple, i_acmpeq, i_acmpne, i_ifnull, i_ifnonnull, i_getI, i_getR, i_putI, i_putZ, i_putR, i_ald, i_ldL, i_ldR, i_ast, i_stL, i_stR, i_alen, i_new, i_newa, i_iret, i_zret, i_lret, i_aret, i_vret, i_raise, i_throw, i_recv, i_objinit, i_tsw3, lget, lset, lput1, lput2, lkil, ltrim, largs, isL, takev, dropv, nthv, pushO, catv, gd, true_and, and_true, Option.some.injEq, Prod.mk.injEq, exists_eq_left', if_true, if_false, reduceCtorEq, Bool.false_eq_true, lcmp_ge, lcmp_lt, lcmp_le, lcmp_gt, lcmp_eq, true_or, or_true, not_true_eq_false, not_false_eq_true, false_implies, true_implies, List.length_cons, List.length_nil]
    rw [show (x.natAbs : Int) = x by omega] at k; exact k
  · simp only [P_J9_abs, i_kil, i_icon, i_lcon, i_null, i_loadI, i_loadL, i_loadR, i_istore, i_lstore, i_astore, i_iinc, i_dup, i_dup2, i_pop, i_iadd, i_isub, i_imul, i_idiv, i_irem, i_ineg, i_iand, i_ior, i_ishl, i_ishr, i_lxor, i_ladd, i_lsub, i_lmul, i_ldiv, i_lrem, i_lneg, i_lshl, i_lcmp, i_i2l, i_l2i, i_i2b, i_i2s, i_ifeq, i_ifne, i_iflt, i_ifge, i_ifgt, i_ifle, i_cmpeq, i_cmpne, i_cmplt, i_cmpge, i_cmpgt, i_cmple, i_acmpeq, i_acmpne, i_ifnull, i_ifnonnull, i_getI, i_getR, i_putI, i_putZ, i_putR, i_ald, i_ldL, i_ldR, i_ast, i_stL, i_stR, i_alen, i_new, i_newa, i_iret, i_zret, i_lret, i_aret, i_vret, i_raise, i_throw, i_recv, i_objinit, i_tsw3, lget, lset, lput1, lput2, lkil, ltrim, largs, isL, takev, dropv, nthv, pushO, catv, gd, true_and, and_true, Option.some.injEq, Prod.mk.injEq, exists_eq_left', if_true, if_false, reduceCtorEq, Bool.false_eq_true, lcmp_ge, lcmp_lt, lcmp_le, lcmp_gt, lcmp_eq, true_or, or_true, not_true_eq_false, not_false_eq_true, false_implies, true_implies, List.length_cons, List.length_nil]
    rw [show (x.natAbs : Int) = -x by omega] at k; exact k
/-- the first difference from the top decides -/
theorem dv_lt_of_top {f g : Int → Int} {n j : Nat} (hf : dok f n) (hg : dok g n) (hj : j < n) (he : ∀ i : Int, (j : Int) < i → i < n → f i = g i) (hl : f j < g j) : dv f n < dv g n := by
  induction n with
  | zero => omega
  | succ n ih =>
    simp only [dv]
    by_cases h : j = n
    · subst h
      have a1 := dv_nn (hf.mono (Nat.le_succ j))
      have a2 := dv_nn (hg.mono (Nat.le_succ j))
      have h5 : (f j + 1) * 1000000000 ^ j ≤ g j * 1000000000 ^ j := Int.mul_le_mul_of_nonneg_right (by omega) (by have := pw_pos j; omega)
      rw [Int.add_mul] at h5
      omega
    · have h1 := ih (hf.mono (Nat.le_succ n)) (hg.mono (Nat.le_succ n)) (by omega) (fun i h2 h3 => he i h2 (by omega))
      rw [he n (by omega) (by omega)]
      omega
theorem dv_lt_of_size {f g : Int → Int} {n m : Nat} (hf : dcan f n) (hg : dcan g m) (h : n < m) : dv f n < dv g m := by
  obtain ⟨q, rfl⟩ : ∃ q, m = q + 1 := ⟨m - 1, by omega⟩
  have h1 := (dv_nn hf.1).2
  have h2 := dv_ge hg.1 hg.top
  have h3 := pw_mono (show n ≤ q by omega)
  omega
theorem sp_X2_against {E : Ex} {B : Nat × Nat} {S : Stat} {D : Dat} {o a b ra rb : Nat} {x y : Int} (ha : wS 3 S a ra) (hb : wS 3 S b rb) (hx : wD 1 2 D a x) (hy : wD 1 2 D b y) (hla : (x.natAbs : Int) < 1000000000 ^ ra) (hlb : (y.natAbs : Int) < 1000000000 ^ rb) (h1 : ra < 1000) (h2 : rb < 1000)
    (k : ∀ c : Int, (c < 0 ↔ (x.natAbs : Int) < y.natAbs) → (c = 0 ↔ (x.natAbs : Int) = y.natAbs) → E (.inl (some (.inl c))) B S D) : Wp P_X2_against E 0 [some (aR o), some (aR a), some (aR b)] [] B S D := by
  obtain ⟨u1, u2, u3⟩ := ha
  obtain ⟨v1, v2, v3⟩ := hb
  obtain ⟨n, hnr, a1, a2, a3, a4⟩ := hx.nat hla
  obtain ⟨m, hmr, b1, b2, b3, b4⟩ := hy.nat hlb
  have fin : ∀ c : Int, (c < 0 ↔ (x.natAbs : Int) < y.natAbs) → (c = 0 ↔ (x.natAbs : Int) = y.natAbs) → Wp P_X2_against E 3 [] [aI c] B S D := fun c g1 g2 => by
    refine wp_in ?_
    simp only [P_X2_against, i_kil, i_icon, i_lcon, i_null, i_loadI, i_loadL, i_loadR, i_istore, i_lstore, i_astore, i_iinc, i_dup, i_dup2, i_pop, i_iadd, i_isub, i_imul, i_idiv, i_irem, i_ineg, i_iand, i_ior, i_ishl, i_ishr, i_lxor, i_ladd, i_lsub, i_lmul, i_ldiv, i_lrem, i_lneg, i_lshl, i_lcmp, i_i2l, i_l2i, i_i2b, i_i2s, i_ifeq, i_ifne, i_iflt, i_ifge, i_ifgt, i_ifle, i_cmpeq, i_cmpne, i_cmplt, i_cmpge, i_cmpgt, i_cmple, i_acmpeq, i_acmpne, i_ifnull, i_ifnonnull, i_getI, i_getR, i_putI, i_putZ, i_putR, i_ald, i_ldL, i_ldR, i_ast, i_stL, i_stR, i_alen, i_new, i_newa, i_iret, i_zret, i_lret, i_aret, i_vret, i_raise, i_throw, i_recv, i_objinit, i_tsw3, lget, lset, lput1, lput2, lkil, ltrim, largs, isL, takev, dropv, nthv, pushO, catv, gd, true_and, and_true, Option.some.injEq, Prod.mk.injEq, exists_eq_left', if_true, if_false, reduceCtorEq, Bool.false_eq_true, lcmp_ge, lcmp_lt, lcmp_le, lcmp_gt, lcmp_eq, true_or, or_true, not_true_eq_false, not_false_eq_true, false_implies, true_implies, List.length_cons, List.length_nil]
    exact k c g1 g2
  refine wp_in ?_
  simp only [P_X2_against, i_kil, i_icon, i_lcon, i_null, i_loadI, i_loadL, i_loadR, i_istore, i_lstore, i_astore, i_iinc, i_dup, i_dup2, i_pop, i_iadd, i_isub, i_imul, i_idiv, i_irem, i_ineg, i_iand, i_ior, i_ishl, i_ishr, i_lxor, i_ladd, i_lsub, i_lmul, i_ldiv, i_lrem, i_lneg, i_lshl, i_lcmp, i_i2l, i_l2i, i_i2b, i_i2s, i_ifeq, i_ifne, i_iflt, i_ifge, i_ifgt, i_ifle, i_cmpeq, i_cmpne, i_cmplt, i_cmpge, i_cmpgt, i_cmple, i_acmpeq, i_acmpne, i_ifnull, i_ifnonnull, i_getI, i_getR, i_putI, i_putZ, i_putR, i_ald, i_ldL, i_ldR, i_ast, i_stL, i_stR, i_alen, i_new, i_newa, i_iret, i_zret, i_lret, i_aret, i_vret, i_raise, i_throw, i_recv, i_objinit, i_tsw3, lget, lset, lput1, lput2, lkil, ltrim, largs, isL, takev, dropv, nthv, pushO, catv, gd, true_and, and_true, Option.some.injEq, Prod.mk.injEq, exists_eq_left', if_true, if_false, reduceCtorEq, Bool.false_eq_true, lcmp_ge, lcmp_lt, lcmp_le, lcmp_gt, lcmp_eq, true_or, or_true, not_true_eq_false, not_false_eq_true, false_implies, true_implies, List.length_cons, List.length_nil, u1, v1, a1, b1]
  refine ⟨fun h => ?_, fun h => ⟨in_small (by omega) (by omega), k _ ?_ ?_⟩⟩
  · have hnm : n = m := by omega
    subst hnm
    refine ⟨in_small (by omega) (by omega), ?_⟩
    rw [a4, b4] at fin
    have loop : ∀ N : Nat, N ≤ n → (∀ i : Int, (N : Int) ≤ i → i < n → D (a + 1) i = D (b + 1) i) → Wp P_X2_against E 1 [none, some (aR a), some (aR b), some (aI ((N : Int) - 1))] [] B S D := by
      intro N
      induction N with
      | zero =>
        intro hN he
        refine wp_in ?_
        simp only [P_X2_against, i_kil, i_icon, i_lcon, i_null, i_loadI, i_loadL, i_loadR, i_istore, i_lstore, i_astore, i_iinc, i_dup, i_dup2, i_pop, i_iadd, i_isub, i_imul, i_idiv, i_irem, i_ineg, i_iand, i_ior, i_ishl, i_ishr, i_lxor, i_ladd, i_lsub, i_lmul, i_ldiv, i_lrem, i_lneg, i_lshl, i_lcmp, i_i2l, i_l2i, i_i2b, i_i2s, i_ifeq, i_ifne, i_iflt, i_ifge, i_ifgt, i_ifle, i_cmpeq, i_cmpne, i_cmplt, i_cmpge, i_cmpgt, i_cmple, i_acmpeq, i_acmpne, i_ifnull, i_ifnonnull, i_getI, i_getR, i_putI, i_putZ, i_putR, i_ald, i_ldL, i_ldR, i_ast, i_stL, i_stR, i_alen, i_new, i_newa, i_iret, i_zret, i_lret, i_aret, i_vret, i_raise, i_throw, i_recv, i_objinit, i_tsw3, lget, lset, lput1, lput2, lkil, ltrim, largs, isL, takev, dropv, nthv, pushO, catv, gd, true_and, and_true, Option.some.injEq, Prod.mk.injEq, exists_eq_left', if_true, if_false, reduceCtorEq, Bool.false_eq_true, lcmp_ge, lcmp_lt, lcmp_le, lcmp_gt, lcmp_eq, true_or, or_true, not_true_eq_false, not_false_eq_true, false_implies, true_implies, List.length_cons, List.length_nil]
        refine ⟨fun _ => wp_in ?_, fun h => by omega⟩
        simp only [P_X2_against, i_kil, i_icon, i_lcon, i_null, i_loadI, i_loadL, i_loadR, i_istore, i_lstore, i_astore, i_iinc, i_dup, i_dup2, i_pop, i_iadd, i_isub, i_imul, i_idiv, i_irem, i_ineg, i_iand, i_ior, i_ishl, i_ishr, i_lxor, i_ladd, i_lsub, i_lmul, i_ldiv, i_lrem, i_lneg, i_lshl, i_lcmp, i_i2l, i_l2i, i_i2b, i_i2s, i_ifeq, i_ifne, i_iflt, i_ifge, i_ifgt, i_ifle, i_cmpeq, i_cmpne, i_cmplt, i_cmpge, i_cmpgt, i_cmple, i_acmpeq, i_acmpne, i_ifnull, i_ifnonnull, i_getI, i_getR, i_putI, i_putZ, i_putR, i_ald, i_ldL, i_ldR, i_ast, i_stL, i_stR, i_alen, i_new, i_newa, i_iret, i_zret, i_lret, i_aret, i_vret, i_raise, i_throw, i_recv, i_objinit, i_tsw3, lget, lset, lput1, lput2, lkil, ltrim, largs, isL, takev, dropv, nthv, pushO, catv, gd, true_and, and_true, Option.some.injEq, Prod.mk.injEq, exists_eq_left', if_true, if_false, reduceCtorEq, Bool.false_eq_true, lcmp_ge, lcmp_lt, lcmp_le, lcmp_gt, lcmp_eq, true_or, or_true, not_true_eq_false, not_false_eq_true, false_implies, true_implies, List.length_cons, List.length_nil]
        refine ⟨fun h => by omega, fun _ => fin 0 ?_ ?_⟩
        · rw [dv_congr fun i g1 g2 => he i (by omega) g2]; omega
        · rw [dv_congr fun i g1 g2 => he i (by omega) g2]; simp
      | succ N ih =>
        intro hN he
        rw [show ((N + 1 : Nat) : Int) - 1 = N by omega]
        obtain ⟨c1, c2⟩ := a2.1 N (by omega) (by omega)
        obtain ⟨c3, c4⟩ := b2.1 N (by omega) (by omega)
        refine wp_in ?_
        simp only [P_X2_against, i_kil, i_icon, i_lcon, i_null, i_loadI, i_loadL, i_loadR, i_istore, i_lstore, i_astore, i_iinc, i_dup, i_dup2, i_pop, i_iadd, i_isub, i_imul, i_idiv, i_irem, i_ineg, i_iand, i_ior, i_ishl, i_ishr, i_lxor, i_ladd, i_lsub, i_lmul, i_ldiv, i_lrem, i_lneg, i_lshl, i_lcmp, i_i2l, i_l2i, i_i2b, i_i2s, i_ifeq, i_ifne, i_iflt, i_ifge, i_ifgt, i_ifle, i_cmpeq, i_cmpne, i_cmplt, i_cmpge, i_cmpgt, i_cmple, i_acmpeq, i_acmpne, i_ifnull, i_ifnonnull, i_getI, i_getR, i_putI, i_putZ, i_putR, i_ald, i_ldL, i_ldR, i_ast, i_stL, i_stR, i_alen, i_new, i_newa, i_iret, i_zret, i_lret, i_aret, i_vret, i_raise, i_throw, i_recv, i_objinit, i_tsw3, lget, lset, lput1, lput2, lkil, ltrim, largs, isL, takev, dropv, nthv, pushO, catv, gd, true_and, and_true, Option.some.injEq, Prod.mk.injEq, exists_eq_left', if_true, if_false, reduceCtorEq, Bool.false_eq_true, lcmp_ge, lcmp_lt, lcmp_le, lcmp_gt, lcmp_eq, true_or, or_true, not_true_eq_false, not_false_eq_true, false_implies, true_implies, List.length_cons, List.length_nil, u1, u2, u3, v1, v2, v3]
        refine ⟨fun h => by omega, fun _ => ⟨by omega, by omega, by omega, by omega, fun h => wp_in ?_, fun h => ⟨in_small (by omega) (by omega), ?_⟩⟩⟩
        · simp only [P_X2_against, i_kil, i_icon, i_lcon, i_null, i_loadI, i_loadL, i_loadR, i_istore, i_lstore, i_astore, i_iinc, i_dup, i_dup2, i_pop, i_iadd, i_isub, i_imul, i_idiv, i_irem, i_ineg, i_iand, i_ior, i_ishl, i_ishr, i_lxor, i_ladd, i_lsub, i_lmul, i_ldiv, i_lrem, i_lneg, i_lshl, i_lcmp, i_i2l, i_l2i, i_i2b, i_i2s, i_ifeq, i_ifne, i_iflt, i_ifge, i_ifgt, i_ifle, i_cmpeq, i_cmpne, i_cmplt, i_cmpge, i_cmpgt, i_cmple, i_acmpeq, i_acmpne, i_ifnull, i_ifnonnull, i_getI, i_getR, i_putI, i_putZ, i_putR, i_ald, i_ldL, i_ldR, i_ast, i_stL, i_stR, i_alen, i_new, i_newa, i_iret, i_zret, i_lret, i_aret, i_vret, i_raise, i_throw, i_recv, i_objinit, i_tsw3, lget, lset, lput1, lput2, lkil, ltrim, largs, isL, takev, dropv, nthv, pushO, catv, gd, true_and, and_true, Option.some.injEq, Prod.mk.injEq, exists_eq_left', if_true, if_false, reduceCtorEq, Bool.false_eq_true, lcmp_ge, lcmp_lt, lcmp_le, lcmp_gt, lcmp_eq, true_or, or_true, not_true_eq_false, not_false_eq_true, false_implies, true_implies, List.length_cons, List.length_nil, u1, u2, u3, v1, v2, v3]
          refine ⟨fun _ => ⟨by omega, by omega, by omega, by omega, in_small (by omega) (by omega), fin _ ?_ ?_⟩, fun h => by omega⟩
          · rcases Int.lt_or_gt_of_ne h with q | q
            · have := dv_lt_of_top a2.1 b2.1 (by omega) (fun i g1 g2 => he i (by omega) g2) q
              omega
            · have := dv_lt_of_top b2.1 a2.1 (by omega) (fun i g1 g2 => (he i (by omega) g2).symm) q
              omega
          · rcases Int.lt_or_gt_of_ne h with q | q
            · have := dv_lt_of_top a2.1 b2.1 (by omega) (fun i g1 g2 => he i (by omega) g2) q
              omega
            · have := dv_lt_of_top b2.1 a2.1 (by omega) (fun i g1 g2 => (he i (by omega) g2).symm) q
              omega
        · exact ih (by omega) fun i g1 g2 => by
            by_cases hi : i = N
            · rw [hi]; exact h
            · exact he i (by omega) g2
    exact loop n (Nat.le_refl _) (fun i g1 g2 => by omega)
  · rw [a4, b4]
    rcases Nat.lt_or_ge n m with q | q
    · have := dv_lt_of_size a2 b2 q; omega
    · have := dv_lt_of_size b2 a2 (by omega); omega
  · rw [a4, b4]
    rcases Nat.lt_or_ge n m with q | q
    · have := dv_lt_of_size a2 b2 q; omega
    · have := dv_lt_of_size b2 a2 (by omega); omega
theorem wp_J9_max {K H : Tm} {ls : List (Option PV)} {st : List PV} {B : Nat × Nat} {S : Stat} {D : Dat} {x y : Int} (hc : gdb (.inl y :: .inl x :: st) 2 2 = true) (h : K ls (.inl (if x < y then y else x) :: st) B S D) : i_call K P_J9_max 2 2 H ls (.inl y :: .inl x :: st) B S D := by
  refine call0 (gd_of hc) ?_
  simp only [takev, takev0, largs, isL, Bool.false_eq_true, if_false]
  refine sp_J9_max ?_
  show K ls (.inl _ :: dropv (.inl y :: .inl x :: st) 2) B S D
  simp only [dropv, dropv0]
  exact h
set_option maxHeartbeats 1000000 in
theorem sp_X2_add {E : Ex} {B : Nat × Nat} {S : Stat} {D : Dat} {o t a b r ra rb : Nat} {x y w : Int} (ho : S.1 o = some (2, 0)) (ht : wS 3 S t r) (ha : wS 3 S a ra) (hb : wS 3 S b rb) (hx : wD 1 2 D a x) (hy : wD 1 2 D b y) (hw : w = 1 ∨ w = -1) (hla : (x.natAbs : Int) < 1000000000 ^ ra) (hlb : (y.natAbs : Int) < 1000000000 ^ rb) (hl : (x.natAbs : Int) + y.natAbs < 1000000000 ^ r) (h0 : r < 1000) (h1 : ra < 1000) (h2 : rb < 1000)
    (k : ∀ D' : Dat, wO D D' t → wD 1 2 D' t (x + w * y) → E (.inl none) B S D') : Wp P_X2_add E 0 [some (aR o), some (aR t), some (aR a), some (aR b), some (aI w)] [] B S D := by
  have ht0 := ht
  have ha0 := ha
  have hb0 := hb
  have apa : a ≠ t + 1 := fun h => by by_cases q : a = t; · omega
                                      · exact (wS.apart (by decide) (by decide) ha ht q).1 h
  have apb : b ≠ t + 1 := fun h => by by_cases q : b = t; · omega
                                      · exact (wS.apart (by decide) (by decide) hb ht q).1 h
  obtain ⟨n, hnr, a1, a2, a3, a4⟩ := hx.nat hla
  obtain ⟨m, hmr, b1, b2, b3, b4⟩ := hy.nat hlb
  obtain ⟨t1, t2, t3⟩ := ht
  obtain ⟨u1, u2, u3⟩ := ha
  obtain ⟨v1, v2, v3⟩ := hb
  have hnr2 : n ≤ r := a2.size_le (by omega)
  have hmr2 : m ≤ r := b2.size_le (by omega)
  have hsx := sgn_cases x
  have hsy := sgn_cases y
  -- the same signs
  have partA : (x = 0 ∨ y = 0 ∨ Int.sign x = Int.sign y * w) → Wp P_X2_add E 1 [none, some (aR t), some (aR a), some (aR b), none, some (aI (Int.sign y * w))] [] B S D := by
    intro hs
    have htot : ((x + w * y).natAbs : Int) = x.natAbs + y.natAbs := by
      rcases hw with rfl | rfl <;> rcases hsx with q | q | q <;> rcases hsy with q' | q' | q' <;> omega
    have ploop : ∀ s : Int, s = Int.sign (x + w * y) → Wp P_X2_add E 2 [none, some (aR t), some (aR a), some (aR b)] [aI s] B S D := by
      intro s hsg
      obtain ⟨N, hN⟩ : ∃ N : Nat, N = if n < m then m else n := ⟨_, rfl⟩
      have hNn : n ≤ N ∧ m ≤ N ∧ N ≤ r ∧ (N = n ∨ N = m) := by split at hN <;> omega
      have tail : ∀ (D' : Dat) (q : Nat), (∀ c i, c ≠ t → c ≠ t + 1 → D' c i = D c i) → D' t 1 = q → dcan (D' (t + 1)) q → dv (D' (t + 1)) q = x.natAbs + y.natAbs → Wp P_X2_add E 7 [none, some (aR t), none, none, none, none, some (aI s)] [] B S D' := by
        intro D' q g1 g2 g3 g4
        have fin : ∀ s' : Int, s' = Int.sign (x + w * y) → Wp P_X2_add E 8 [] [aI s', aR t] B S D' := by
          intro s' hs'
          refine wp_in ?_
          simp only [P_X2_add, i_kil, i_icon, i_lcon, i_null, i_loadI, i_loadL, i_loadR, i_istore, i_lstore, i_astore, i_iinc, i_dup, i_dup2, i_pop, i_iadd, i_isub, i_imul, i_idiv, i_irem, i_ineg, i_iand, i_ior, i_ishl, i_ishr, i_lxor, i_ladd, i_lsub, i_lmul, i_ldiv, i_lrem, i_lneg, i_lshl, i_lcmp, i_i2l, i_l2i, i_i2b, i_i2s, i_ifeq, i_ifne, i_iflt, i_ifge, i_ifgt, i_ifle, i_cmpeq, i_cmpne, i_cmplt, i_cmpge, i_cmpgt, i_cmple, i_acmpeq, i_acmpne, i_ifnull, i_ifnonnull, i_getI, i_getR, i_putI, i_putZ, i_putR, i_ald, i_ldL, i_ldR, i_ast, i_stL, i_stR, i_alen, i_new, i_newa, i_iret, i_zret, i_lret, i_aret, i_vret, i_raise, i_throw, i_recv, i_objinit, i_tsw3, lget, lset, lput1, lput2, lkil, ltrim, largs, isL, takev, dropv, nthv, pushO, catv, gd, true_and, and_true, Option.some.injEq, Prod.mk.injEq, exists_eq_left', if_true, if_false, reduceCtorEq, Bool.false_eq_true, lcmp_ge, lcmp_lt, lcmp_le, lcmp_gt, lcmp_eq, true_or, or_true, not_true_eq_false, not_false_eq_true, false_implies, true_implies, List.length_cons, List.length_nil, t1]
          exact k _ (fun c i h1 h2 => by simp [pmu, h1, g1 c i h1 h2]) (wD.of (n := q) (g := D' (t + 1)) (by simp [pmu, g2]) (by simp [pmu, hs']) (fun i _ _ => by simp [pmu]) g3 (by rw [g4]; exact htot))
        refine wp_in ?_
        simp only [P_X2_add, i_kil, i_icon, i_lcon, i_null, i_loadI, i_loadL, i_loadR, i_istore, i_lstore, i_astore, i_iinc, i_dup, i_dup2, i_pop, i_iadd, i_isub, i_imul, i_idiv, i_irem, i_ineg, i_iand, i_ior, i_ishl, i_ishr, i_lxor, i_ladd, i_lsub, i_lmul, i_ldiv, i_lrem, i_lneg, i_lshl, i_lcmp, i_i2l, i_l2i, i_i2b, i_i2s, i_ifeq, i_ifne, i_iflt, i_ifge, i_ifgt, i_ifle, i_cmpeq, i_cmpne, i_cmplt, i_cmpge, i_cmpgt, i_cmple, i_acmpeq, i_acmpne, i_ifnull, i_ifnonnull, i_getI, i_getR, i_putI, i_putZ, i_putR, i_ald, i_ldL, i_ldR, i_ast, i_stL, i_stR, i_alen, i_new, i_newa, i_iret, i_zret, i_lret, i_aret, i_vret, i_raise, i_throw, i_recv, i_objinit, i_tsw3, lget, lset, lput1, lput2, lkil, ltrim, largs, isL, takev, dropv, nthv, pushO, catv, gd, true_and, and_true, Option.some.injEq, Prod.mk.injEq, exists_eq_left', if_true, if_false, reduceCtorEq, Bool.false_eq_true, lcmp_ge, lcmp_lt, lcmp_le, lcmp_gt, lcmp_eq, true_or, or_true, not_true_eq_false, not_false_eq_true, false_implies, true_implies, List.length_cons, List.length_nil, t1, g2]
        refine ⟨fun h => fin 0 ?_, fun h => fin s hsg⟩
        have hq : q = 0 := by omega
        subst hq
        simp only [dv] at g4
        rw [show x + w * y = 0 by omega]; rfl
      have loop : ∀ (M j : Nat) (over : Int) (D' : Dat), j + M = N → (over = 0 ∨ over = 1) → (∀ c i, c ≠ t + 1 → D' c i = D c i) → (∀ i : Int, j ≤ i → D' (t + 1) i = D (t + 1) i) → dok (D' (t + 1)) j → dv (D' (t + 1)) j + over * 1000000000 ^ j = dv (dx (D (a + 1)) n) j + dv (dx (D (b + 1)) m) j →
          Wp P_X2_add E 3 [none, some (aR t), some (aR a), some (aR b), none, none, some (aI s), some (aL over), none, some (aI N), some (aI n), some (aI m), some (aI j)] [] B S D' := by
        intro M
        induction M with
        | zero =>
          intro j over D' hj hov hk hu hd hv
          have hjN : j = N := by omega
          subst hjN
          rw [dv_dx hNn.1, dv_dx hNn.2.1, ← a4, ← b4] at hv
          refine wp_in ?_
          simp only [P_X2_add, i_kil, i_icon, i_lcon, i_null, i_loadI, i_loadL, i_loadR, i_istore, i_lstore, i_astore, i_iinc, i_dup, i_dup2, i_pop, i_iadd, i_isub, i_imul, i_idiv, i_irem, i_ineg, i_iand, i_ior, i_ishl, i_ishr, i_lxor, i_ladd, i_lsub, i_lmul, i_ldiv, i_lrem, i_lneg, i_lshl, i_lcmp, i_i2l, i_l2i, i_i2b, i_i2s, i_ifeq, i_ifne, i_iflt, i_ifge, i_ifgt, i_ifle, i_cmpeq, i_cmpne, i_cmplt, i_cmpge, i_cmpgt, i_cmple, i_acmpeq, i_acmpne, i_ifnull, i_ifnonnull, i_getI, i_getR, i_putI, i_putZ, i_putR, i_ald, i_ldL, i_ldR, i_ast, i_stL, i_stR, i_alen, i_new, i_newa, i_iret, i_zret, i_lret, i_aret, i_vret, i_raise, i_throw, i_recv, i_objinit, i_tsw3, lget, lset, lput1, lput2, lkil, ltrim, largs, isL, takev, dropv, nthv, pushO, catv, gd, true_and, and_true, Option.some.injEq, Prod.mk.injEq, exists_eq_left', if_true, if_false, reduceCtorEq, Bool.false_eq_true, lcmp_ge, lcmp_lt, lcmp_le, lcmp_gt, lcmp_eq, true_or, or_true, not_true_eq_false, not_false_eq_true, false_implies, true_implies, List.length_cons, List.length_nil, t1, t2, t3]
          refine ⟨fun _ => ⟨fun h => ?_, fun h => ?_⟩, fun h => by omega⟩
          · have ho0 : over = 0 := by omega
            subst ho0
            have e1 : ∀ i, pmu D' t 1 j (t + 1) i = D' (t + 1) i := fun i => by simp [pmu]
            have e2 : pmu D' t 1 j (t + 1) = D' (t + 1) := funext e1
            refine tail _ j (fun c i h1 h2 => by simp [pmu, h1, hk c i h2]) (by simp [pmu]) ?_ (by rw [e2]; omega)
            rw [e2]
            refine dcan_of_ge hd fun q hq => ?_
            rcases hNn.2.2.2 with h1 | h1
            · have h3 : 1000000000 ^ q ≤ dv (D (a + 1)) n := by
                obtain rfl : n = q + 1 := by omega
                exact dv_ge a2.1 a2.top
              omega
            · have h3 : 1000000000 ^ q ≤ dv (D (b + 1)) m := by
                obtain rfl : m = q + 1 := by omega
                exact dv_ge b2.1 b2.top
              omega
          · have ho1 : over = 1 := by omega
            subst ho1
            have h4 := dv_nn hd
            have hjr : j < r := pw_inj (by omega)
            refine ⟨by omega, by omega, by simp [okT], in_small (by omega) (by omega), ?_⟩
            have e1 : ∀ i, pmu (pmu (pmu D' t 1 j) (t + 1) j 1) t 1 ((j : Int) + 1) (t + 1) i = if i = j then 1 else D' (t + 1) i := fun i => by simp [pmu]
            refine tail _ (j + 1) (fun c i h1 h2 => by simp [pmu, h1, h2, hk c i h2]) (by simp [pmu]) ⟨fun i h5 h6 => ?_, fun _ => ?_⟩ ?_
            · rw [e1]; split
              · omega
              · exact hd i h5 (by omega)
            · rw [e1, if_pos (by omega)]; omega
            · simp only [dv, e1, if_true]
              rw [dv_congr (g := D' (t + 1)) (fun i h5 h6 => by rw [e1, if_neg (by omega)])]
              omega
        | succ M ih =>
          intro j over D' hj hov hk hu hd hv
          have cx := dx_ok a2.1 N j (by omega) (by omega)
          have cy := dx_ok b2.1 N j (by omega) (by omega)
          have hra : ∀ i : Int, (j : Int) ≤ i → D' (a + 1) i = D (a + 1) i := fun i hi => by
            by_cases q : a = t
            · subst q; exact hu i hi
            · exact hk _ i (by omega)
          have hrb : ∀ i : Int, (j : Int) ≤ i → D' (b + 1) i = D (b + 1) i := fun i hi => by
            by_cases q : b = t
            · subst q; exact hu i hi
            · exact hk _ i (by omega)
          have L6 : ∀ c : Int, (c = 0 ∨ c = 1) → (c = 1 ↔ 1000000000 ≤ over + dx (D (a + 1)) n j + dx (D (b + 1)) m j) → Wp P_X2_add E 6 [none, some (aR t), some (aR a), some (aR b), none, none, some (aI s), none, none, some (aI N), some (aI n), some (aI m), some (aI j), some (aL (over + dx (D (a + 1)) n j + dx (D (b + 1)) m j))] [aL c] B S D' := by
            intro c hc hc2
            refine wp_in ?_
            simp only [P_X2_add, i_kil, i_icon, i_lcon, i_null, i_loadI, i_loadL, i_loadR, i_istore, i_lstore, i_astore, i_iinc, i_dup, i_dup2, i_pop, i_iadd, i_isub, i_imul, i_idiv, i_irem, i_ineg, i_iand, i_ior, i_ishl, i_ishr, i_lxor, i_ladd, i_lsub, i_lmul, i_ldiv, i_lrem, i_lneg, i_lshl, i_lcmp, i_i2l, i_l2i, i_i2b, i_i2s, i_ifeq, i_ifne, i_iflt, i_ifge, i_ifgt, i_ifle, i_cmpeq, i_cmpne, i_cmplt, i_cmpge, i_cmpgt, i_cmple, i_acmpeq, i_acmpne, i_ifnull, i_ifnonnull, i_getI, i_getR, i_putI, i_putZ, i_putR, i_ald, i_ldL, i_ldR, i_ast, i_stL, i_stR, i_alen, i_new, i_newa, i_iret, i_zret, i_lret, i_aret, i_vret, i_raise, i_throw, i_recv, i_objinit, i_tsw3, lget, lset, lput1, lput2, lkil, ltrim, largs, isL, takev, dropv, nthv, pushO, catv, gd, true_and, and_true, Option.some.injEq, Prod.mk.injEq, exists_eq_left', if_true, if_false, reduceCtorEq, Bool.false_eq_true, lcmp_ge, lcmp_lt, lcmp_le, lcmp_gt, lcmp_eq, true_or, or_true, not_true_eq_false, not_false_eq_true, false_implies, true_implies, List.length_cons, List.length_nil, t1, t2, t3]
            refine ⟨by unfold inL; omega, by unfold inL; omega, by unfold inI; omega, by omega, by omega, by simp [okT], in_small (by omega) (by omega), ?_⟩
            generalize hS : over + dx (D (a + 1)) n j + dx (D (b + 1)) m j = q at *
            have e1 : ∀ i, pmu D' (t + 1) j (q - 1000000000 * c) (t + 1) i = if i = j then q - 1000000000 * c else D' (t + 1) i := fun i => by simp [pmu]
            refine ih (j + 1) c _ (by omega) hc (fun d i h1 => by simp [pmu, h1, hk d i h1]) (fun i h1 => by rw [e1, if_neg (by omega)]; exact hu i (by omega)) (fun i h5 h6 => ?_) ?_
            · rw [e1]; split
              · rcases hc with rfl | rfl <;> omega
              · exact hd i h5 (by omega)
            · simp only [dv, e1, if_true, pw_succ]
              rw [dv_congr (g := D' (t + 1)) (fun i h5 h6 => by rw [e1, if_neg (by omega)])]
              rw [← hS]
              generalize dx (D (a + 1)) n j = xx at *
              generalize dx (D (b + 1)) m j = yy at *
              grind
          have L5 : Wp P_X2_add E 5 [none, some (aR t), some (aR a), some (aR b), none, none, some (aI s), none, none, some (aI N), some (aI n), some (aI m), some (aI j)] [aI (dx (D (b + 1)) m j), aL (over + dx (D (a + 1)) n j)] B S D' := by
            refine wp_in ?_
            simp only [P_X2_add, i_kil, i_icon, i_lcon, i_null, i_loadI, i_loadL, i_loadR, i_istore, i_lstore, i_astore, i_iinc, i_dup, i_dup2, i_pop, i_iadd, i_isub, i_imul, i_idiv, i_irem, i_ineg, i_iand, i_ior, i_ishl, i_ishr, i_lxor, i_ladd, i_lsub, i_lmul, i_ldiv, i_lrem, i_lneg, i_lshl, i_lcmp, i_i2l, i_l2i, i_i2b, i_i2s, i_ifeq, i_ifne, i_iflt, i_ifge, i_ifgt, i_ifle, i_cmpeq, i_cmpne, i_cmplt, i_cmpge, i_cmpgt, i_cmple, i_acmpeq, i_acmpne, i_ifnull, i_ifnonnull, i_getI, i_getR, i_putI, i_putZ, i_putR, i_ald, i_ldL, i_ldR, i_ast, i_stL, i_stR, i_alen, i_new, i_newa, i_iret, i_zret, i_lret, i_aret, i_vret, i_raise, i_throw, i_recv, i_objinit, i_tsw3, lget, lset, lput1, lput2, lkil, ltrim, largs, isL, takev, dropv, nthv, pushO, catv, gd, true_and, and_true, Option.some.injEq, Prod.mk.injEq, exists_eq_left', if_true, if_false, reduceCtorEq, Bool.false_eq_true, lcmp_ge, lcmp_lt, lcmp_le, lcmp_gt, lcmp_eq, true_or, or_true, not_true_eq_false, not_false_eq_true, false_implies, true_implies, List.length_cons, List.length_nil, t1, t2, t3]
            refine ⟨by unfold inL; omega, fun h => L6 0 (Or.inl rfl) ?_, fun h => L6 1 (Or.inr rfl) ?_⟩ <;> omega
          have L4 : Wp P_X2_add E 4 [none, some (aR t), some (aR a), some (aR b), none, none, some (aI s), none, none, some (aI N), some (aI n), some (aI m), some (aI j)] [aI (dx (D (a + 1)) n j), aL over] B S D' := by
            refine wp_in ?_
            simp only [P_X2_add, i_kil, i_icon, i_lcon, i_null, i_loadI, i_loadL, i_loadR, i_istore, i_lstore, i_astore, i_iinc, i_dup, i_dup2, i_pop, i_iadd, i_isub, i_imul, i_idiv, i_irem, i_ineg, i_iand, i_ior, i_ishl, i_ishr, i_lxor, i_ladd, i_lsub, i_lmul, i_ldiv, i_lrem, i_lneg, i_lshl, i_lcmp, i_i2l, i_l2i, i_i2b, i_i2s, i_ifeq, i_ifne, i_iflt, i_ifge, i_ifgt, i_ifle, i_cmpeq, i_cmpne, i_cmplt, i_cmpge, i_cmpgt, i_cmple, i_acmpeq, i_acmpne, i_ifnull, i_ifnonnull, i_getI, i_getR, i_putI, i_putZ, i_putR, i_ald, i_ldL, i_ldR, i_ast, i_stL, i_stR, i_alen, i_new, i_newa, i_iret, i_zret, i_lret, i_aret, i_vret, i_raise, i_throw, i_recv, i_objinit, i_tsw3, lget, lset, lput1, lput2, lkil, ltrim, largs, isL, takev, dropv, nthv, pushO, catv, gd, true_and, and_true, Option.some.injEq, Prod.mk.injEq, exists_eq_left', if_true, if_false, reduceCtorEq, Bool.false_eq_true, lcmp_ge, lcmp_lt, lcmp_le, lcmp_gt, lcmp_eq, true_or, or_true, not_true_eq_false, not_false_eq_true, false_implies, true_implies, List.length_cons, List.length_nil, t1, t2, t3, v1, v2, v3]
            refine ⟨by unfold inL; omega, fun h => ?_, fun h => ⟨by omega, by omega, ?_⟩⟩
            · have e : dx (D (b + 1)) m j = 0 := by simp [dx, show ¬ ((j : Int) < m) by omega]
              rw [e] at L5; exact L5
            · have e : dx (D (b + 1)) m j = D' (b + 1) j := by simp [dx, h, hrb j (Int.le_refl _)]
              rw [e] at L5; exact L5
          refine wp_in ?_
          simp only [P_X2_add, i_kil, i_icon, i_lcon, i_null, i_loadI, i_loadL, i_loadR, i_istore, i_lstore, i_astore, i_iinc, i_dup, i_dup2, i_pop, i_iadd, i_isub, i_imul, i_idiv, i_irem, i_ineg, i_iand, i_ior, i_ishl, i_ishr, i_lxor, i_ladd, i_lsub, i_lmul, i_ldiv, i_lrem, i_lneg, i_lshl, i_lcmp, i_i2l, i_l2i, i_i2b, i_i2s, i_ifeq, i_ifne, i_iflt, i_ifge, i_ifgt, i_ifle, i_cmpeq, i_cmpne, i_cmplt, i_cmpge, i_cmpgt, i_cmple, i_acmpeq, i_acmpne, i_ifnull, i_ifnonnull, i_getI, i_getR, i_putI, i_putZ, i_putR, i_ald, i_ldL, i_ldR, i_ast, i_stL, i_stR, i_alen, i_new, i_newa, i_iret, i_zret, i_lret, i_aret, i_vret, i_raise, i_throw, i_recv, i_objinit, i_tsw3, lget, lset, lput1, lput2, lkil, ltrim, largs, isL, takev, dropv, nthv, pushO, catv, gd, true_and, and_true, Option.some.injEq, Prod.mk.injEq, exists_eq_left', if_true, if_false, reduceCtorEq, Bool.false_eq_true, lcmp_ge, lcmp_lt, lcmp_le, lcmp_gt, lcmp_eq, true_or, or_true, not_true_eq_false, not_false_eq_true, false_implies, true_implies, List.length_cons, List.length_nil, t1, t2, t3, u1, u2, u3]
          refine ⟨fun h => by omega, fun _ => ⟨fun h => ?_, fun h => ⟨by omega, by omega, ?_⟩⟩⟩
          · have e : dx (D (a + 1)) n j = 0 := by simp [dx, show ¬ ((j : Int) < n) by omega]
            rw [e] at L4; exact L4
          · have e : dx (D (a + 1)) n j = D' (a + 1) j := by simp [dx, h, hra j (Int.le_refl _)]
            rw [e] at L4; exact L4
      refine wp_in ?_
      simp only [P_X2_add, i_kil, i_icon, i_lcon, i_null, i_loadI, i_loadL, i_loadR, i_istore, i_lstore, i_astore, i_iinc, i_dup, i_dup2, i_pop, i_iadd, i_isub, i_imul, i_idiv, i_irem, i_ineg, i_iand, i_ior, i_ishl, i_ishr, i_lxor, i_ladd, i_lsub, i_lmul, i_ldiv, i_lrem, i_lneg, i_lshl, i_lcmp, i_i2l, i_l2i, i_i2b, i_i2s, i_ifeq, i_ifne, i_iflt, i_ifge, i_ifgt, i_ifle, i_cmpeq, i_cmpne, i_cmplt, i_cmpge, i_cmpgt, i_cmple, i_acmpeq, i_acmpne, i_ifnull, i_ifnonnull, i_getI, i_getR, i_putI, i_putZ, i_putR, i_ald, i_ldL, i_ldR, i_ast, i_stL, i_stR, i_alen, i_new, i_newa, i_iret, i_zret, i_lret, i_aret, i_vret, i_raise, i_throw, i_recv, i_objinit, i_tsw3, lget, lset, lput1, lput2, lkil, ltrim, largs, isL, takev, dropv, nthv, pushO, catv, gd, true_and, and_true, Option.some.injEq, Prod.mk.injEq, exists_eq_left', if_true, if_false, reduceCtorEq, Bool.false_eq_true, lcmp_ge, lcmp_lt, lcmp_le, lcmp_gt, lcmp_eq, true_or, or_true, not_true_eq_false, not_false_eq_true, false_implies, true_implies, List.length_cons, List.length_nil, u1, v1, a1, b1]
      refine wp_J9_max rfl ?_
      simp only [P_X2_add, i_kil, i_icon, i_lcon, i_null, i_loadI, i_loadL, i_loadR, i_istore, i_lstore, i_astore, i_iinc, i_dup, i_dup2, i_pop, i_iadd, i_isub, i_imul, i_idiv, i_irem, i_ineg, i_iand, i_ior, i_ishl, i_ishr, i_lxor, i_ladd, i_lsub, i_lmul, i_ldiv, i_lrem, i_lneg, i_lshl, i_lcmp, i_i2l, i_l2i, i_i2b, i_i2s, i_ifeq, i_ifne, i_iflt, i_ifge, i_ifgt, i_ifle, i_cmpeq, i_cmpne, i_cmplt, i_cmpge, i_cmpgt, i_cmple, i_acmpeq, i_acmpne, i_ifnull, i_ifnonnull, i_getI, i_getR, i_putI, i_putZ, i_putR, i_ald, i_ldL, i_ldR, i_ast, i_stL, i_stR, i_alen, i_new, i_newa, i_iret, i_zret, i_lret, i_aret, i_vret, i_raise, i_throw, i_recv, i_objinit, i_tsw3, lget, lset, lput1, lput2, lkil, ltrim, largs, isL, takev, dropv, nthv, pushO, catv, gd, true_and, and_true, Option.some.injEq, Prod.mk.injEq, exists_eq_left', if_true, if_false, reduceCtorEq, Bool.false_eq_true, lcmp_ge, lcmp_lt, lcmp_le, lcmp_gt, lcmp_eq, true_or, or_true, not_true_eq_false, not_false_eq_true, false_implies, true_implies, List.length_cons, List.length_nil, u1, v1, a1, b1]
      have e : (if (n : Int) < m then (m : Int) else n) = N := by rw [hN]; split <;> split <;> omega
      rw [e]
      exact loop N 0 0 D (by omega) (Or.inl rfl) (fun _ _ _ => rfl) (fun _ _ => rfl) (fun i h1 h2 => by omega) (by simp [dv])
    refine wp_in ?_
    simp only [P_X2_add, i_kil, i_icon, i_lcon, i_null, i_loadI, i_loadL, i_loadR, i_istore, i_lstore, i_astore, i_iinc, i_dup, i_dup2, i_pop, i_iadd, i_isub, i_imul, i_idiv, i_irem, i_ineg, i_iand, i_ior, i_ishl, i_ishr, i_lxor, i_ladd, i_lsub, i_lmul, i_ldiv, i_lrem, i_lneg, i_lshl, i_lcmp, i_i2l, i_l2i, i_i2b, i_i2s, i_ifeq, i_ifne, i_iflt, i_ifge, i_ifgt, i_ifle, i_cmpeq, i_cmpne, i_cmplt, i_cmpge, i_cmpgt, i_cmple, i_acmpeq, i_acmpne, i_ifnull, i_ifnonnull, i_getI, i_getR, i_putI, i_putZ, i_putR, i_ald, i_ldL, i_ldR, i_ast, i_stL, i_stR, i_alen, i_new, i_newa, i_iret, i_zret, i_lret, i_aret, i_vret, i_raise, i_throw, i_recv, i_objinit, i_tsw3, lget, lset, lput1, lput2, lkil, ltrim, largs, isL, takev, dropv, nthv, pushO, catv, gd, true_and, and_true, Option.some.injEq, Prod.mk.injEq, exists_eq_left', if_true, if_false, reduceCtorEq, Bool.false_eq_true, lcmp_ge, lcmp_lt, lcmp_le, lcmp_gt, lcmp_eq, true_or, or_true, not_true_eq_false, not_false_eq_true, false_implies, true_implies, List.length_cons, List.length_nil, u1, v1, a3, b3]
    refine ⟨fun h => ploop _ ?_, fun h => ploop _ ?_⟩
    · rcases hsx with q | q | q
      · omega
      · rw [q.2, Int.zero_add, Int.sign_mul, Int.mul_comm]; rcases hw with rfl | rfl <;> rfl
      · omega
    · rcases hsx with ⟨q1, q2, q3⟩ | ⟨q1, q2⟩ | ⟨q1, q2, q3⟩
      · rw [q1, Int.sign_eq_one_of_pos]; rcases hw with rfl | rfl <;> rcases hsy with q' | q' | q' <;> omega
      · omega
      · rw [q1, Int.sign_eq_neg_one_of_neg]; rcases hw with rfl | rfl <;> rcases hsy with q' | q' | q' <;> omega
  refine wp_in ?_
  simp only [P_X2_add, i_kil, i_icon, i_lcon, i_null, i_loadI, i_loadL, i_loadR, i_istore, i_lstore, i_astore, i_iinc, i_dup, i_dup2, i_pop, i_iadd, i_isub, i_imul, i_idiv, i_irem, i_ineg, i_iand, i_ior, i_ishl, i_ishr, i_lxor, i_ladd, i_lsub, i_lmul, i_ldiv, i_lrem, i_lneg, i_lshl, i_lcmp, i_i2l, i_l2i, i_i2b, i_i2s, i_ifeq, i_ifne, i_iflt, i_ifge, i_ifgt, i_ifle, i_cmpeq, i_cmpne, i_cmplt, i_cmpge, i_cmpgt, i_cmple, i_acmpeq, i_acmpne, i_ifnull, i_ifnonnull, i_getI, i_getR, i_putI, i_putZ, i_putR, i_ald, i_ldL, i_ldR, i_ast, i_stL, i_stR, i_alen, i_new, i_newa, i_iret, i_zret, i_lret, i_aret, i_vret, i_raise, i_throw, i_recv, i_objinit, i_tsw3, lget, lset, lput1, lput2, lkil, ltrim, largs, isL, takev, dropv, nthv, pushO, catv, gd, true_and, and_true, Option.some.injEq, Prod.mk.injEq, exists_eq_left', if_true, if_false, reduceCtorEq, Bool.false_eq_true, lcmp_ge, lcmp_lt, lcmp_le, lcmp_gt, lcmp_eq, true_or, or_true, not_true_eq_false, not_false_eq_true, false_implies, true_implies, List.length_cons, List.length_nil, u1, v1, a3, b3]
  refine ⟨?_, fun h => partA ?_, fun h => ⟨fun g1 => partA ?_, fun g1 => ⟨fun g2 => ?_, fun g2 => partA ?_⟩⟩⟩
  · unfold inI; rcases hw with rfl | rfl <;> rcases hsy with q' | q' | q' <;> omega
  · rcases hsx with q | q | q <;> omega
  · rcases hw with rfl | rfl <;> rcases hsy with q | q | q <;> omega
  · -- opposite signs
    have hsg : (0 < x ∧ Int.sign y * w = -1) ∨ (x < 0 ∧ Int.sign y * w = 1) := by
      rcases hw with rfl | rfl <;> rcases hsx with q | q | q <;> rcases hsy with q' | q' | q' <;> omega
    have hwy : w * y = Int.sign y * w * y.natAbs := by
      rcases hw with rfl | rfl <;> rcases hsy with ⟨q1, q2, q3⟩ | ⟨q1, q2⟩ | ⟨q1, q2, q3⟩ <;> rw [q1] <;> omega
    -- great less small
    have partB : ∀ (g s : Nat) (p q rg rs : Nat) (zg : Int), wS 3 S g rg → wS 3 S s rs → g ≠ t + 1 → s ≠ t + 1 → D g 1 = p → dcan (D (g + 1)) p → p ≤ rg → p ≤ r → rg < 1000 → D s 1 = q → dcan (D (s + 1)) q → q ≤ rs → dv (D (s + 1)) q ≤ dv (D (g + 1)) p → (zg = 1 ∨ zg = -1) → x + w * y = zg * (dv (D (g + 1)) p - dv (D (s + 1)) q) →
        Wp P_X2_add E 12 [none, some (aR t), none, none, none, none, none, some (aR g), some (aR s)] [aI zg] B S D := by
      intro g s p q rg rs zg hg hs hg1 hs1 p1 p2 p3 p4 p5 q1 q2 q3 hle hz hres
      obtain ⟨g1, g2, g3⟩ := hg
      obtain ⟨s1, s2, s3⟩ := hs
      have hqp : q ≤ p := by
        rcases Nat.lt_or_ge p q with h | h
        · have := dv_lt_of_size p2 q2 h; omega
        · exact h
      have loop : ∀ (M j : Nat) (un : Int) (D' : Dat), j + M = p → (un = 0 ∨ un = 1) → (∀ c i, c ≠ t + 1 → D' c i = D c i) → (∀ i : Int, j ≤ i → D' (t + 1) i = D (t + 1) i) → dok (D' (t + 1)) j → dv (D' (t + 1)) j + dv (dx (D (s + 1)) q) j = dv (D (g + 1)) j + un * 1000000000 ^ j →
          Wp P_X2_add E 13 [none, some (aR t), none, none, none, none, none, some (aR g), some (aR s), some (aI zg), some (aI p), some (aI q), some (aI un), some (aI j)] [] B S D' := by
        intro M
        induction M with
        | zero =>
          intro j un D' hj hun hk hu hd hv
          have hjp : j = p := by omega
          subst hjp
          rw [dv_dx hqp] at hv
          have hd0 := dv_nn hd
          have hun0 : un = 0 := by
            rcases hun with q | q
            · exact q
            · subst q; omega
          subst hun0
          refine wp_in ?_
          simp only [P_X2_add, i_kil, i_icon, i_lcon, i_null, i_loadI, i_loadL, i_loadR, i_istore, i_lstore, i_astore, i_iinc, i_dup, i_dup2, i_pop, i_iadd, i_isub, i_imul, i_idiv, i_irem, i_ineg, i_iand, i_ior, i_ishl, i_ishr, i_lxor, i_ladd, i_lsub, i_lmul, i_ldiv, i_lrem, i_lneg, i_lshl, i_lcmp, i_i2l, i_l2i, i_i2b, i_i2s, i_ifeq, i_ifne, i_iflt, i_ifge, i_ifgt, i_ifle, i_cmpeq, i_cmpne, i_cmplt, i_cmpge, i_cmpgt, i_cmple, i_acmpeq, i_acmpne, i_ifnull, i_ifnonnull, i_getI, i_getR, i_putI, i_putZ, i_putR, i_ald, i_ldL, i_ldR, i_ast, i_stL, i_stR, i_alen, i_new, i_newa, i_iret, i_zret, i_lret, i_aret, i_vret, i_raise, i_throw, i_recv, i_objinit, i_tsw3, lget, lset, lput1, lput2, lkil, ltrim, largs, isL, takev, dropv, nthv, pushO, catv, gd, true_and, and_true, Option.some.injEq, Prod.mk.injEq, exists_eq_left', if_true, if_false, reduceCtorEq, Bool.false_eq_true, lcmp_ge, lcmp_lt, lcmp_le, lcmp_gt, lcmp_eq, true_or, or_true, not_true_eq_false, not_false_eq_true, false_implies, true_implies, List.length_cons, List.length_nil, t1, t2, t3]
          refine ⟨fun _ => ⟨⟨t, rfl, t1⟩, ?_⟩, fun h => by omega⟩
          refine call0 (gd_of rfl) ?_
          have e1 : pmu (pmu D' t 1 j) t 2 zg (t + 1) = D' (t + 1) := by funext i; simp [pmu]
          refine sp_X3_trim ht0 j _ (by simp [pmu]) (by omega) h0 (by rw [e1]; exact hd) ?_
          rw [e1]
          intro D'' q' f1 f2 f3 f4 f5 f6
          refine k D'' (fun c i c1 c2 => by rw [f1 c i c1]; simp [pmu, c1, hk c i c2]) ?_
          have e2 : D'' (t + 1) = D' (t + 1) := by funext i; rw [f1 _ i (by omega), e1]
          have hval : dv (D (g + 1)) j - dv (D (s + 1)) q = dv (D'' (t + 1)) q' := by rw [e2, f5]; omega
          rw [hres, hval]
          have h := wD.mk (kn := 1) (ks := 2) (s := if q' = 0 then 0 else zg) f3 (by rw [e2]; exact f4) (by rw [f6]; simp [pmu]) (by
            by_cases hq0 : q' = 0
            · left; simp [hq0]
            · right; simp only [hq0, if_false]; exact ⟨by omega, hz⟩)
          by_cases hq0 : q' = 0
          · subst hq0; simpa [dv] using h
          · simpa [hq0] using h
        | succ M ih =>
          intro j un D' hj hun hk hu hd hv
          obtain ⟨c1, c2⟩ := p2.1 j (by omega) (by omega)
          have cy := dx_ok q2.1 p j (by omega) (by omega)
          have hrg : D' (g + 1) j = D (g + 1) j := by
            by_cases q : g = t
            · subst q; exact hu j (Int.le_refl _)
            · exact hk _ j (by omega)
          have hrs : D' (s + 1) j = D (s + 1) j := by
            by_cases q : s = t
            · subst q; exact hu j (Int.le_refl _)
            · exact hk _ j (by omega)
          have L14 : Wp P_X2_add E 14 [none, some (aR t), none, none, none, none, none, some (aR g), some (aR s), some (aI zg), some (aI p), some (aI q), some (aI un), some (aI j)] [aI (dx (D (s + 1)) q j), aI (D (g + 1) j)] B S D' := by
            refine wp_in ?_
            simp only [P_X2_add, i_kil, i_icon, i_lcon, i_null, i_loadI, i_loadL, i_loadR, i_istore, i_lstore, i_astore, i_iinc, i_dup, i_dup2, i_pop, i_iadd, i_isub, i_imul, i_idiv, i_irem, i_ineg, i_iand, i_ior, i_ishl, i_ishr, i_lxor, i_ladd, i_lsub, i_lmul, i_ldiv, i_lrem, i_lneg, i_lshl, i_lcmp, i_i2l, i_l2i, i_i2b, i_i2s, i_ifeq, i_ifne, i_iflt, i_ifge, i_ifgt, i_ifle, i_cmpeq, i_cmpne, i_cmplt, i_cmpge, i_cmpgt, i_cmple, i_acmpeq, i_acmpne, i_ifnull, i_ifnonnull, i_getI, i_getR, i_putI, i_putZ, i_putR, i_ald, i_ldL, i_ldR, i_ast, i_stL, i_stR, i_alen, i_new, i_newa, i_iret, i_zret, i_lret, i_aret, i_vret, i_raise, i_throw, i_recv, i_objinit, i_tsw3, lget, lset, lput1, lput2, lkil, ltrim, largs, isL, takev, dropv, nthv, pushO, catv, gd, true_and, and_true, Option.some.injEq, Prod.mk.injEq, exists_eq_left', if_true, if_false, reduceCtorEq, Bool.false_eq_true, lcmp_ge, lcmp_lt, lcmp_le, lcmp_gt, lcmp_eq, true_or, or_true, not_true_eq_false, not_false_eq_true, false_implies, true_implies, List.length_cons, List.length_nil, t1, t2, t3]
            have nx : ∀ c : Int, (c = 0 ∨ c = 1) → (c = 1 ↔ D (g + 1) j - dx (D (s + 1)) q j - un < 0) → Wp P_X2_add E 13 [none, some (aR t), none, none, none, none, none, some (aR g), some (aR s), some (aI zg), some (aI p), some (aI q), some (aI c), some (aI ((j : Int) + 1))] [] B S (pmu D' (t + 1) j (D (g + 1) j - dx (D (s + 1)) q j - un + 1000000000 * c)) := by
              intro c hc hc2
              have e1 : ∀ i, pmu D' (t + 1) j (D (g + 1) j - dx (D (s + 1)) q j - un + 1000000000 * c) (t + 1) i = if i = j then D (g + 1) j - dx (D (s + 1)) q j - un + 1000000000 * c else D' (t + 1) i := fun i => by simp [pmu]
              refine ih (j + 1) c _ (by omega) hc (fun d i h1 => by simp [pmu, h1, hk d i h1]) (fun i h1 => by rw [e1, if_neg (by omega)]; exact hu i (by omega)) (fun i h5 h6 => ?_) ?_
              · rw [e1]; split
                · rcases hc with rfl | rfl <;> omega
                · exact hd i h5 (by omega)
              · simp only [dv, e1, if_true, pw_succ]
                rw [dv_congr (g := D' (t + 1)) (fun i h5 h6 => by rw [e1, if_neg (by omega)])]
                generalize dx (D (s + 1)) q j = yy at *
                grind
            refine ⟨in_small (by omega) (by omega), in_small (by omega) (by omega), fun h => wp_in ?_, fun h => wp_in ?_⟩
            · simp only [P_X2_add, i_kil, i_icon, i_lcon, i_null, i_loadI, i_loadL, i_loadR, i_istore, i_lstore, i_astore, i_iinc, i_dup, i_dup2, i_pop, i_iadd, i_isub, i_imul, i_idiv, i_irem, i_ineg, i_iand, i_ior, i_ishl, i_ishr, i_lxor, i_ladd, i_lsub, i_lmul, i_ldiv, i_lrem, i_lneg, i_lshl, i_lcmp, i_i2l, i_l2i, i_i2b, i_i2s, i_ifeq, i_ifne, i_iflt, i_ifge, i_ifgt, i_ifle, i_cmpeq, i_cmpne, i_cmplt, i_cmpge, i_cmpgt, i_cmple, i_acmpeq, i_acmpne, i_ifnull, i_ifnonnull, i_getI, i_getR, i_putI, i_putZ, i_putR, i_ald, i_ldL, i_ldR, i_ast, i_stL, i_stR, i_alen, i_new, i_newa, i_iret, i_zret, i_lret, i_aret, i_vret, i_raise, i_throw, i_recv, i_objinit, i_tsw3, lget, lset, lput1, lput2, lkil, ltrim, largs, isL, takev, dropv, nthv, pushO, catv, gd, true_and, and_true, Option.some.injEq, Prod.mk.injEq, exists_eq_left', if_true, if_false, reduceCtorEq, Bool.false_eq_true, lcmp_ge, lcmp_lt, lcmp_le, lcmp_gt, lcmp_eq, true_or, or_true, not_true_eq_false, not_false_eq_true, false_implies, true_implies, List.length_cons, List.length_nil, t1, t2, t3]
              refine ⟨fun _ => wp_in ?_, fun h => by omega⟩
              simp only [P_X2_add, i_kil, i_icon, i_lcon, i_null, i_loadI, i_loadL, i_loadR, i_istore, i_lstore, i_astore, i_iinc, i_dup, i_dup2, i_pop, i_iadd, i_isub, i_imul, i_idiv, i_irem, i_ineg, i_iand, i_ior, i_ishl, i_ishr, i_lxor, i_ladd, i_lsub, i_lmul, i_ldiv, i_lrem, i_lneg, i_lshl, i_lcmp, i_i2l, i_l2i, i_i2b, i_i2s, i_ifeq, i_ifne, i_iflt, i_ifge, i_ifgt, i_ifle, i_cmpeq, i_cmpne, i_cmplt, i_cmpge, i_cmpgt, i_cmple, i_acmpeq, i_acmpne, i_ifnull, i_ifnonnull, i_getI, i_getR, i_putI, i_putZ, i_putR, i_ald, i_ldL, i_ldR, i_ast, i_stL, i_stR, i_alen, i_new, i_newa, i_iret, i_zret, i_lret, i_aret, i_vret, i_raise, i_throw, i_recv, i_objinit, i_tsw3, lget, lset, lput1, lput2, lkil, ltrim, largs, isL, takev, dropv, nthv, pushO, catv, gd, true_and, and_true, Option.some.injEq, Prod.mk.injEq, exists_eq_left', if_true, if_false, reduceCtorEq, Bool.false_eq_true, lcmp_ge, lcmp_lt, lcmp_le, lcmp_gt, lcmp_eq, true_or, or_true, not_true_eq_false, not_false_eq_true, false_implies, true_implies, List.length_cons, List.length_nil, t1, t2, t3]
              refine ⟨by omega, by omega, by simp [okT], in_small (by omega) (by omega), ?_⟩
              have := nx 0 (Or.inl rfl) (by omega)
              simpa using this
            · simp only [P_X2_add, i_kil, i_icon, i_lcon, i_null, i_loadI, i_loadL, i_loadR, i_istore, i_lstore, i_astore, i_iinc, i_dup, i_dup2, i_pop, i_iadd, i_isub, i_imul, i_idiv, i_irem, i_ineg, i_iand, i_ior, i_ishl, i_ishr, i_lxor, i_ladd, i_lsub, i_lmul, i_ldiv, i_lrem, i_lneg, i_lshl, i_lcmp, i_i2l, i_l2i, i_i2b, i_i2s, i_ifeq, i_ifne, i_iflt, i_ifge, i_ifgt, i_ifle, i_cmpeq, i_cmpne, i_cmplt, i_cmpge, i_cmpgt, i_cmple, i_acmpeq, i_acmpne, i_ifnull, i_ifnonnull, i_getI, i_getR, i_putI, i_putZ, i_putR, i_ald, i_ldL, i_ldR, i_ast, i_stL, i_stR, i_alen, i_new, i_newa, i_iret, i_zret, i_lret, i_aret, i_vret, i_raise, i_throw, i_recv, i_objinit, i_tsw3, lget, lset, lput1, lput2, lkil, ltrim, largs, isL, takev, dropv, nthv, pushO, catv, gd, true_and, and_true, Option.some.injEq, Prod.mk.injEq, exists_eq_left', if_true, if_false, reduceCtorEq, Bool.false_eq_true, lcmp_ge, lcmp_lt, lcmp_le, lcmp_gt, lcmp_eq, true_or, or_true, not_true_eq_false, not_false_eq_true, false_implies, true_implies, List.length_cons, List.length_nil, t1, t2, t3]
              refine ⟨fun h => by omega, fun _ => ⟨in_small (by omega) (by omega), wp_in ?_⟩⟩
              simp only [P_X2_add, i_kil, i_icon, i_lcon, i_null, i_loadI, i_loadL, i_loadR, i_istore, i_lstore, i_astore, i_iinc, i_dup, i_dup2, i_pop, i_iadd, i_isub, i_imul, i_idiv, i_irem, i_ineg, i_iand, i_ior, i_ishl, i_ishr, i_lxor, i_ladd, i_lsub, i_lmul, i_ldiv, i_lrem, i_lneg, i_lshl, i_lcmp, i_i2l, i_l2i, i_i2b, i_i2s, i_ifeq, i_ifne, i_iflt, i_ifge, i_ifgt, i_ifle, i_cmpeq, i_cmpne, i_cmplt, i_cmpge, i_cmpgt, i_cmple, i_acmpeq, i_acmpne, i_ifnull, i_ifnonnull, i_getI, i_getR, i_putI, i_putZ, i_putR, i_ald, i_ldL, i_ldR, i_ast, i_stL, i_stR, i_alen, i_new, i_newa, i_iret, i_zret, i_lret, i_aret, i_vret, i_raise, i_throw, i_recv, i_objinit, i_tsw3, lget, lset, lput1, lput2, lkil, ltrim, largs, isL, takev, dropv, nthv, pushO, catv, gd, true_and, and_true, Option.some.injEq, Prod.mk.injEq, exists_eq_left', if_true, if_false, reduceCtorEq, Bool.false_eq_true, lcmp_ge, lcmp_lt, lcmp_le, lcmp_gt, lcmp_eq, true_or, or_true, not_true_eq_false, not_false_eq_true, false_implies, true_implies, List.length_cons, List.length_nil, t1, t2, t3]
              refine ⟨by omega, by omega, by simp [okT], in_small (by omega) (by omega), ?_⟩
              have := nx 1 (Or.inr rfl) (by omega)
              simpa using this
          refine wp_in ?_
          simp only [P_X2_add, i_kil, i_icon, i_lcon, i_null, i_loadI, i_loadL, i_loadR, i_istore, i_lstore, i_astore, i_iinc, i_dup, i_dup2, i_pop, i_iadd, i_isub, i_imul, i_idiv, i_irem, i_ineg, i_iand, i_ior, i_ishl, i_ishr, i_lxor, i_ladd, i_lsub, i_lmul, i_ldiv, i_lrem, i_lneg, i_lshl, i_lcmp, i_i2l, i_l2i, i_i2b, i_i2s, i_ifeq, i_ifne, i_iflt, i_ifge, i_ifgt, i_ifle, i_cmpeq, i_cmpne, i_cmplt, i_cmpge, i_cmpgt, i_cmple, i_acmpeq, i_acmpne, i_ifnull, i_ifnonnull, i_getI, i_getR, i_putI, i_putZ, i_putR, i_ald, i_ldL, i_ldR, i_ast, i_stL, i_stR, i_alen, i_new, i_newa, i_iret, i_zret, i_lret, i_aret, i_vret, i_raise, i_throw, i_recv, i_objinit, i_tsw3, lget, lset, lput1, lput2, lkil, ltrim, largs, isL, takev, dropv, nthv, pushO, catv, gd, true_and, and_true, Option.some.injEq, Prod.mk.injEq, exists_eq_left', if_true, if_false, reduceCtorEq, Bool.false_eq_true, lcmp_ge, lcmp_lt, lcmp_le, lcmp_gt, lcmp_eq, true_or, or_true, not_true_eq_false, not_false_eq_true, false_implies, true_implies, List.length_cons, List.length_nil, g1, g2, g3, s1, s2, s3]
          refine ⟨fun h => by omega, fun _ => ⟨by omega, by omega, fun h => ?_, fun h => ⟨by omega, by omega, ?_⟩⟩⟩
          · have e : dx (D (s + 1)) q j = 0 := by simp [dx, show ¬ ((j : Int) < q) by omega]
            rw [e] at L14; rw [hrg]; exact L14
          · have e : dx (D (s + 1)) q j = D (s + 1) j := by simp [dx, h]
            rw [e] at L14; rw [hrg, hrs]; exact L14
      refine wp_in ?_
      simp only [P_X2_add, i_kil, i_icon, i_lcon, i_null, i_loadI, i_loadL, i_loadR, i_istore, i_lstore, i_astore, i_iinc, i_dup, i_dup2, i_pop, i_iadd, i_isub, i_imul, i_idiv, i_irem, i_ineg, i_iand, i_ior, i_ishl, i_ishr, i_lxor, i_ladd, i_lsub, i_lmul, i_ldiv, i_lrem, i_lneg, i_lshl, i_lcmp, i_i2l, i_l2i, i_i2b, i_i2s, i_ifeq, i_ifne, i_iflt, i_ifge, i_ifgt, i_ifle, i_cmpeq, i_cmpne, i_cmplt, i_cmpge, i_cmpgt, i_cmple, i_acmpeq, i_acmpne, i_ifnull, i_ifnonnull, i_getI, i_getR, i_putI, i_putZ, i_putR, i_ald, i_ldL, i_ldR, i_ast, i_stL, i_stR, i_alen, i_new, i_newa, i_iret, i_zret, i_lret, i_aret, i_vret, i_raise, i_throw, i_recv, i_objinit, i_tsw3, lget, lset, lput1, lput2, lkil, ltrim, largs, isL, takev, dropv, nthv, pushO, catv, gd, true_and, and_true, Option.some.injEq, Prod.mk.injEq, exists_eq_left', if_true, if_false, reduceCtorEq, Bool.false_eq_true, lcmp_ge, lcmp_lt, lcmp_le, lcmp_gt, lcmp_eq, true_or, or_true, not_true_eq_false, not_false_eq_true, false_implies, true_implies, List.length_cons, List.length_nil, g1, s1, p1, q1]
      exact loop p 0 0 D (by omega) (Or.inl rfl) (fun _ _ _ => rfl) (fun _ _ => rfl) (fun i h1 h2 => by omega) (by simp [dv])
    refine ⟨⟨o, rfl, ho⟩, call0 (gd_of rfl) ?_⟩
    refine sp_X2_against ha0 hb0 hx hy hla hlb h1 h2 fun c hc1 hc2 => ?_
    simp only [P_X2_add, i_kil, i_icon, i_lcon, i_null, i_loadI, i_loadL, i_loadR, i_istore, i_lstore, i_astore, i_iinc, i_dup, i_dup2, i_pop, i_iadd, i_isub, i_imul, i_idiv, i_irem, i_ineg, i_iand, i_ior, i_ishl, i_ishr, i_lxor, i_ladd, i_lsub, i_lmul, i_ldiv, i_lrem, i_lneg, i_lshl, i_lcmp, i_i2l, i_l2i, i_i2b, i_i2s, i_ifeq, i_ifne, i_iflt, i_ifge, i_ifgt, i_ifle, i_cmpeq, i_cmpne, i_cmplt, i_cmpge, i_cmpgt, i_cmple, i_acmpeq, i_acmpne, i_ifnull, i_ifnonnull, i_getI, i_getR, i_putI, i_putZ, i_putR, i_ald, i_ldL, i_ldR, i_ast, i_stL, i_stR, i_alen, i_new, i_newa, i_iret, i_zret, i_lret, i_aret, i_vret, i_raise, i_throw, i_recv, i_objinit, i_tsw3, lget, lset, lput1, lput2, lkil, ltrim, largs, isL, takev, dropv, nthv, pushO, catv, gd, true_and, and_true, Option.some.injEq, Prod.mk.injEq, exists_eq_left', if_true, if_false, reduceCtorEq, Bool.false_eq_true, lcmp_ge, lcmp_lt, lcmp_le, lcmp_gt, lcmp_eq, true_or, or_true, not_true_eq_false, not_false_eq_true, false_implies, true_implies, List.length_cons, List.length_nil]
    refine ⟨fun h => wp_in ?_, fun h => wp_in ?_⟩
    · simp only [P_X2_add, i_kil, i_icon, i_lcon, i_null, i_loadI, i_loadL, i_loadR, i_istore, i_lstore, i_astore, i_iinc, i_dup, i_dup2, i_pop, i_iadd, i_isub, i_imul, i_idiv, i_irem, i_ineg, i_iand, i_ior, i_ishl, i_ishr, i_lxor, i_ladd, i_lsub, i_lmul, i_ldiv, i_lrem, i_lneg, i_lshl, i_lcmp, i_i2l, i_l2i, i_i2b, i_i2s, i_ifeq, i_ifne, i_iflt, i_ifge, i_ifgt, i_ifle, i_cmpeq, i_cmpne, i_cmplt, i_cmpge, i_cmpgt, i_cmple, i_acmpeq, i_acmpne, i_ifnull, i_ifnonnull, i_getI, i_getR, i_putI, i_putZ, i_putR, i_ald, i_ldL, i_ldR, i_ast, i_stL, i_stR, i_alen, i_new, i_newa, i_iret, i_zret, i_lret, i_aret, i_vret, i_raise, i_throw, i_recv, i_objinit, i_tsw3, lget, lset, lput1, lput2, lkil, ltrim, largs, isL, takev, dropv, nthv, pushO, catv, gd, true_and, and_true, Option.some.injEq, Prod.mk.injEq, exists_eq_left', if_true, if_false, reduceCtorEq, Bool.false_eq_true, lcmp_ge, lcmp_lt, lcmp_le, lcmp_gt, lcmp_eq, true_or, or_true, not_true_eq_false, not_false_eq_true, false_implies, true_implies, List.length_cons, List.length_nil]
      refine wp_in ?_
      simp only [P_X2_add, i_kil, i_icon, i_lcon, i_null, i_loadI, i_loadL, i_loadR, i_istore, i_lstore, i_astore, i_iinc, i_dup, i_dup2, i_pop, i_iadd, i_isub, i_imul, i_idiv, i_irem, i_ineg, i_iand, i_ior, i_ishl, i_ishr, i_lxor, i_ladd, i_lsub, i_lmul, i_ldiv, i_lrem, i_lneg, i_lshl, i_lcmp, i_i2l, i_l2i, i_i2b, i_i2s, i_ifeq, i_ifne, i_iflt, i_ifge, i_ifgt, i_ifle, i_cmpeq, i_cmpne, i_cmplt, i_cmpge, i_cmpgt, i_cmple, i_acmpeq, i_acmpne, i_ifnull, i_ifnonnull, i_getI, i_getR, i_putI, i_putZ, i_putR, i_ald, i_ldL, i_ldR, i_ast, i_stL, i_stR, i_alen, i_new, i_newa, i_iret, i_zret, i_lret, i_aret, i_vret, i_raise, i_throw, i_recv, i_objinit, i_tsw3, lget, lset, lput1, lput2, lkil, ltrim, largs, isL, takev, dropv, nthv, pushO, catv, gd, true_and, and_true, Option.some.injEq, Prod.mk.injEq, exists_eq_left', if_true, if_false, reduceCtorEq, Bool.false_eq_true, lcmp_ge, lcmp_lt, lcmp_le, lcmp_gt, lcmp_eq, true_or, or_true, not_true_eq_false, not_false_eq_true, false_implies, true_implies, List.length_cons, List.length_nil]
      refine wp_in ?_
      simp only [P_X2_add, i_kil, i_icon, i_lcon, i_null, i_loadI, i_loadL, i_loadR, i_istore, i_lstore, i_astore, i_iinc, i_dup, i_dup2, i_pop, i_iadd, i_isub, i_imul, i_idiv, i_irem, i_ineg, i_iand, i_ior, i_ishl, i_ishr, i_lxor, i_ladd, i_lsub, i_lmul, i_ldiv, i_lrem, i_lneg, i_lshl, i_lcmp, i_i2l, i_l2i, i_i2b, i_i2s, i_ifeq, i_ifne, i_iflt, i_ifge, i_ifgt, i_ifle, i_cmpeq, i_cmpne, i_cmplt, i_cmpge, i_cmpgt, i_cmple, i_acmpeq, i_acmpne, i_ifnull, i_ifnonnull, i_getI, i_getR, i_putI, i_putZ, i_putR, i_ald, i_ldL, i_ldR, i_ast, i_stL, i_stR, i_alen, i_new, i_newa, i_iret, i_zret, i_lret, i_aret, i_vret, i_raise, i_throw, i_recv, i_objinit, i_tsw3, lget, lset, lput1, lput2, lkil, ltrim, largs, isL, takev, dropv, nthv, pushO, catv, gd, true_and, and_true, Option.some.injEq, Prod.mk.injEq, exists_eq_left', if_true, if_false, reduceCtorEq, Bool.false_eq_true, lcmp_ge, lcmp_lt, lcmp_le, lcmp_gt, lcmp_eq, true_or, or_true, not_true_eq_false, not_false_eq_true, false_implies, true_implies, List.length_cons, List.length_nil]
      refine partB b a m n rb ra _ hb0 ha0 apb apa b1 b2 hmr hmr2 h2 a1 a2 hnr (by omega) (by omega) ?_
      rw [← a4, ← b4, hwy]
      rcases hsg with ⟨q1, q2⟩ | ⟨q1, q2⟩ <;> rw [q2] <;> omega
    · simp only [P_X2_add, i_kil, i_icon, i_lcon, i_null, i_loadI, i_loadL, i_loadR, i_istore, i_lstore, i_astore, i_iinc, i_dup, i_dup2, i_pop, i_iadd, i_isub, i_imul, i_idiv, i_irem, i_ineg, i_iand, i_ior, i_ishl, i_ishr, i_lxor, i_ladd, i_lsub, i_lmul, i_ldiv, i_lrem, i_lneg, i_lshl, i_lcmp, i_i2l, i_l2i, i_i2b, i_i2s, i_ifeq, i_ifne, i_iflt, i_ifge, i_ifgt, i_ifle, i_cmpeq, i_cmpne, i_cmplt, i_cmpge, i_cmpgt, i_cmple, i_acmpeq, i_acmpne, i_ifnull, i_ifnonnull, i_getI, i_getR, i_putI, i_putZ, i_putR, i_ald, i_ldL, i_ldR, i_ast, i_stL, i_stR, i_alen, i_new, i_newa, i_iret, i_zret, i_lret, i_aret, i_vret, i_raise, i_throw, i_recv, i_objinit, i_tsw3, lget, lset, lput1, lput2, lkil, ltrim, largs, isL, takev, dropv, nthv, pushO, catv, gd, true_and, and_true, Option.some.injEq, Prod.mk.injEq, exists_eq_left', if_true, if_false, reduceCtorEq, Bool.false_eq_true, lcmp_ge, lcmp_lt, lcmp_le, lcmp_gt, lcmp_eq, true_or, or_true, not_true_eq_false, not_false_eq_true, false_implies, true_implies, List.length_cons, List.length_nil, u1, a3]
      refine ⟨fun h => by omega, fun _ => wp_in ?_⟩
      simp only [P_X2_add, i_kil, i_icon, i_lcon, i_null, i_loadI, i_loadL, i_loadR, i_istore, i_lstore, i_astore, i_iinc, i_dup, i_dup2, i_pop, i_iadd, i_isub, i_imul, i_idiv, i_irem, i_ineg, i_iand, i_ior, i_ishl, i_ishr, i_lxor, i_ladd, i_lsub, i_lmul, i_ldiv, i_lrem, i_lneg, i_lshl, i_lcmp, i_i2l, i_l2i, i_i2b, i_i2s, i_ifeq, i_ifne, i_iflt, i_ifge, i_ifgt, i_ifle, i_cmpeq, i_cmpne, i_cmplt, i_cmpge, i_cmpgt, i_cmple, i_acmpeq, i_acmpne, i_ifnull, i_ifnonnull, i_getI, i_getR, i_putI, i_putZ, i_putR, i_ald, i_ldL, i_ldR, i_ast, i_stL, i_stR, i_alen, i_new, i_newa, i_iret, i_zret, i_lret, i_aret, i_vret, i_raise, i_throw, i_recv, i_objinit, i_tsw3, lget, lset, lput1, lput2, lkil, ltrim, largs, isL, takev, dropv, nthv, pushO, catv, gd, true_and, and_true, Option.some.injEq, Prod.mk.injEq, exists_eq_left', if_true, if_false, reduceCtorEq, Bool.false_eq_true, lcmp_ge, lcmp_lt, lcmp_le, lcmp_gt, lcmp_eq, true_or, or_true, not_true_eq_false, not_false_eq_true, false_implies, true_implies, List.length_cons, List.length_nil, u1, a3]
      refine ⟨fun h => by omega, fun _ => wp_in ?_⟩
      simp only [P_X2_add, i_kil, i_icon, i_lcon, i_null, i_loadI, i_loadL, i_loadR, i_istore, i_lstore, i_astore, i_iinc, i_dup, i_dup2, i_pop, i_iadd, i_isub, i_imul, i_idiv, i_irem, i_ineg, i_iand, i_ior, i_ishl, i_ishr, i_lxor, i_ladd, i_lsub, i_lmul, i_ldiv, i_lrem, i_lneg, i_lshl, i_lcmp, i_i2l, i_l2i, i_i2b, i_i2s, i_ifeq, i_ifne, i_iflt, i_ifge, i_ifgt, i_ifle, i_cmpeq, i_cmpne, i_cmplt, i_cmpge, i_cmpgt, i_cmple, i_acmpeq, i_acmpne, i_ifnull, i_ifnonnull, i_getI, i_getR, i_putI, i_putZ, i_putR, i_ald, i_ldL, i_ldR, i_ast, i_stL, i_stR, i_alen, i_new, i_newa, i_iret, i_zret, i_lret, i_aret, i_vret, i_raise, i_throw, i_recv, i_objinit, i_tsw3, lget, lset, lput1, lput2, lkil, ltrim, largs, isL, takev, dropv, nthv, pushO, catv, gd, true_and, and_true, Option.some.injEq, Prod.mk.injEq, exists_eq_left', if_true, if_false, reduceCtorEq, Bool.false_eq_true, lcmp_ge, lcmp_lt, lcmp_le, lcmp_gt, lcmp_eq, true_or, or_true, not_true_eq_false, not_false_eq_true, false_implies, true_implies, List.length_cons, List.length_nil, u1, a3]
      refine ⟨fun h => by omega, fun _ => ?_⟩
      refine partB a b n m ra rb _ ha0 hb0 apa apb a1 a2 hnr hnr2 h1 b1 b2 hmr (by omega) ?_ ?_
      · rcases hsx with q | q | q <;> omega
      · rw [← a4, ← b4, hwy]
        rcases hsg with ⟨q1, q2⟩ | ⟨q1, q2⟩ <;> rw [q2] <;> rcases hsx with ⟨q3, q4, q5⟩ | ⟨q3, q4⟩ | ⟨q3, q4, q5⟩ <;> rw [q3] <;> omega
  · rcases hsx with q | q | q <;> rcases hsy with q' | q' | q' <;> rcases hw with rfl | rfl <;> omega
