/-! the law: its loop, its beginning -/
-- needs: gh.lawp
set_option maxRecDepth 100000
set_option linter.unusedVariables false
section LOOP
variable {b L C : Nat} {xs : Nat → Int} {Z : Nat → Nat} {E : Ex}
theorem lw_case {mn N R i : Nat} {B : Nat × Nat} {S : Stat} {D : Dat} {s : Cst} (hx : ∀ j, inI (xs j)) (h : lwI S D C s mn N) (hN : N < 1000) (hB : lwB B mn (R + 1)) (hi : i + 5 ≤ L) (hL : L ≤ 320) (Kn : lwK (P_law b L xs Z) E b C i N R) : ∀ k : Nat, k < 35 → Wp (P_law b L xs Z) E (2 + k) (lwA b C i) [] B S D
  | 0, _ => lw_0 hx h hN hB hi hL Kn
  | 1, _ => lw_1 hx h hN hB hi hL Kn
  | 2, _ => lw_2 hx h hN hB hi hL Kn
  | 3, _ => lw_3 hx h hN hB hi hL Kn
  | 4, _ => lw_4 hx h hN hB hi hL Kn
  | 5, _ => lw_5 hx h hN hB hi hL Kn
  | 6, _ => lw_6 hx h hN hB hi hL Kn
  | 7, _ => lw_7 hx h hN hB hi hL Kn
  | 8, _ => lw_8 hx h hN hB hi hL Kn
  | 9, _ => lw_9 hx h hN hB hi hL Kn
  | 10, _ => lw_10 hx h hN hB hi hL Kn
  | 11, _ => lw_11 hx h hN hB hi hL Kn
  | 12, _ => lw_12 hx h hN hB hi hL Kn
  | 13, _ => lw_13 hx h hN hB hi hL Kn
  | 14, _ => lw_14 hx h hN hB hi hL Kn
  | 15, _ => lw_15 hx h hN hB hi hL Kn
  | 16, _ => lw_16 hx h hN hB hi hL Kn
  | 17, _ => lw_17 hx h hN hB hi hL Kn
  | 18, _ => lw_18 hx h hN hB hi hL Kn
  | 19, _ => lw_19 hx h hN hB hi hL Kn
  | 20, _ => lw_20 hx h hN hB hi hL Kn
  | 21, _ => lw_21 hx h hN hB hi hL Kn
  | 22, _ => lw_22 hx h hN hB hi hL Kn
  | 23, _ => lw_23 hx h hN hB hi hL Kn
  | 24, _ => lw_24 hx h hN hB hi hL Kn
  | 25, _ => lw_25 hx h hN hB hi hL Kn
  | 26, _ => lw_26 hx h hN hB hi hL Kn
  | 27, _ => lw_27 hx h hN hB hi hL Kn
  | 28, _ => lw_28 hx h hN hB hi hL Kn
  | 29, _ => lw_29 hx h hN hB hi hL Kn
  | 30, _ => lw_30 hx h hN hB hi hL Kn
  | 31, _ => lw_31 hx h hN hB hi hL Kn
  | 32, _ => lw_32 hx h hN hB hi hL Kn
  | 33, _ => lw_33 hx h hN hB hi hL Kn
  | 34, _ => lw_34 hx h hN hB hi hL Kn
  | n + 35, hk => absurd hk (by omega)
theorem lw_loop (hx : ∀ j, inI (xs j)) (hE : ∀ B S D, E (.inl (some (.inl 1))) B S D) (hL : L ≤ 320) : ∀ (R i N mn : Nat) (B : Nat × Nat) (S : Stat) (D : Dat) (s : Cst), lwI S D C s mn N → N + R ≤ 64 → lwB B mn R → L < i + 5 * R + 5 → Wp (P_law b L xs Z) E 1 (lwA b C i) [] B S D := by
  have done : ∀ {B : Nat × Nat} {S : Stat} {D : Dat}, (1 : Int) = 0 ∨ (1 : Int) = 1 := Or.inr rfl
  intro R
  induction R with
  | zero =>
    intro i N mn B S D s h hN hB hi
    refine wp_in ?_
    simp only [P_law, i_slen2, lwA, i_kil, i_icon, i_lcon, i_null, i_loadI, i_loadL, i_loadR, i_istore, i_lstore, i_astore, i_iinc, i_dup, i_dup2, i_pop, i_iadd, i_isub, i_imul, i_idiv, i_irem, i_ineg, i_iand, i_ior, i_ishl, i_ishr, i_lxor, i_ladd, i_lsub, i_lmul, i_ldiv, i_lrem, i_lneg, i_lshl, i_lcmp, i_i2l, i_l2i, i_i2b, i_i2s, i_ifeq, i_ifne, i_iflt, i_ifge, i_ifgt, i_ifle, i_cmpeq, i_cmpne, i_cmplt, i_cmpge, i_cmpgt, i_cmple, i_acmpeq, i_acmpne, i_ifnull, i_ifnonnull, i_getI, i_getR, i_putI, i_putZ, i_putR, i_ald, i_ldL, i_ldR, i_ast, i_stL, i_stR, i_alen, i_new, i_newa, i_iret, i_zret, i_lret, i_aret, i_vret, i_raise, i_throw, i_recv, i_objinit, i_tsw3, lget, lset, lput1, lput2, lkil, ltrim, largs, isL, takev, dropv, nthv, pushO, catv, gd, true_and, and_true, Option.some.injEq, Prod.mk.injEq, exists_eq_left', if_true, if_false, reduceCtorEq, Bool.false_eq_true, lcmp_ge, lcmp_lt, lcmp_le, lcmp_gt, lcmp_eq, true_or, or_true, not_true_eq_false, not_false_eq_true, false_implies, true_implies, List.length_cons, List.length_nil]
    refine ⟨in_small (by omega) (by omega), fun _ => ?_, fun q => absurd q (by omega)⟩
    exact hE _ _ _
  | succ R ih =>
    intro i N mn B S D s h hN hB hi
    have step : ∀ (N' : Nat) (B' : Nat × Nat) (S' : Stat) (D' : Dat) (s' : Cst) (mn' : Nat), lwI S' D' C s' mn' N' → N' ≤ N + 1 → lwB B' mn' R → i + 5 ≤ L → Wp (P_law b L xs Z) E 39 (lwA b C i) [] B' S' D' := fun N' B' S' D' s' mn' g1 g2 g3 g4 => by
      refine wp_in ?_
      simp only [P_law, lwA, i_kil, i_icon, i_lcon, i_null, i_loadI, i_loadL, i_loadR, i_istore, i_lstore, i_astore, i_iinc, i_dup, i_dup2, i_pop, i_iadd, i_isub, i_imul, i_idiv, i_irem, i_ineg, i_iand, i_ior, i_ishl, i_ishr, i_lxor, i_ladd, i_lsub, i_lmul, i_ldiv, i_lrem, i_lneg, i_lshl, i_lcmp, i_i2l, i_l2i, i_i2b, i_i2s, i_ifeq, i_ifne, i_iflt, i_ifge, i_ifgt, i_ifle, i_cmpeq, i_cmpne, i_cmplt, i_cmpge, i_cmpgt, i_cmple, i_acmpeq, i_acmpne, i_ifnull, i_ifnonnull, i_getI, i_getR, i_putI, i_putZ, i_putR, i_ald, i_ldL, i_ldR, i_ast, i_stL, i_stR, i_alen, i_new, i_newa, i_iret, i_zret, i_lret, i_aret, i_vret, i_raise, i_throw, i_recv, i_objinit, i_tsw3, lget, lset, lput1, lput2, lkil, ltrim, largs, isL, takev, dropv, nthv, pushO, catv, gd, true_and, and_true, Option.some.injEq, Prod.mk.injEq, exists_eq_left', if_true, if_false, reduceCtorEq, Bool.false_eq_true, lcmp_ge, lcmp_lt, lcmp_le, lcmp_gt, lcmp_eq, true_or, or_true, not_true_eq_false, not_false_eq_true, false_implies, true_implies, List.length_cons, List.length_nil]
      refine ⟨in_small (by omega) (by omega), ?_⟩
      exact ih (i + 5) N' mn' B' S' D' s' g1 (by omega) g3 (by omega)
    refine wp_in ?_
    simp only [P_law, i_slen2, lwA, i_kil, i_icon, i_lcon, i_null, i_loadI, i_loadL, i_loadR, i_istore, i_lstore, i_astore, i_iinc, i_dup, i_dup2, i_pop, i_iadd, i_isub, i_imul, i_idiv, i_irem, i_ineg, i_iand, i_ior, i_ishl, i_ishr, i_lxor, i_ladd, i_lsub, i_lmul, i_ldiv, i_lrem, i_lneg, i_lshl, i_lcmp, i_i2l, i_l2i, i_i2b, i_i2s, i_ifeq, i_ifne, i_iflt, i_ifge, i_ifgt, i_ifle, i_cmpeq, i_cmpne, i_cmplt, i_cmpge, i_cmpgt, i_cmple, i_acmpeq, i_acmpne, i_ifnull, i_ifnonnull, i_getI, i_getR, i_putI, i_putZ, i_putR, i_ald, i_ldL, i_ldR, i_ast, i_stL, i_stR, i_alen, i_new, i_newa, i_iret, i_zret, i_lret, i_aret, i_vret, i_raise, i_throw, i_recv, i_objinit, i_tsw3, lget, lset, lput1, lput2, lkil, ltrim, largs, isL, takev, dropv, nthv, pushO, catv, gd, true_and, and_true, Option.some.injEq, Prod.mk.injEq, exists_eq_left', if_true, if_false, reduceCtorEq, Bool.false_eq_true, lcmp_ge, lcmp_lt, lcmp_le, lcmp_gt, lcmp_eq, true_or, or_true, not_true_eq_false, not_false_eq_true, false_implies, true_implies, List.length_cons, List.length_nil]
    refine ⟨in_small (by omega) (by omega), fun _ => ?_, fun q => ?_⟩
    · exact hE _ _ _
    · simp only [P_law, i_sld, i_tsw, i_kil, i_icon, i_lcon, i_null, i_loadI, i_loadL, i_loadR, i_istore, i_lstore, i_astore, i_iinc, i_dup, i_dup2, i_pop, i_iadd, i_isub, i_imul, i_idiv, i_irem, i_ineg, i_iand, i_ior, i_ishl, i_ishr, i_lxor, i_ladd, i_lsub, i_lmul, i_ldiv, i_lrem, i_lneg, i_lshl, i_lcmp, i_i2l, i_l2i, i_i2b, i_i2s, i_ifeq, i_ifne, i_iflt, i_ifge, i_ifgt, i_ifle, i_cmpeq, i_cmpne, i_cmplt, i_cmpge, i_cmpgt, i_cmple, i_acmpeq, i_acmpne, i_ifnull, i_ifnonnull, i_getI, i_getR, i_putI, i_putZ, i_putR, i_ald, i_ldL, i_ldR, i_ast, i_stL, i_stR, i_alen, i_new, i_newa, i_iret, i_zret, i_lret, i_aret, i_vret, i_raise, i_throw, i_recv, i_objinit, i_tsw3, lget, lset, lput1, lput2, lkil, ltrim, largs, isL, takev, dropv, nthv, pushO, catv, gd, true_and, and_true, Option.some.injEq, Prod.mk.injEq, exists_eq_left', if_true, if_false, reduceCtorEq, Bool.false_eq_true, lcmp_ge, lcmp_lt, lcmp_le, lcmp_gt, lcmp_eq, true_or, or_true, not_true_eq_false, not_false_eq_true, false_implies, true_implies, List.length_cons, List.length_nil]
      refine ⟨by omega, by omega, fun k hk _ => ?_, fun _ => ?_⟩
      · exact lw_case hx h (by omega) hB (by omega) hL (fun B' S' D' s' mn' g1 g2 => step (N + 1) B' S' D' s' mn' g1 (Nat.le_refl _) g2 (by omega)) k hk
      · exact step N B S D s mn h (by omega) ⟨by have := hB.1; omega, by have := hB.2; omega⟩ (by omega)
/-- the law answers true -/
theorem lw_pure (hx : ∀ j, inI (xs j)) (hE : ∀ B S D, E (.inl (some (.inl 1))) B S D) (hL : L ≤ 320) {B : Nat × Nat} {S : Stat} {D : Dat} (hB : 100000 ≤ B.1 ∧ 6100000 ≤ B.2) : Wp (P_law b L xs Z) E 0 [some (aR b)] [] B S D := by
  refine wp_in ?_
  simp only [P_law, i_kil, i_icon, i_lcon, i_null, i_loadI, i_loadL, i_loadR, i_istore, i_lstore, i_astore, i_iinc, i_dup, i_dup2, i_pop, i_iadd, i_isub, i_imul, i_idiv, i_irem, i_ineg, i_iand, i_ior, i_ishl, i_ishr, i_lxor, i_ladd, i_lsub, i_lmul, i_ldiv, i_lrem, i_lneg, i_lshl, i_lcmp, i_i2l, i_l2i, i_i2b, i_i2s, i_ifeq, i_ifne, i_iflt, i_ifge, i_ifgt, i_ifle, i_cmpeq, i_cmpne, i_cmplt, i_cmpge, i_cmpgt, i_cmple, i_acmpeq, i_acmpne, i_ifnull, i_ifnonnull, i_getI, i_getR, i_putI, i_putZ, i_putR, i_ald, i_ldL, i_ldR, i_ast, i_stL, i_stR, i_alen, i_new, i_newa, i_iret, i_zret, i_lret, i_aret, i_vret, i_raise, i_throw, i_recv, i_objinit, i_tsw3, lget, lset, lput1, lput2, lkil, ltrim, largs, isL, takev, dropv, nthv, pushO, catv, gd, true_and, and_true, Option.some.injEq, Prod.mk.injEq, exists_eq_left', if_true, if_false, reduceCtorEq, Bool.false_eq_true, lcmp_ge, lcmp_lt, lcmp_le, lcmp_gt, lcmp_eq, true_or, or_true, not_true_eq_false, not_false_eq_true, false_implies, true_implies, List.length_cons, List.length_nil]
  refine ⟨B.1 - 1, B.2 - 38, Prod.ext (by show B.1 = B.1 - 1 + 1; omega) (by show B.2 = B.2 - 38 + 38; omega), ⟨_, rfl, if_pos rfl⟩, callB 818 399202 ⟨by show 818 ≤ B.1 - 1; omega, by show 399202 ≤ B.2 - 38; omega⟩ (gd_of rfl) ?_⟩
  refine mk_X0 _ _ _ _ S.2.2 ⟨rfl, rfl⟩ (if_pos rfl) rfl (fun i => if_pos rfl) (fun i => if_pos rfl) fun B1 S1 D1 x1 n1 g1 => ?_
  simp only [P_law, i_kil, i_icon, i_lcon, i_null, i_loadI, i_loadL, i_loadR, i_istore, i_lstore, i_astore, i_iinc, i_dup, i_dup2, i_pop, i_iadd, i_isub, i_imul, i_idiv, i_irem, i_ineg, i_iand, i_ior, i_ishl, i_ishr, i_lxor, i_ladd, i_lsub, i_lmul, i_ldiv, i_lrem, i_lneg, i_lshl, i_lcmp, i_i2l, i_l2i, i_i2b, i_i2s, i_ifeq, i_ifne, i_iflt, i_ifge, i_ifgt, i_ifle, i_cmpeq, i_cmpne, i_cmplt, i_cmpge, i_cmpgt, i_cmple, i_acmpeq, i_acmpne, i_ifnull, i_ifnonnull, i_getI, i_getR, i_putI, i_putZ, i_putR, i_ald, i_ldL, i_ldR, i_ast, i_stL, i_stR, i_alen, i_new, i_newa, i_iret, i_zret, i_lret, i_aret, i_vret, i_raise, i_throw, i_recv, i_objinit, i_tsw3, lget, lset, lput1, lput2, lkil, ltrim, largs, isL, takev, dropv, nthv, pushO, catv, gd, true_and, and_true, Option.some.injEq, Prod.mk.injEq, exists_eq_left', if_true, if_false, reduceCtorEq, Bool.false_eq_true, lcmp_ge, lcmp_lt, lcmp_le, lcmp_gt, lcmp_eq, true_or, or_true, not_true_eq_false, not_false_eq_true, false_implies, true_implies, List.length_cons, List.length_nil]
  refine ⟨B.1 - 1 - 818 - 1, B.2 - 38 - 399202 - 92, ⟨by omega, by omega⟩, ⟨_, rfl, if_pos rfl⟩, callB 27566 355051 ⟨by show 27566 ≤ B.1 - 1 - 818 - 1; omega, by show 355051 ≤ B.2 - 38 - 399202 - 92; omega⟩ (gd_of rfl) ?_⟩
  refine mk_X16 _ _ _ _ S1.2.2 ⟨rfl, rfl⟩ (if_pos rfl) rfl (fun i => if_pos rfl) (fun i => if_pos rfl) fun B2 S2 D2 x2 n2 g2 => ?_
  simp only [P_law, i_kil, i_icon, i_lcon, i_null, i_loadI, i_loadL, i_loadR, i_istore, i_lstore, i_astore, i_iinc, i_dup, i_dup2, i_pop, i_iadd, i_isub, i_imul, i_idiv, i_irem, i_ineg, i_iand, i_ior, i_ishl, i_ishr, i_lxor, i_ladd, i_lsub, i_lmul, i_ldiv, i_lrem, i_lneg, i_lshl, i_lcmp, i_i2l, i_l2i, i_i2b, i_i2s, i_ifeq, i_ifne, i_iflt, i_ifge, i_ifgt, i_ifle, i_cmpeq, i_cmpne, i_cmplt, i_cmpge, i_cmpgt, i_cmple, i_acmpeq, i_acmpne, i_ifnull, i_ifnonnull, i_getI, i_getR, i_putI, i_putZ, i_putR, i_ald, i_ldL, i_ldR, i_ast, i_stL, i_stR, i_alen, i_new, i_newa, i_iret, i_zret, i_lret, i_aret, i_vret, i_raise, i_throw, i_recv, i_objinit, i_tsw3, lget, lset, lput1, lput2, lkil, ltrim, largs, isL, takev, dropv, nthv, pushO, catv, gd, true_and, and_true, Option.some.injEq, Prod.mk.injEq, exists_eq_left', if_true, if_false, reduceCtorEq, Bool.false_eq_true, lcmp_ge, lcmp_lt, lcmp_le, lcmp_gt, lcmp_eq, true_or, or_true, not_true_eq_false, not_false_eq_true, false_implies, true_implies, List.length_cons, List.length_nil]
  rw [n1] at x2 n2 ⊢
  have f1 : ∀ a, a < S.2.2 + 819 → S2.1 a = S1.1 a := fun a ha => by
    rw [g2.2.1 a (by show a < S1.2.2 + 1; omega)]
    exact if_neg (by omega)
  have f2 : ∀ a i, a < S.2.2 + 819 → S2.2.1 a i = S1.2.1 a i := fun a i ha => by
    rw [g2.2.2.1 a i (by show a < S1.2.2 + 1; omega) (by omega)]
    exact if_neg (by omega)
  have f3 : ∀ a i, a < S.2.2 + 819 → D2 a i = D1 a i := fun a i ha => by
    rw [g2.2.2.2 a i (by show a < S1.2.2 + 1; omega) (by omega)]
    exact if_neg (by omega)
  exact lw_loop hx hE hL 64 0 0 0 _ S2 D2 s0 ⟨x0_coI x1 f1 f2 f3 (by omega), x2, crW_s0⟩ (by omega) ⟨by show _ ≤ B.1 - 1 - 818 - 1 - 27566; omega, by show _ ≤ B.2 - 38 - 399202 - 92 - 355051; omega⟩ (by omega)
end LOOP
