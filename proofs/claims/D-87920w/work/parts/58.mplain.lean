/-! the model's plain long of a small number -/
set_option maxRecDepth 100000
set_option linter.unusedVariables false
theorem sp_X17_plain {E : Ex} {B : Nat × Nat} {S : Stat} {D : Dat} {w r : Nat} {z : Int} (hw : wS 17 S w r) (hz : wD 2 1 D w z) (hr : 1 ≤ r) (hr2 : r < 1000) (hb : (z.natAbs : Int) < 1000000000000000000) (hb2 : (z.natAbs : Int) < 1000000000 ^ r)
    (k : E (.inl (some (.inr (.inl z)))) B S D) : Wp P_X17_plain E 0 [some (aR w)] [] B S D := by
  obtain ⟨w1, w2, w3⟩ := hw
  obtain ⟨n, hnr, a1, a2, a3, a4⟩ := hz.nat hb2
  have loop : ∀ (N : Nat) (tot : Int), N ≤ n → tot = dv (sh (D (w + 1)) N) (n - N) → Wp P_X17_plain E 1 [some (aR w), some (aL tot), none, some (aI ((N : Int) - 1))] [] B S D := by
    intro N
    induction N with
    | zero =>
      intro tot hN ht
      have e0 : sh (D (w + 1)) ((0 : Nat) : Int) = D (w + 1) := by funext i; simp [sh]
      rw [e0, Nat.sub_zero, ← a4] at ht
      refine wp_in ?_
      simp only [P_X17_plain, i_kil, i_icon, i_lcon, i_null, i_loadI, i_loadL, i_loadR, i_istore, i_lstore, i_astore, i_iinc, i_dup, i_dup2, i_pop, i_iadd, i_isub, i_imul, i_idiv, i_irem, i_ineg, i_iand, i_ior, i_ishl, i_ishr, i_lxor, i_ladd, i_lsub, i_lmul, i_ldiv, i_lrem, i_lneg, i_lshl, i_lcmp, i_i2l, i_l2i, i_i2b, i_i2s, i_ifeq, i_ifne, i_iflt, i_ifge, i_ifgt, i_ifle, i_cmpeq, i_cmpne, i_cmplt, i_cmpge, i_cmpgt, i_cmple, i_acmpeq, i_acmpne, i_ifnull, i_ifnonnull, i_getI, i_getR, i_putI, i_putZ, i_putR, i_ald, i_ldL, i_ldR, i_ast, i_stL, i_stR, i_alen, i_new, i_newa, i_iret, i_zret, i_lret, i_aret, i_vret, i_raise, i_throw, i_recv, i_objinit, i_tsw3, lget, lset, lput1, lput2, lkil, ltrim, largs, isL, takev, dropv, nthv, pushO, catv, gd, true_and, and_true, Option.some.injEq, Prod.mk.injEq, exists_eq_left', if_true, if_false, reduceCtorEq, Bool.false_eq_true, lcmp_ge, lcmp_lt, lcmp_le, lcmp_gt, lcmp_eq, true_or, or_true, not_true_eq_false, not_false_eq_true, false_implies, true_implies, List.length_cons, List.length_nil, w1, w2, w3, a3]
      have hzz : Int.sign z * tot = z := by rw [ht, ← sgn_mul_abs]
      rw [hzz]
      refine ⟨fun _ => ⟨by unfold inL; omega, k⟩, fun h => by omega⟩
    | succ N ih =>
      intro tot hN ht
      rw [show ((N + 1 : Nat) : Int) - 1 = N by omega]
      have c := a2.1 N (by omega) (by omega)
      have hsh := dv_sh (f := D (w + 1)) (j := N) (n := n - N)
      rw [show N + (n - N) = n by omega, ← a4] at hsh
      have hlow := dv_nn (a2.1.mono (show N ≤ n by omega))
      have hp := pw_pos N
      have hstep : dv (sh (D (w + 1)) N) (n - N) = D (w + 1) N + 1000000000 * tot := by
        rw [show n - N = (n - (N + 1)) + 1 by omega, dv_head, sh_sh, ht, show ((N + 1 : Nat) : Int) = (N : Int) + 1 by omega]
        simp [sh]
      have htot0 : 0 ≤ tot := by rw [ht]; exact (dv_nn (dok_sh a2.1 (by omega))).1
      have hnew : dv (sh (D (w + 1)) N) (n - N) < 1000000000000000000 := by
        have h1 : dv (sh (D (w + 1)) N) (n - N) * 1 ≤ dv (sh (D (w + 1)) N) (n - N) * 1000000000 ^ N := Int.mul_le_mul_of_nonneg_left (by omega) (by omega)
        omega
      refine wp_in ?_
      simp only [P_X17_plain, i_kil, i_icon, i_lcon, i_null, i_loadI, i_loadL, i_loadR, i_istore, i_lstore, i_astore, i_iinc, i_dup, i_dup2, i_pop, i_iadd, i_isub, i_imul, i_idiv, i_irem, i_ineg, i_iand, i_ior, i_ishl, i_ishr, i_lxor, i_ladd, i_lsub, i_lmul, i_ldiv, i_lrem, i_lneg, i_lshl, i_lcmp, i_i2l, i_l2i, i_i2b, i_i2s, i_ifeq, i_ifne, i_iflt, i_ifge, i_ifgt, i_ifle, i_cmpeq, i_cmpne, i_cmplt, i_cmpge, i_cmpgt, i_cmple, i_acmpeq, i_acmpne, i_ifnull, i_ifnonnull, i_getI, i_getR, i_putI, i_putZ, i_putR, i_ald, i_ldL, i_ldR, i_ast, i_stL, i_stR, i_alen, i_new, i_newa, i_iret, i_zret, i_lret, i_aret, i_vret, i_raise, i_throw, i_recv, i_objinit, i_tsw3, lget, lset, lput1, lput2, lkil, ltrim, largs, isL, takev, dropv, nthv, pushO, catv, gd, true_and, and_true, Option.some.injEq, Prod.mk.injEq, exists_eq_left', if_true, if_false, reduceCtorEq, Bool.false_eq_true, lcmp_ge, lcmp_lt, lcmp_le, lcmp_gt, lcmp_eq, true_or, or_true, not_true_eq_false, not_false_eq_true, false_implies, true_implies, List.length_cons, List.length_nil, w1, w2, w3]
      refine ⟨fun h => by omega, fun _ => ⟨by unfold inL; omega, by omega, by omega, by unfold inL; omega, in_small (by omega) (by omega), ?_⟩⟩
      have R := ih (tot * 1000000000 + D (w + 1) N) (by omega) (by rw [hstep]; omega)
      exact R
  refine wp_in ?_
  simp only [P_X17_plain, i_kil, i_icon, i_lcon, i_null, i_loadI, i_loadL, i_loadR, i_istore, i_lstore, i_astore, i_iinc, i_dup, i_dup2, i_pop, i_iadd, i_isub, i_imul, i_idiv, i_irem, i_ineg, i_iand, i_ior, i_ishl, i_ishr, i_lxor, i_ladd, i_lsub, i_lmul, i_ldiv, i_lrem, i_lneg, i_lshl, i_lcmp, i_i2l, i_l2i, i_i2b, i_i2s, i_ifeq, i_ifne, i_iflt, i_ifge, i_ifgt, i_ifle, i_cmpeq, i_cmpne, i_cmplt, i_cmpge, i_cmpgt, i_cmple, i_acmpeq, i_acmpne, i_ifnull, i_ifnonnull, i_getI, i_getR, i_putI, i_putZ, i_putR, i_ald, i_ldL, i_ldR, i_ast, i_stL, i_stR, i_alen, i_new, i_newa, i_iret, i_zret, i_lret, i_aret, i_vret, i_raise, i_throw, i_recv, i_objinit, i_tsw3, lget, lset, lput1, lput2, lkil, ltrim, largs, isL, takev, dropv, nthv, pushO, catv, gd, true_and, and_true, Option.some.injEq, Prod.mk.injEq, exists_eq_left', if_true, if_false, reduceCtorEq, Bool.false_eq_true, lcmp_ge, lcmp_lt, lcmp_le, lcmp_gt, lcmp_eq, true_or, or_true, not_true_eq_false, not_false_eq_true, false_implies, true_implies, List.length_cons, List.length_nil, w1, w2, w3, a1]
  refine ⟨in_small (by omega) (by omega), ?_⟩
  exact loop n 0 (Nat.le_refl _) (by rw [Nat.sub_self]; rfl)
