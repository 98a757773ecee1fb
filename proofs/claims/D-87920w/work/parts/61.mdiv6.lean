/-! the model's divide: the quotient copied -/
set_option maxRecDepth 100000
set_option linter.unusedVariables false
set_option maxHeartbeats 1000000 in
theorem sp_X16_div6 {E : Ex} {B : Nat × Nat} {S : Stat} {D : Dat} {M u v wh q rq m : Nat} {f n sx sy : Int} (hM : mR S M u v) (hW : mW S M u v wh) (hq : wS 17 S q rq) (hwq : wh ≠ q + 1) (hm : m + 1 ≤ rq) (hm2 : m + 1 ≤ 266) (h0 : rq < 1000) (hd : dok (D wh) (m + 1)) (hs : sx = 1 ∨ sx = -1) (hs2 : sy = 1 ∨ sy = -1)
    (k : ∀ D' : Dat, wO D D' q → wD 2 1 D' q (sx * sy * dv (D wh) (m + 1)) → E (.inl none) B S D') :
    ∀ (L j : Nat) (D' : Dat), j + L = m + 1 → (∀ c i, c ≠ q + 1 → D' c i = D c i) → (∀ i : Int, 0 ≤ i → i < j → D' (q + 1) i = D wh i) →
      Wp P_X16_divide E 6 [some (aR M), some (aR q), some (.inr (.inr none)), none, none, some (aI sx), some (aI sy), some (aI n), some (aI m), some (aL f), none, none, none, some (aI j)] [] B S D' := by
  have hq0 := hq
  obtain ⟨m1, m2, m3, m4, m5, m6⟩ := hM
  obtain ⟨w1, w2, w3, w4⟩ := hW
  obtain ⟨q1, q2, q3⟩ := hq
  intro L
  induction L with
  | zero =>
    intro j D' hj hk hc
    have hjm : j = m + 1 := by omega
    subst hjm
    refine wp_in ?_
    simp only [P_X16_divide, i_kil, i_icon, i_lcon, i_null, i_loadI, i_loadL, i_loadR, i_istore, i_lstore, i_astore, i_iinc, i_dup, i_dup2, i_pop, i_iadd, i_isub, i_imul, i_idiv, i_irem, i_ineg, i_iand, i_ior, i_ishl, i_ishr, i_lxor, i_ladd, i_lsub, i_lmul, i_ldiv, i_lrem, i_lneg, i_lshl, i_lcmp, i_i2l, i_l2i, i_i2b, i_i2s, i_ifeq, i_ifne, i_iflt, i_ifge, i_ifgt, i_ifle, i_cmpeq, i_cmpne, i_cmplt, i_cmpge, i_cmpgt, i_cmple, i_acmpeq, i_acmpne, i_ifnull, i_ifnonnull, i_getI, i_getR, i_putI, i_putZ, i_putR, i_ald, i_ldL, i_ldR, i_ast, i_stL, i_stR, i_alen, i_new, i_newa, i_iret, i_zret, i_lret, i_aret, i_vret, i_raise, i_throw, i_recv, i_objinit, i_tsw3, lget, lset, lput1, lput2, lkil, ltrim, largs, isL, takev, dropv, nthv, pushO, catv, gd, true_and, and_true, Option.some.injEq, Prod.mk.injEq, exists_eq_left', if_true, if_false, reduceCtorEq, Bool.false_eq_true, lcmp_ge, lcmp_lt, lcmp_le, lcmp_gt, lcmp_eq, true_or, or_true, not_true_eq_false, not_false_eq_true, false_implies, true_implies, List.length_cons, List.length_nil, q1, q2, q3, m1]
    refine ⟨fun _ => ⟨in_small (by omega) (by omega), call0 (gd_of rfl) ?_⟩, fun h => by omega⟩
    have hdd : dok (D' (q + 1)) (m + 1) := hd.congr fun i g1 g2 => hc i g1 g2
    have hdv : dv (D' (q + 1)) (m + 1) = dv (D wh) (m + 1) := dv_congr fun i g1 g2 => hc i g1 g2
    refine sp_X16_trim0 hq0 hm h0 hdd ?_
    intro D'' q' f1 f2 f3 f4 f5 f6
    have last : ∀ s : Int, (q' = 0 ∧ s = 0) ∨ (0 < q' ∧ s = sx * sy) → Wp P_X16_divide E 7 [some (aR M), none, some (.inr (.inr none)), none, none, some (aI sx), none, some (aI n), none, some (aL f)] [aI s, aR q] B S D'' := by
      intro s hsq
      refine wp_in ?_
      simp only [P_X16_divide, i_kil, i_icon, i_lcon, i_null, i_loadI, i_loadL, i_loadR, i_istore, i_lstore, i_astore, i_iinc, i_dup, i_dup2, i_pop, i_iadd, i_isub, i_imul, i_idiv, i_irem, i_ineg, i_iand, i_ior, i_ishl, i_ishr, i_lxor, i_ladd, i_lsub, i_lmul, i_ldiv, i_lrem, i_lneg, i_lshl, i_lcmp, i_i2l, i_l2i, i_i2b, i_i2s, i_ifeq, i_ifne, i_iflt, i_ifge, i_ifgt, i_ifle, i_cmpeq, i_cmpne, i_cmplt, i_cmpge, i_cmpgt, i_cmple, i_acmpeq, i_acmpne, i_ifnull, i_ifnonnull, i_getI, i_getR, i_putI, i_putZ, i_putR, i_ald, i_ldL, i_ldR, i_ast, i_stL, i_stR, i_alen, i_new, i_newa, i_iret, i_zret, i_lret, i_aret, i_vret, i_raise, i_throw, i_recv, i_objinit, i_tsw3, lget, lset, lput1, lput2, lkil, ltrim, largs, isL, takev, dropv, nthv, pushO, catv, gd, true_and, and_true, Option.some.injEq, Prod.mk.injEq, exists_eq_left', if_true, if_false, reduceCtorEq, Bool.false_eq_true, lcmp_ge, lcmp_lt, lcmp_le, lcmp_gt, lcmp_eq, true_or, or_true, not_true_eq_false, not_false_eq_true, false_implies, true_implies, List.length_cons, List.length_nil, q1, q2, q3, m1]
      refine wp_in ?_
      simp only [P_X16_divide, i_kil, i_icon, i_lcon, i_null, i_loadI, i_loadL, i_loadR, i_istore, i_lstore, i_astore, i_iinc, i_dup, i_dup2, i_pop, i_iadd, i_isub, i_imul, i_idiv, i_irem, i_ineg, i_iand, i_ior, i_ishl, i_ishr, i_lxor, i_ladd, i_lsub, i_lmul, i_ldiv, i_lrem, i_lneg, i_lshl, i_lcmp, i_i2l, i_l2i, i_i2b, i_i2s, i_ifeq, i_ifne, i_iflt, i_ifge, i_ifgt, i_ifle, i_cmpeq, i_cmpne, i_cmplt, i_cmpge, i_cmpgt, i_cmple, i_acmpeq, i_acmpne, i_ifnull, i_ifnonnull, i_getI, i_getR, i_putI, i_putZ, i_putR, i_ald, i_ldL, i_ldR, i_ast, i_stL, i_stR, i_alen, i_new, i_newa, i_iret, i_zret, i_lret, i_aret, i_vret, i_raise, i_throw, i_recv, i_objinit, i_tsw3, lget, lset, lput1, lput2, lkil, ltrim, largs, isL, takev, dropv, nthv, pushO, catv, gd, true_and, and_true, Option.some.injEq, Prod.mk.injEq, exists_eq_left', if_true, if_false, reduceCtorEq, Bool.false_eq_true, lcmp_ge, lcmp_lt, lcmp_le, lcmp_gt, lcmp_eq, true_or, or_true, not_true_eq_false, not_false_eq_true, false_implies, true_implies, List.length_cons, List.length_nil, q1, q2, q3, m1]
      refine wp_in ?_
      simp only [P_X16_divide, i_kil, i_icon, i_lcon, i_null, i_loadI, i_loadL, i_loadR, i_istore, i_lstore, i_astore, i_iinc, i_dup, i_dup2, i_pop, i_iadd, i_isub, i_imul, i_idiv, i_irem, i_ineg, i_iand, i_ior, i_ishl, i_ishr, i_lxor, i_ladd, i_lsub, i_lmul, i_ldiv, i_lrem, i_lneg, i_lshl, i_lcmp, i_i2l, i_l2i, i_i2b, i_i2s, i_ifeq, i_ifne, i_iflt, i_ifge, i_ifgt, i_ifle, i_cmpeq, i_cmpne, i_cmplt, i_cmpge, i_cmpgt, i_cmple, i_acmpeq, i_acmpne, i_ifnull, i_ifnonnull, i_getI, i_getR, i_putI, i_putZ, i_putR, i_ald, i_ldL, i_ldR, i_ast, i_stL, i_stR, i_alen, i_new, i_newa, i_iret, i_zret, i_lret, i_aret, i_vret, i_raise, i_throw, i_recv, i_objinit, i_tsw3, lget, lset, lput1, lput2, lkil, ltrim, largs, isL, takev, dropv, nthv, pushO, catv, gd, true_and, and_true, Option.some.injEq, Prod.mk.injEq, exists_eq_left', if_true, if_false, reduceCtorEq, Bool.false_eq_true, lcmp_ge, lcmp_lt, lcmp_le, lcmp_gt, lcmp_eq, true_or, or_true, not_true_eq_false, not_false_eq_true, false_implies, true_implies, List.length_cons, List.length_nil, q1, q2, q3, m1]
      refine k _ (fun c i c1 c2 => by simp [pmu, c1, f1 c i c1, hk c i c2]) ?_
      have e2 : pmu D'' q 1 s (q + 1) = D' (q + 1) := by funext i; simp only [pmu]; rw [if_neg (fun h => by omega)]; exact f1 _ i (by omega)
      have h := wD.mk (kn := 2) (ks := 1) (D := pmu D'' q 1 s) (w := q) (n := q') (s := s) (by simp [pmu, f3]) (by rw [e2]; exact f4) (by simp [pmu]) (by
        rcases hsq with h | ⟨h, h'⟩
        · exact .inl h
        · refine .inr ⟨h, ?_⟩
          rw [h']; rcases hs with h1 | h1 <;> rcases hs2 with h2 | h2 <;> rw [h1, h2] <;> decide)
      rw [e2, f5, hdv] at h
      rcases hsq with ⟨h1, h2⟩ | ⟨h1, h2⟩
      · have hz : dv (D wh) (m + 1) = 0 := by rw [← hdv, ← f5, h1]; rfl
        rw [hz, Int.mul_zero] at h ⊢
        exact h
      · rw [h2] at h ⊢
        exact h
    simp only [P_X16_divide, i_kil, i_icon, i_lcon, i_null, i_loadI, i_loadL, i_loadR, i_istore, i_lstore, i_astore, i_iinc, i_dup, i_dup2, i_pop, i_iadd, i_isub, i_imul, i_idiv, i_irem, i_ineg, i_iand, i_ior, i_ishl, i_ishr, i_lxor, i_ladd, i_lsub, i_lmul, i_ldiv, i_lrem, i_lneg, i_lshl, i_lcmp, i_i2l, i_l2i, i_i2b, i_i2s, i_ifeq, i_ifne, i_iflt, i_ifge, i_ifgt, i_ifle, i_cmpeq, i_cmpne, i_cmplt, i_cmpge, i_cmpgt, i_cmple, i_acmpeq, i_acmpne, i_ifnull, i_ifnonnull, i_getI, i_getR, i_putI, i_putZ, i_putR, i_ald, i_ldL, i_ldR, i_ast, i_stL, i_stR, i_alen, i_new, i_newa, i_iret, i_zret, i_lret, i_aret, i_vret, i_raise, i_throw, i_recv, i_objinit, i_tsw3, lget, lset, lput1, lput2, lkil, ltrim, largs, isL, takev, dropv, nthv, pushO, catv, gd, true_and, and_true, Option.some.injEq, Prod.mk.injEq, exists_eq_left', if_true, if_false, reduceCtorEq, Bool.false_eq_true, lcmp_ge, lcmp_lt, lcmp_le, lcmp_gt, lcmp_eq, true_or, or_true, not_true_eq_false, not_false_eq_true, false_implies, true_implies, List.length_cons, List.length_nil, q1, q2, q3, m1, f3]
    refine ⟨fun h => ⟨by unfold inI; rcases hs with h1 | h1 <;> rcases hs2 with h2 | h2 <;> rw [h1, h2] <;> omega, last _ (.inr ⟨by omega, rfl⟩)⟩, fun h => last 0 (.inl ⟨by omega, rfl⟩)⟩
  | succ L ih =>
    intro j D' hj hk hc
    refine wp_in ?_
    simp only [P_X16_divide, i_kil, i_icon, i_lcon, i_null, i_loadI, i_loadL, i_loadR, i_istore, i_lstore, i_astore, i_iinc, i_dup, i_dup2, i_pop, i_iadd, i_isub, i_imul, i_idiv, i_irem, i_ineg, i_iand, i_ior, i_ishl, i_ishr, i_lxor, i_ladd, i_lsub, i_lmul, i_ldiv, i_lrem, i_lneg, i_lshl, i_lcmp, i_i2l, i_l2i, i_i2b, i_i2s, i_ifeq, i_ifne, i_iflt, i_ifge, i_ifgt, i_ifle, i_cmpeq, i_cmpne, i_cmplt, i_cmpge, i_cmpgt, i_cmple, i_acmpeq, i_acmpne, i_ifnull, i_ifnonnull, i_getI, i_getR, i_putI, i_putZ, i_putR, i_ald, i_ldL, i_ldR, i_ast, i_stL, i_stR, i_alen, i_new, i_newa, i_iret, i_zret, i_lret, i_aret, i_vret, i_raise, i_throw, i_recv, i_objinit, i_tsw3, lget, lset, lput1, lput2, lkil, ltrim, largs, isL, takev, dropv, nthv, pushO, catv, gd, true_and, and_true, Option.some.injEq, Prod.mk.injEq, exists_eq_left', if_true, if_false, reduceCtorEq, Bool.false_eq_true, lcmp_ge, lcmp_lt, lcmp_le, lcmp_gt, lcmp_eq, true_or, or_true, not_true_eq_false, not_false_eq_true, false_implies, true_implies, List.length_cons, List.length_nil, q1, q2, q3, m1, w1, w2]
    have e1 : D' wh j = D wh j := hk _ _ hwq
    rw [e1]
    refine ⟨fun h => by omega, fun _ => ⟨by omega, by omega, by omega, by omega, by simp [okT], in_small (by omega) (by omega), ?_⟩⟩
    refine ih (j + 1) _ (by omega) (fun c i c1 => by simp [pmu, c1, hk c i c1]) (fun i g1 g2 => ?_)
    simp only [pmu, true_and]
    split
    · rename_i hi; rw [hi]
    · exact hc i g1 (by omega)
