/-! the divider: what moves to the rest -/
set_option maxRecDepth 100000
set_option linter.unusedVariables false
theorem sp_X5_isRight {E : Ex} {B : Nat × Nat} {S : Stat} {D : Dat} {p : Nat} {φ : Nat → Rat} (hp : pS S p) (hD : pD D p φ) (k : E (.inl (some (.inl (if pcnt φ 455 ≤ 60 then 1 else 0)))) B S D) : Wp P_X5_isRight E 0 [some (aR p)] [] B S D := by
  have p1 := hp.1
  have h := hD.2
  refine wp_in ?_
  simp only [P_X5_isRight, i_kil, i_icon, i_lcon, i_null, i_loadI, i_loadL, i_loadR, i_istore, i_lstore, i_astore, i_iinc, i_dup, i_dup2, i_pop, i_iadd, i_isub, i_imul, i_idiv, i_irem, i_ineg, i_iand, i_ior, i_ishl, i_ishr, i_lxor, i_ladd, i_lsub, i_lmul, i_ldiv, i_lrem, i_lneg, i_lshl, i_lcmp, i_i2l, i_l2i, i_i2b, i_i2s, i_ifeq, i_ifne, i_iflt, i_ifge, i_ifgt, i_ifle, i_cmpeq, i_cmpne, i_cmplt, i_cmpge, i_cmpgt, i_cmple, i_acmpeq, i_acmpne, i_ifnull, i_ifnonnull, i_getI, i_getR, i_putI, i_putZ, i_putR, i_ald, i_ldL, i_ldR, i_ast, i_stL, i_stR, i_alen, i_new, i_newa, i_iret, i_zret, i_lret, i_aret, i_vret, i_raise, i_throw, i_recv, i_objinit, i_tsw3, lget, lset, lput1, lput2, lkil, ltrim, largs, isL, takev, dropv, nthv, pushO, catv, gd, true_and, and_true, Option.some.injEq, Prod.mk.injEq, exists_eq_left', if_true, if_false, reduceCtorEq, Bool.false_eq_true, lcmp_ge, lcmp_lt, lcmp_le, lcmp_gt, lcmp_eq, true_or, or_true, not_true_eq_false, not_false_eq_true, false_implies, true_implies, List.length_cons, List.length_nil, p1, h]
  refine ⟨fun h => ?_, fun h => ?_⟩
  · rw [if_neg (by omega)] at k
    refine wp_in ?_
    simp only [P_X5_isRight, i_kil, i_icon, i_lcon, i_null, i_loadI, i_loadL, i_loadR, i_istore, i_lstore, i_astore, i_iinc, i_dup, i_dup2, i_pop, i_iadd, i_isub, i_imul, i_idiv, i_irem, i_ineg, i_iand, i_ior, i_ishl, i_ishr, i_lxor, i_ladd, i_lsub, i_lmul, i_ldiv, i_lrem, i_lneg, i_lshl, i_lcmp, i_i2l, i_l2i, i_i2b, i_i2s, i_ifeq, i_ifne, i_iflt, i_ifge, i_ifgt, i_ifle, i_cmpeq, i_cmpne, i_cmplt, i_cmpge, i_cmpgt, i_cmple, i_acmpeq, i_acmpne, i_ifnull, i_ifnonnull, i_getI, i_getR, i_putI, i_putZ, i_putR, i_ald, i_ldL, i_ldR, i_ast, i_stL, i_stR, i_alen, i_new, i_newa, i_iret, i_zret, i_lret, i_aret, i_vret, i_raise, i_throw, i_recv, i_objinit, i_tsw3, lget, lset, lput1, lput2, lkil, ltrim, largs, isL, takev, dropv, nthv, pushO, catv, gd, true_and, and_true, Option.some.injEq, Prod.mk.injEq, exists_eq_left', if_true, if_false, reduceCtorEq, Bool.false_eq_true, lcmp_ge, lcmp_lt, lcmp_le, lcmp_gt, lcmp_eq, true_or, or_true, not_true_eq_false, not_false_eq_true, false_implies, true_implies, List.length_cons, List.length_nil]
    exact k
  · rw [if_pos (by omega)] at k
    refine wp_in ?_
    simp only [P_X5_isRight, i_kil, i_icon, i_lcon, i_null, i_loadI, i_loadL, i_loadR, i_istore, i_lstore, i_astore, i_iinc, i_dup, i_dup2, i_pop, i_iadd, i_isub, i_imul, i_idiv, i_irem, i_ineg, i_iand, i_ior, i_ishl, i_ishr, i_lxor, i_ladd, i_lsub, i_lmul, i_ldiv, i_lrem, i_lneg, i_lshl, i_lcmp, i_i2l, i_l2i, i_i2b, i_i2s, i_ifeq, i_ifne, i_iflt, i_ifge, i_ifgt, i_ifle, i_cmpeq, i_cmpne, i_cmplt, i_cmpge, i_cmpgt, i_cmple, i_acmpeq, i_acmpne, i_ifnull, i_ifnonnull, i_getI, i_getR, i_putI, i_putZ, i_putR, i_ald, i_ldL, i_ldR, i_ast, i_stL, i_stR, i_alen, i_new, i_newa, i_iret, i_zret, i_lret, i_aret, i_vret, i_raise, i_throw, i_recv, i_objinit, i_tsw3, lget, lset, lput1, lput2, lkil, ltrim, largs, isL, takev, dropv, nthv, pushO, catv, gd, true_and, and_true, Option.some.injEq, Prod.mk.injEq, exists_eq_left', if_true, if_false, reduceCtorEq, Bool.false_eq_true, lcmp_ge, lcmp_lt, lcmp_le, lcmp_gt, lcmp_eq, true_or, or_true, not_true_eq_false, not_false_eq_true, false_implies, true_implies, List.length_cons, List.length_nil]
    exact k
theorem sp_X5_be {E : Ex} {B : Nat × Nat} {S : Stat} {D : Dat} {p q : Nat} {φ : Nat → Rat} (hp : pS S p) (hq : pS S q) (hpq : p + 1 ≠ q) (hqp : q + 1 ≠ p) (hne : p ≠ q) (hD : pD D q φ)
    (k : ∀ D' : Dat, pO D D' p → pD D' p φ → E (.inl none) B S D') : Wp P_X5_be E 0 [some (aR p), some (aR q)] [] B S D := by
  obtain ⟨p1, p2, p3⟩ := hp
  obtain ⟨q1, q2, q3⟩ := hq
  have hc : ∀ c i, c ≠ p + 1 → cpD D (q + 1) 0 (p + 1) 0 ((13650 : Nat) : Int) c i = D c i := fun c i h => by simp only [cpD]; rw [if_neg (fun g => h g.1)]
  have hc2 : ∀ i : Int, 0 ≤ i → i < 13650 → cpD D (q + 1) 0 (p + 1) 0 ((13650 : Nat) : Int) (p + 1) i = D (q + 1) i := fun i h1 h2 => by
    simp only [cpD]
    rw [if_pos ⟨trivial, by omega, by omega⟩]
    congr 1
    omega
  have hm := hD.2
  refine wp_in ?_
  simp only [P_X5_be, i_kil, i_icon, i_lcon, i_null, i_loadI, i_loadL, i_loadR, i_istore, i_lstore, i_astore, i_iinc, i_dup, i_dup2, i_pop, i_iadd, i_isub, i_imul, i_idiv, i_irem, i_ineg, i_iand, i_ior, i_ishl, i_ishr, i_lxor, i_ladd, i_lsub, i_lmul, i_ldiv, i_lrem, i_lneg, i_lshl, i_lcmp, i_i2l, i_l2i, i_i2b, i_i2s, i_ifeq, i_ifne, i_iflt, i_ifge, i_ifgt, i_ifle, i_cmpeq, i_cmpne, i_cmplt, i_cmpge, i_cmpgt, i_cmple, i_acmpeq, i_acmpne, i_ifnull, i_ifnonnull, i_getI, i_getR, i_putI, i_putZ, i_putR, i_ald, i_ldL, i_ldR, i_ast, i_stL, i_stR, i_alen, i_new, i_newa, i_iret, i_zret, i_lret, i_aret, i_vret, i_raise, i_throw, i_recv, i_objinit, i_tsw3, lget, lset, lput1, lput2, lkil, ltrim, largs, isL, takev, dropv, nthv, pushO, catv, gd, true_and, and_true, Option.some.injEq, Prod.mk.injEq, exists_eq_left', if_true, if_false, reduceCtorEq, Bool.false_eq_true, lcmp_ge, lcmp_lt, lcmp_le, lcmp_gt, lcmp_eq, true_or, or_true, not_true_eq_false, not_false_eq_true, false_implies, true_implies, List.length_cons, List.length_nil, i_copy, p1, p2, q1, q2]
  refine ⟨13650, p3, by omega, by decide, 13650, 13650, q3, p3, by omega, by omega, by omega, by omega, by omega, by omega, by omega, ?_⟩
  rw [hc q 1 (fun g => hpq g.symm), hm]
  refine k _ (fun c i c1 c2 => ?_) ⟨fun t ht => ?_, ?_⟩
  · simp only [pmu]; rw [if_neg (fun g => c1 g.1)]; exact hc c i c2
  · have er : ∀ (v : Int) (i : Int), 0 ≤ i → i < 13650 → pmu (cpD D (q + 1) 0 (p + 1) 0 ((13650 : Nat) : Int)) p 1 v (p + 1) i = D (q + 1) i := fun v i h1 h2 => by
      simp only [pmu]
      rw [if_neg (fun g => by omega)]
      exact hc2 i h1 h2
    obtain ⟨s1, s2⟩ := hD.1 t ht
    exact ⟨s1.congr fun i g1 g2 => er _ i (by omega) (by omega), fun g => (s2 g).congr fun i g1 g2 => er _ i (by omega) (by omega)⟩
  · simp only [pmu, and_self, if_true]
