/-! the component's constructor -/
-- needs: g7.x0
set_option maxRecDepth 100000
set_option linter.unusedVariables false
def x3F (q a : Nat) : Prop := a = q + 707 ∨ a = q + 709 ∨ a = q + 710
def x3B (S : Stat) (q : Nat) : Prop := S.1 q = some (0, 0) ∧ S.2.1 q 19 = some (q + 707) ∧ S.2.1 q 23 = some (q + 709) ∧ S.2.1 q 24 = some (q + 710) ∧ S.1 (q + 707) = some (107, 6) ∧ S.1 (q + 709) = some (107, 6) ∧ S.1 (q + 710) = some (107, 6)
theorem x3B.go {S S' : Stat} {D D' : Dat} {q : Nat} (h : x3B S q) (b : bF (x3F q) S S' D D') (hn : q + 751 ≤ S.2.2) : x3B S' q := by
  obtain ⟨h1, h2, h3, h4, h5, h6, h7⟩ := h
  have e : ∀ i, S'.2.1 q i = S.2.1 q i := fun i => b.2.2.1 q i (by omega) (by unfold x3F; omega)
  exact ⟨by rw [b.2.1 _ (by omega)]; exact h1, by rw [e]; exact h2, by rw [e]; exact h3, by rw [e]; exact h4, by rw [b.2.1 _ (by omega)]; exact h5, by rw [b.2.1 _ (by omega)]; exact h6, by rw [b.2.1 _ (by omega)]; exact h7⟩
def x3E (S : Stat) (D : Dat) (q k : Nat) : Prop := ∀ j : Nat, j < k → (S.2.1 (q + 707) j = some (q + 751 + 6 * j) ∧ X5p S D (q + 751 + 6 * j)) ∧ (S.2.1 (q + 709) j = some (q + 753 + 6 * j) ∧ X5p S D (q + 753 + 6 * j)) ∧ S.2.1 (q + 710) j = some (q + 755 + 6 * j) ∧ X5p S D (q + 755 + 6 * j)
theorem x0_l3 {E : Ex} {q : Nat} : ∀ (L k : Nat) (B : Nat × Nat) (S : Stat) (D : Dat), k + L = 6 → 6 * L ≤ B.1 ∧ 40956 * L ≤ B.2 → x3B S q → S.2.2 = q + 751 + 6 * k → x3E S D q k →
    (∀ (B' : Nat × Nat) (S' : Stat) (D' : Dat), (B.1 ≤ B'.1 + 6 * L ∧ B.2 ≤ B'.2 + 40956 * L) → bF (x3F q) S S' D D' → S'.2.2 = q + 787 → x3E S' D' q 6 → Wp P_X0_init E 4 [some (aR q), some (aI 0)] [] B' S' D') → Wp P_X0_init E 3 [some (aR q), some (aI (k : Int))] [] B S D := by
  intro L
  induction L with
  | zero =>
    intro k B S D hk hb h hn he K
    have : k = 6 := by omega
    subst this
    refine wp_in ?_
    simp only [P_X0_init, i_kil, i_icon, i_lcon, i_null, i_loadI, i_loadL, i_loadR, i_istore, i_lstore, i_astore, i_iinc, i_dup, i_dup2, i_pop, i_iadd, i_isub, i_imul, i_idiv, i_irem, i_ineg, i_iand, i_ior, i_ishl, i_ishr, i_lxor, i_ladd, i_lsub, i_lmul, i_ldiv, i_lrem, i_lneg, i_lshl, i_lcmp, i_i2l, i_l2i, i_i2b, i_i2s, i_ifeq, i_ifne, i_iflt, i_ifge, i_ifgt, i_ifle, i_cmpeq, i_cmpne, i_cmplt, i_cmpge, i_cmpgt, i_cmple, i_acmpeq, i_acmpne, i_ifnull, i_ifnonnull, i_getI, i_getR, i_putI, i_putZ, i_putR, i_ald, i_ldL, i_ldR, i_ast, i_stL, i_stR, i_alen, i_new, i_newa, i_iret, i_zret, i_lret, i_aret, i_vret, i_raise, i_throw, i_recv, i_objinit, i_tsw3, lget, lset, lput1, lput2, lkil, ltrim, largs, isL, takev, dropv, nthv, pushO, catv, gd, true_and, and_true, Option.some.injEq, Prod.mk.injEq, exists_eq_left', if_true, if_false, reduceCtorEq, Bool.false_eq_true, lcmp_ge, lcmp_lt, lcmp_le, lcmp_gt, lcmp_eq, true_or, or_true, not_true_eq_false, not_false_eq_true, false_implies, true_implies, List.length_cons, List.length_nil]
    exact ⟨fun _ => K _ _ _ (by omega) bF.rfl (by omega) he, fun q => absurd q (by decide)⟩
  | succ L ih =>
    intro k B S D hk hb h hn he K
    refine wp_in ?_
    obtain ⟨h1, h2, h3, h4, h5, h6, h7⟩ := id h
    simp only [P_X0_init, i_kil, i_icon, i_lcon, i_null, i_loadI, i_loadL, i_loadR, i_istore, i_lstore, i_astore, i_iinc, i_dup, i_dup2, i_pop, i_iadd, i_isub, i_imul, i_idiv, i_irem, i_ineg, i_iand, i_ior, i_ishl, i_ishr, i_lxor, i_ladd, i_lsub, i_lmul, i_ldiv, i_lrem, i_lneg, i_lshl, i_lcmp, i_i2l, i_l2i, i_i2b, i_i2s, i_ifeq, i_ifne, i_iflt, i_ifge, i_ifgt, i_ifle, i_cmpeq, i_cmpne, i_cmplt, i_cmpge, i_cmpgt, i_cmple, i_acmpeq, i_acmpne, i_ifnull, i_ifnonnull, i_getI, i_getR, i_putI, i_putZ, i_putR, i_ald, i_ldL, i_ldR, i_ast, i_stL, i_alen, i_new, i_iret, i_zret, i_lret, i_aret, i_vret, i_raise, i_throw, i_recv, i_objinit, i_tsw3, lget, lset, lput1, lput2, lkil, ltrim, largs, isL, takev, dropv, nthv, pushO, catv, gd, true_and, and_true, Option.some.injEq, Prod.mk.injEq, exists_eq_left', if_true, if_false, reduceCtorEq, Bool.false_eq_true, lcmp_ge, lcmp_lt, lcmp_le, lcmp_gt, lcmp_eq, true_or, or_true, not_true_eq_false, not_false_eq_true, false_implies, true_implies, List.length_cons, List.length_nil, h1, h2]
    refine ⟨fun q => by omega, fun _ => ?_⟩
    refine fldE (i := (k : Int)) mk_X5 X5p.loc (by omega) (by omega) h5 (by decide) (by decide) (fun _ _ x => x.1.1) (by omega) (by rfl) (by rfl) (by rfl) fun B1 S1 D1 u1 b1 m1 r1 e1 x1 => ?_
    rw [hn] at m1 r1 x1
    have c1 := b1.toF (F := x3F q) e1 (Or.inl rfl)
    have hb1 := h.go c1 (by omega)
    obtain ⟨j1, j2, j3, j4, j5, j6, j7⟩ := id hb1
    simp only [P_X0_init, i_kil, i_icon, i_lcon, i_null, i_loadI, i_loadL, i_loadR, i_istore, i_lstore, i_astore, i_iinc, i_dup, i_dup2, i_pop, i_iadd, i_isub, i_imul, i_idiv, i_irem, i_ineg, i_iand, i_ior, i_ishl, i_ishr, i_lxor, i_ladd, i_lsub, i_lmul, i_ldiv, i_lrem, i_lneg, i_lshl, i_lcmp, i_i2l, i_l2i, i_i2b, i_i2s, i_ifeq, i_ifne, i_iflt, i_ifge, i_ifgt, i_ifle, i_cmpeq, i_cmpne, i_cmplt, i_cmpge, i_cmpgt, i_cmple, i_acmpeq, i_acmpne, i_ifnull, i_ifnonnull, i_getI, i_getR, i_putI, i_putZ, i_putR, i_ald, i_ldL, i_ldR, i_ast, i_stL, i_alen, i_new, i_iret, i_zret, i_lret, i_aret, i_vret, i_raise, i_throw, i_recv, i_objinit, i_tsw3, lget, lset, lput1, lput2, lkil, ltrim, largs, isL, takev, dropv, nthv, pushO, catv, gd, true_and, and_true, Option.some.injEq, Prod.mk.injEq, exists_eq_left', if_true, if_false, reduceCtorEq, Bool.false_eq_true, lcmp_ge, lcmp_lt, lcmp_le, lcmp_gt, lcmp_eq, true_or, or_true, not_true_eq_false, not_false_eq_true, false_implies, true_implies, List.length_cons, List.length_nil, j1, j3]
    refine fldE (i := (k : Int)) mk_X5 X5p.loc (by omega) (by omega) j6 (by decide) (by decide) (fun _ _ x => x.1.1) (by omega) (by rfl) (by rfl) (by rfl) fun B2 S2 D2 u2 b2 m2 r2 e2 x2 => ?_
    rw [show S1.2.2 = q + 753 + 6 * k by omega] at m2 r2 x2
    have c2 := b2.toF (F := x3F q) e2 (Or.inr (Or.inl rfl))
    have hb2 := hb1.go c2 (by omega)
    obtain ⟨k1, k2, k3, k4, k5, k6, k7⟩ := id hb2
    simp only [P_X0_init, i_kil, i_icon, i_lcon, i_null, i_loadI, i_loadL, i_loadR, i_istore, i_lstore, i_astore, i_iinc, i_dup, i_dup2, i_pop, i_iadd, i_isub, i_imul, i_idiv, i_irem, i_ineg, i_iand, i_ior, i_ishl, i_ishr, i_lxor, i_ladd, i_lsub, i_lmul, i_ldiv, i_lrem, i_lneg, i_lshl, i_lcmp, i_i2l, i_l2i, i_i2b, i_i2s, i_ifeq, i_ifne, i_iflt, i_ifge, i_ifgt, i_ifle, i_cmpeq, i_cmpne, i_cmplt, i_cmpge, i_cmpgt, i_cmple, i_acmpeq, i_acmpne, i_ifnull, i_ifnonnull, i_getI, i_getR, i_putI, i_putZ, i_putR, i_ald, i_ldL, i_ldR, i_ast, i_stL, i_alen, i_new, i_iret, i_zret, i_lret, i_aret, i_vret, i_raise, i_throw, i_recv, i_objinit, i_tsw3, lget, lset, lput1, lput2, lkil, ltrim, largs, isL, takev, dropv, nthv, pushO, catv, gd, true_and, and_true, Option.some.injEq, Prod.mk.injEq, exists_eq_left', if_true, if_false, reduceCtorEq, Bool.false_eq_true, lcmp_ge, lcmp_lt, lcmp_le, lcmp_gt, lcmp_eq, true_or, or_true, not_true_eq_false, not_false_eq_true, false_implies, true_implies, List.length_cons, List.length_nil, k1, k4]
    refine fldE (i := (k : Int)) mk_X5 X5p.loc (by omega) (by omega) k7 (by decide) (by decide) (fun _ _ x => x.1.1) (by omega) (by rfl) (by rfl) (by rfl) fun B3 S3 D3 u3 b3 m3 r3 e3 x3 => ?_
    rw [show S2.2.2 = q + 755 + 6 * k by omega] at m3 r3 x3
    have c3 := b3.toF (F := x3F q) e3 (Or.inr (Or.inr rfl))
    have hb3 := hb2.go c3 (by omega)
    have c := c1.tr (c2.tr c3)
    simp only [P_X0_init, i_kil, i_icon, i_lcon, i_null, i_loadI, i_loadL, i_loadR, i_istore, i_lstore, i_astore, i_iinc, i_dup, i_dup2, i_pop, i_iadd, i_isub, i_imul, i_idiv, i_irem, i_ineg, i_iand, i_ior, i_ishl, i_ishr, i_lxor, i_ladd, i_lsub, i_lmul, i_ldiv, i_lrem, i_lneg, i_lshl, i_lcmp, i_i2l, i_l2i, i_i2b, i_i2s, i_ifeq, i_ifne, i_iflt, i_ifge, i_ifgt, i_ifle, i_cmpeq, i_cmpne, i_cmplt, i_cmpge, i_cmpgt, i_cmple, i_acmpeq, i_acmpne, i_ifnull, i_ifnonnull, i_getI, i_getR, i_putI, i_putZ, i_putR, i_ald, i_ldL, i_ldR, i_ast, i_stL, i_stR, i_alen, i_new, i_newa, i_iret, i_zret, i_lret, i_aret, i_vret, i_raise, i_throw, i_recv, i_objinit, i_tsw3, lget, lset, lput1, lput2, lkil, ltrim, largs, isL, takev, dropv, nthv, pushO, catv, gd, true_and, and_true, Option.some.injEq, Prod.mk.injEq, exists_eq_left', if_true, if_false, reduceCtorEq, Bool.false_eq_true, lcmp_ge, lcmp_lt, lcmp_le, lcmp_gt, lcmp_eq, true_or, or_true, not_true_eq_false, not_false_eq_true, false_implies, true_implies, List.length_cons, List.length_nil]
    repeat (first | refine ⟨in_small (by omega) (by omega), ?_⟩ | (show (_ → _) ∧ (_ → _); first | refine ⟨by omega, fun _ => ?_⟩ | refine ⟨fun _ => ?_, by omega⟩) | refine ⟨by omega, ?_⟩ | refine ⟨⟨_, rfl, by assumption⟩, ?_⟩ | refine ⟨okT_I _, ?_⟩ | refine call0 (gd_of rfl) ?_)
    refine ih (k + 1) B3 S3 D3 (by omega) (by omega) hb3 (by omega) (fun j hj => ?_) fun B' S' D' u' b' => K B' S' D' (by omega) (c.tr b')
    have A1 : S3.2.1 (q + 707) j = S1.2.1 (q + 707) j := by rw [b3.2.2.1 _ _ (by omega) (by omega), b2.2.2.1 _ _ (by omega) (by omega)]
    have A2 : S3.2.1 (q + 709) j = S2.2.1 (q + 709) j := by rw [b3.2.2.1 _ _ (by omega) (by omega)]
    have A2' : S1.2.1 (q + 709) j = S.2.1 (q + 709) j := by rw [b1.2.2.1 _ _ (by omega) (by omega)]
    have A3 : S2.2.1 (q + 710) j = S.2.1 (q + 710) j := by rw [b2.2.2.1 _ _ (by omega) (by omega), b1.2.2.1 _ _ (by omega) (by omega)]
    rw [A1, r1, A2, r2, A2', r3, A3]
    by_cases hji : j = k
    · subst hji
      exact ⟨⟨if_pos rfl, X5p.loc.goF (c2.tr c3) (by omega) (by unfold x3F; omega) x1⟩, ⟨if_pos rfl, X5p.loc.goF c3 (by omega) (by unfold x3F; omega) x2⟩, if_pos rfl, x3⟩
    · obtain ⟨⟨z1, z2⟩, ⟨z3, z4⟩, z5, z6⟩ := he j (by omega)
      exact ⟨⟨by rw [if_neg (by omega)]; exact z1, X5p.loc.goF c (by omega) (by unfold x3F; omega) z2⟩, ⟨by rw [if_neg (by omega)]; exact z3, X5p.loc.goF c (by omega) (by unfold x3F; omega) z4⟩, by rw [if_neg (by omega)]; exact z5, X5p.loc.goF c (by omega) (by unfold x3F; omega) z6⟩
