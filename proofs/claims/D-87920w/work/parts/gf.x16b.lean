/-! the model: its loops, and the whole -/
-- needs: ge.x16
set_option maxRecDepth 100000
set_option linter.unusedVariables false
theorem x16_l1 {E : Ex} {q : Nat} : ∀ (L k : Nat) (B : Nat × Nat) (S : Stat) (D : Dat), k + L = 16 → 0 ≤ k → 244 * L ≤ B.1 ∧ 2224 * L ≤ B.2 → S.1 q = some (16, 0) → S.2.1 q 13 = some (q + 22) → S.1 (q + 22) = some (116, 16) → S.2.2 = q + 12195 + 244 * k → (∀ j : Nat, j < k → S.2.1 (q + 22) j = some (q + 12195 + 244 * j) ∧ X18p S D (q + 12195 + 244 * j)) →
    (∀ (B' : Nat × Nat) (S' : Stat) (D' : Dat), (B.1 ≤ B'.1 + 244 * L ∧ B.2 ≤ B'.2 + 2224 * L) → bF (fun a => a = q + 22) S S' D D' → S'.2.2 = q + 16099 → (∀ j : Nat, j < 16 → S'.2.1 (q + 22) j = some (q + 12195 + 244 * j) ∧ X18p S' D' (q + 12195 + 244 * j)) → Wp P_X16_init E 2 [some (aR q), some (aI 0)] [] B' S' D') → Wp P_X16_init E 1 [some (aR q), some (aI (k : Int))] [] B S D := by
  intro L
  induction L with
  | zero =>
    intro k B S D hk hk1 hb kq r4 k4 hn he K
    have : k = 16 := by omega
    subst this
    refine wp_in ?_
    simp only [P_X16_init, i_kil, i_icon, i_lcon, i_null, i_loadI, i_loadL, i_loadR, i_istore, i_lstore, i_astore, i_iinc, i_dup, i_dup2, i_pop, i_iadd, i_isub, i_imul, i_idiv, i_irem, i_ineg, i_iand, i_ior, i_ishl, i_ishr, i_lxor, i_ladd, i_lsub, i_lmul, i_ldiv, i_lrem, i_lneg, i_lshl, i_lcmp, i_i2l, i_l2i, i_i2b, i_i2s, i_ifeq, i_ifne, i_iflt, i_ifge, i_ifgt, i_ifle, i_cmpeq, i_cmpne, i_cmplt, i_cmpge, i_cmpgt, i_cmple, i_acmpeq, i_acmpne, i_ifnull, i_ifnonnull, i_getI, i_getR, i_putI, i_putZ, i_putR, i_ald, i_ldL, i_ldR, i_ast, i_stL, i_stR, i_alen, i_new, i_newa, i_iret, i_zret, i_lret, i_aret, i_vret, i_raise, i_throw, i_recv, i_objinit, i_tsw3, lget, lset, lput1, lput2, lkil, ltrim, largs, isL, takev, dropv, nthv, pushO, catv, gd, true_and, and_true, Option.some.injEq, Prod.mk.injEq, exists_eq_left', if_true, if_false, reduceCtorEq, Bool.false_eq_true, lcmp_ge, lcmp_lt, lcmp_le, lcmp_gt, lcmp_eq, true_or, or_true, not_true_eq_false, not_false_eq_true, false_implies, true_implies, List.length_cons, List.length_nil]
    exact ⟨fun _ => K _ _ _ (by omega) bF.rfl (by omega) he, fun q => absurd q (by decide)⟩
  | succ L ih =>
    intro k B S D hk hk1 hb kq r4 k4 hn he K
    refine wp_in ?_
    simp only [P_X16_init, i_kil, i_icon, i_lcon, i_null, i_loadI, i_loadL, i_loadR, i_istore, i_lstore, i_astore, i_iinc, i_dup, i_dup2, i_pop, i_iadd, i_isub, i_imul, i_idiv, i_irem, i_ineg, i_iand, i_ior, i_ishl, i_ishr, i_lxor, i_ladd, i_lsub, i_lmul, i_ldiv, i_lrem, i_lneg, i_lshl, i_lcmp, i_i2l, i_l2i, i_i2b, i_i2s, i_ifeq, i_ifne, i_iflt, i_ifge, i_ifgt, i_ifle, i_cmpeq, i_cmpne, i_cmplt, i_cmpge, i_cmpgt, i_cmple, i_acmpeq, i_acmpne, i_ifnull, i_ifnonnull, i_getI, i_getR, i_putI, i_putZ, i_putR, i_ald, i_ldL, i_ldR, i_ast, i_stL, i_alen, i_new, i_iret, i_zret, i_lret, i_aret, i_vret, i_raise, i_throw, i_recv, i_objinit, i_tsw3, lget, lset, lput1, lput2, lkil, ltrim, largs, isL, takev, dropv, nthv, pushO, catv, gd, true_and, and_true, Option.some.injEq, Prod.mk.injEq, exists_eq_left', if_true, if_false, reduceCtorEq, Bool.false_eq_true, lcmp_ge, lcmp_lt, lcmp_le, lcmp_gt, lcmp_eq, true_or, or_true, not_true_eq_false, not_false_eq_true, false_implies, true_implies, List.length_cons, List.length_nil, kq, r4, k4]
    refine ⟨fun q => by omega, fun _ => ?_⟩
    refine fldE (i := (k : Int)) mk_X18 X18p.loc (by omega) (by omega) k4 (by decide) (by simp only [List.mem_cons, true_or]) (fun _ _ x => x.1.1) (by omega) (by rfl) (by rfl) (by rfl) fun B10 S10 D10 u b m r e x => ?_
    rw [show S.2.2 = q + 12195 + 244 * k by omega] at m r x
    simp only [P_X16_init, i_kil, i_icon, i_lcon, i_null, i_loadI, i_loadL, i_loadR, i_istore, i_lstore, i_astore, i_iinc, i_dup, i_dup2, i_pop, i_iadd, i_isub, i_imul, i_idiv, i_irem, i_ineg, i_iand, i_ior, i_ishl, i_ishr, i_lxor, i_ladd, i_lsub, i_lmul, i_ldiv, i_lrem, i_lneg, i_lshl, i_lcmp, i_i2l, i_l2i, i_i2b, i_i2s, i_ifeq, i_ifne, i_iflt, i_ifge, i_ifgt, i_ifle, i_cmpeq, i_cmpne, i_cmplt, i_cmpge, i_cmpgt, i_cmple, i_acmpeq, i_acmpne, i_ifnull, i_ifnonnull, i_getI, i_getR, i_putI, i_putZ, i_putR, i_ald, i_ldL, i_ldR, i_ast, i_stL, i_stR, i_alen, i_new, i_newa, i_iret, i_zret, i_lret, i_aret, i_vret, i_raise, i_throw, i_recv, i_objinit, i_tsw3, lget, lset, lput1, lput2, lkil, ltrim, largs, isL, takev, dropv, nthv, pushO, catv, gd, true_and, and_true, Option.some.injEq, Prod.mk.injEq, exists_eq_left', if_true, if_false, reduceCtorEq, Bool.false_eq_true, lcmp_ge, lcmp_lt, lcmp_le, lcmp_gt, lcmp_eq, true_or, or_true, not_true_eq_false, not_false_eq_true, false_implies, true_implies, List.length_cons, List.length_nil]
    repeat (first | refine ⟨in_small (by omega) (by omega), ?_⟩ | (show (_ → _) ∧ (_ → _); first | refine ⟨by omega, fun _ => ?_⟩ | refine ⟨fun _ => ?_, by omega⟩) | refine ⟨by omega, ?_⟩ | refine ⟨⟨_, rfl, by assumption⟩, ?_⟩ | refine ⟨okT_I _, ?_⟩ | refine call0 (gd_of rfl) ?_)
    have b' : bF (fun a => a = q + 22) S S10 D D10 := b.toF e rfl
    refine ih (k + 1) B10 S10 D10 (by omega) (by omega) (by omega) (by rw [b.2.1 _ (by omega)]; exact kq) (by rw [b.2.2.1 _ _ (by omega) (by omega)]; exact r4) (by rw [b.2.1 _ (by omega)]; exact k4) (by omega) (fun j hj => ?_) fun B' S' D' u' b2 => K B' S' D' (by omega) (b'.tr b2)
    by_cases hji : j = k
    · subst hji
      exact ⟨by rw [r, if_pos rfl], x⟩
    · obtain ⟨x1, x2⟩ := he j (by omega)
      exact ⟨by rw [r, if_neg (by omega)]; exact x1, X18p.loc.go b (by omega) (by omega) x2⟩
theorem x16_l3 {E : Ex} {q : Nat} : ∀ (L k : Nat) (B : Nat × Nat) (S : Stat) (D : Dat), k + L = 35 → 0 ≤ k → 244 * L ≤ B.1 ∧ 2224 * L ≤ B.2 → S.1 q = some (16, 0) → S.2.1 q 58 = some (q + 10779) → S.1 (q + 10779) = some (116, 35) → S.2.2 = q + 19027 + 244 * k → (∀ j : Nat, j < k → S.2.1 (q + 10779) j = some (q + 19027 + 244 * j) ∧ X18p S D (q + 19027 + 244 * j)) →
    (∀ (B' : Nat × Nat) (S' : Stat) (D' : Dat), (B.1 ≤ B'.1 + 244 * L ∧ B.2 ≤ B'.2 + 2224 * L) → bF (fun a => a = q + 10779) S S' D D' → S'.2.2 = q + 27567 → (∀ j : Nat, j < 35 → S'.2.1 (q + 10779) j = some (q + 19027 + 244 * j) ∧ X18p S' D' (q + 19027 + 244 * j)) → E (.inl none) B' S' D') → Wp P_X16_init E 3 [some (aR q), some (aI (k : Int))] [] B S D := by
  intro L
  induction L with
  | zero =>
    intro k B S D hk hk1 hb kq r4 k4 hn he K
    have : k = 35 := by omega
    subst this
    refine wp_in ?_
    simp only [P_X16_init, i_kil, i_icon, i_lcon, i_null, i_loadI, i_loadL, i_loadR, i_istore, i_lstore, i_astore, i_iinc, i_dup, i_dup2, i_pop, i_iadd, i_isub, i_imul, i_idiv, i_irem, i_ineg, i_iand, i_ior, i_ishl, i_ishr, i_lxor, i_ladd, i_lsub, i_lmul, i_ldiv, i_lrem, i_lneg, i_lshl, i_lcmp, i_i2l, i_l2i, i_i2b, i_i2s, i_ifeq, i_ifne, i_iflt, i_ifge, i_ifgt, i_ifle, i_cmpeq, i_cmpne, i_cmplt, i_cmpge, i_cmpgt, i_cmple, i_acmpeq, i_acmpne, i_ifnull, i_ifnonnull, i_getI, i_getR, i_putI, i_putZ, i_putR, i_ald, i_ldL, i_ldR, i_ast, i_stL, i_stR, i_alen, i_new, i_newa, i_iret, i_zret, i_lret, i_aret, i_vret, i_raise, i_throw, i_recv, i_objinit, i_tsw3, lget, lset, lput1, lput2, lkil, ltrim, largs, isL, takev, dropv, nthv, pushO, catv, gd, true_and, and_true, Option.some.injEq, Prod.mk.injEq, exists_eq_left', if_true, if_false, reduceCtorEq, Bool.false_eq_true, lcmp_ge, lcmp_lt, lcmp_le, lcmp_gt, lcmp_eq, true_or, or_true, not_true_eq_false, not_false_eq_true, false_implies, true_implies, List.length_cons, List.length_nil]
    exact ⟨fun _ => K _ _ _ (by omega) bF.rfl (by omega) he, fun q => absurd q (by decide)⟩
  | succ L ih =>
    intro k B S D hk hk1 hb kq r4 k4 hn he K
    refine wp_in ?_
    simp only [P_X16_init, i_kil, i_icon, i_lcon, i_null, i_loadI, i_loadL, i_loadR, i_istore, i_lstore, i_astore, i_iinc, i_dup, i_dup2, i_pop, i_iadd, i_isub, i_imul, i_idiv, i_irem, i_ineg, i_iand, i_ior, i_ishl, i_ishr, i_lxor, i_ladd, i_lsub, i_lmul, i_ldiv, i_lrem, i_lneg, i_lshl, i_lcmp, i_i2l, i_l2i, i_i2b, i_i2s, i_ifeq, i_ifne, i_iflt, i_ifge, i_ifgt, i_ifle, i_cmpeq, i_cmpne, i_cmplt, i_cmpge, i_cmpgt, i_cmple, i_acmpeq, i_acmpne, i_ifnull, i_ifnonnull, i_getI, i_getR, i_putI, i_putZ, i_putR, i_ald, i_ldL, i_ldR, i_ast, i_stL, i_alen, i_new, i_iret, i_zret, i_lret, i_aret, i_vret, i_raise, i_throw, i_recv, i_objinit, i_tsw3, lget, lset, lput1, lput2, lkil, ltrim, largs, isL, takev, dropv, nthv, pushO, catv, gd, true_and, and_true, Option.some.injEq, Prod.mk.injEq, exists_eq_left', if_true, if_false, reduceCtorEq, Bool.false_eq_true, lcmp_ge, lcmp_lt, lcmp_le, lcmp_gt, lcmp_eq, true_or, or_true, not_true_eq_false, not_false_eq_true, false_implies, true_implies, List.length_cons, List.length_nil, kq, r4, k4]
    refine ⟨fun q => by omega, fun _ => ?_⟩
    refine fldE (i := (k : Int)) mk_X18 X18p.loc (by omega) (by omega) k4 (by decide) (by simp only [List.mem_cons, true_or]) (fun _ _ x => x.1.1) (by omega) (by rfl) (by rfl) (by rfl) fun B10 S10 D10 u b m r e x => ?_
    rw [show S.2.2 = q + 19027 + 244 * k by omega] at m r x
    simp only [P_X16_init, i_kil, i_icon, i_lcon, i_null, i_loadI, i_loadL, i_loadR, i_istore, i_lstore, i_astore, i_iinc, i_dup, i_dup2, i_pop, i_iadd, i_isub, i_imul, i_idiv, i_irem, i_ineg, i_iand, i_ior, i_ishl, i_ishr, i_lxor, i_ladd, i_lsub, i_lmul, i_ldiv, i_lrem, i_lneg, i_lshl, i_lcmp, i_i2l, i_l2i, i_i2b, i_i2s, i_ifeq, i_ifne, i_iflt, i_ifge, i_ifgt, i_ifle, i_cmpeq, i_cmpne, i_cmplt, i_cmpge, i_cmpgt, i_cmple, i_acmpeq, i_acmpne, i_ifnull, i_ifnonnull, i_getI, i_getR, i_putI, i_putZ, i_putR, i_ald, i_ldL, i_ldR, i_ast, i_stL, i_stR, i_alen, i_new, i_newa, i_iret, i_zret, i_lret, i_aret, i_vret, i_raise, i_throw, i_recv, i_objinit, i_tsw3, lget, lset, lput1, lput2, lkil, ltrim, largs, isL, takev, dropv, nthv, pushO, catv, gd, true_and, and_true, Option.some.injEq, Prod.mk.injEq, exists_eq_left', if_true, if_false, reduceCtorEq, Bool.false_eq_true, lcmp_ge, lcmp_lt, lcmp_le, lcmp_gt, lcmp_eq, true_or, or_true, not_true_eq_false, not_false_eq_true, false_implies, true_implies, List.length_cons, List.length_nil]
    repeat (first | refine ⟨in_small (by omega) (by omega), ?_⟩ | (show (_ → _) ∧ (_ → _); first | refine ⟨by omega, fun _ => ?_⟩ | refine ⟨fun _ => ?_, by omega⟩) | refine ⟨by omega, ?_⟩ | refine ⟨⟨_, rfl, by assumption⟩, ?_⟩ | refine ⟨okT_I _, ?_⟩ | refine call0 (gd_of rfl) ?_)
    have b' : bF (fun a => a = q + 10779) S S10 D D10 := b.toF e rfl
    refine ih (k + 1) B10 S10 D10 (by omega) (by omega) (by omega) (by rw [b.2.1 _ (by omega)]; exact kq) (by rw [b.2.2.1 _ _ (by omega) (by omega)]; exact r4) (by rw [b.2.1 _ (by omega)]; exact k4) (by omega) (fun j hj => ?_) fun B' S' D' u' b2 => K B' S' D' (by omega) (b'.tr b2)
    by_cases hji : j = k
    · subst hji
      exact ⟨by rw [r, if_pos rfl], x⟩
    · obtain ⟨x1, x2⟩ := he j (by omega)
      exact ⟨by rw [r, if_neg (by omega)]; exact x1, X18p.loc.go b (by omega) (by omega) x2⟩
def x2F (q a : Nat) : Prop := a = q + 78 ∨ a = q + 79
def x2B (S : Stat) (q : Nat) : Prop := S.1 q = some (16, 0) ∧ S.2.1 q 22 = some (q + 78) ∧ S.2.1 q 24 = some (q + 79) ∧ S.1 (q + 78) = some (116, 6) ∧ S.1 (q + 79) = some (116, 6)
theorem x2B.go {S S' : Stat} {D D' : Dat} {q : Nat} (h : x2B S q) (b : bF (x2F q) S S' D D') (hn : q + 16099 ≤ S.2.2) : x2B S' q := by
  obtain ⟨h1, h2, h3, h4, h5⟩ := h
  have e : ∀ i, S'.2.1 q i = S.2.1 q i := fun i => b.2.2.1 q i (by omega) (by unfold x2F; omega)
  exact ⟨by rw [b.2.1 _ (by omega)]; exact h1, by rw [e]; exact h2, by rw [e]; exact h3, by rw [b.2.1 _ (by omega)]; exact h4, by rw [b.2.1 _ (by omega)]; exact h5⟩
def x2E (S : Stat) (D : Dat) (q k : Nat) : Prop := ∀ j : Nat, j < k → (S.2.1 (q + 78) j = some (q + 16099 + 488 * j) ∧ X18p S D (q + 16099 + 488 * j)) ∧ S.2.1 (q + 79) j = some (q + 16343 + 488 * j) ∧ X18p S D (q + 16343 + 488 * j)
theorem x16_l2 {E : Ex} {q : Nat} : ∀ (L k : Nat) (B : Nat × Nat) (S : Stat) (D : Dat), k + L = 6 → 488 * L ≤ B.1 ∧ 4448 * L ≤ B.2 → x2B S q → S.2.2 = q + 16099 + 488 * k → x2E S D q k →
    (∀ (B' : Nat × Nat) (S' : Stat) (D' : Dat), (B.1 ≤ B'.1 + 488 * L ∧ B.2 ≤ B'.2 + 4448 * L) → bF (x2F q) S S' D D' → S'.2.2 = q + 19027 → x2E S' D' q 6 → Wp P_X16_init E 3 [some (aR q), some (aI 0)] [] B' S' D') → Wp P_X16_init E 2 [some (aR q), some (aI (k : Int))] [] B S D := by
  intro L
  induction L with
  | zero =>
    intro k B S D hk hb h hn he K
    have : k = 6 := by omega
    subst this
    refine wp_in ?_
    simp only [P_X16_init, i_kil, i_icon, i_lcon, i_null, i_loadI, i_loadL, i_loadR, i_istore, i_lstore, i_astore, i_iinc, i_dup, i_dup2, i_pop, i_iadd, i_isub, i_imul, i_idiv, i_irem, i_ineg, i_iand, i_ior, i_ishl, i_ishr, i_lxor, i_ladd, i_lsub, i_lmul, i_ldiv, i_lrem, i_lneg, i_lshl, i_lcmp, i_i2l, i_l2i, i_i2b, i_i2s, i_ifeq, i_ifne, i_iflt, i_ifge, i_ifgt, i_ifle, i_cmpeq, i_cmpne, i_cmplt, i_cmpge, i_cmpgt, i_cmple, i_acmpeq, i_acmpne, i_ifnull, i_ifnonnull, i_getI, i_getR, i_putI, i_putZ, i_putR, i_ald, i_ldL, i_ldR, i_ast, i_stL, i_stR, i_alen, i_new, i_newa, i_iret, i_zret, i_lret, i_aret, i_vret, i_raise, i_throw, i_recv, i_objinit, i_tsw3, lget, lset, lput1, lput2, lkil, ltrim, largs, isL, takev, dropv, nthv, pushO, catv, gd, true_and, and_true, Option.some.injEq, Prod.mk.injEq, exists_eq_left', if_true, if_false, reduceCtorEq, Bool.false_eq_true, lcmp_ge, lcmp_lt, lcmp_le, lcmp_gt, lcmp_eq, true_or, or_true, not_true_eq_false, not_false_eq_true, false_implies, true_implies, List.length_cons, List.length_nil]
    exact ⟨fun _ => K _ _ _ (by omega) bF.rfl (by omega) he, fun q => absurd q (by decide)⟩
  | succ L ih =>
    intro k B S D hk hb h hn he K
    refine wp_in ?_
    obtain ⟨h1, h2, h3, h4, h5⟩ := id h
    simp only [P_X16_init, i_kil, i_icon, i_lcon, i_null, i_loadI, i_loadL, i_loadR, i_istore, i_lstore, i_astore, i_iinc, i_dup, i_dup2, i_pop, i_iadd, i_isub, i_imul, i_idiv, i_irem, i_ineg, i_iand, i_ior, i_ishl, i_ishr, i_lxor, i_ladd, i_lsub, i_lmul, i_ldiv, i_lrem, i_lneg, i_lshl, i_lcmp, i_i2l, i_l2i, i_i2b, i_i2s, i_ifeq, i_ifne, i_iflt, i_ifge, i_ifgt, i_ifle, i_cmpeq, i_cmpne, i_cmplt, i_cmpge, i_cmpgt, i_cmple, i_acmpeq, i_acmpne, i_ifnull, i_ifnonnull, i_getI, i_getR, i_putI, i_putZ, i_putR, i_ald, i_ldL, i_ldR, i_ast, i_stL, i_alen, i_new, i_iret, i_zret, i_lret, i_aret, i_vret, i_raise, i_throw, i_recv, i_objinit, i_tsw3, lget, lset, lput1, lput2, lkil, ltrim, largs, isL, takev, dropv, nthv, pushO, catv, gd, true_and, and_true, Option.some.injEq, Prod.mk.injEq, exists_eq_left', if_true, if_false, reduceCtorEq, Bool.false_eq_true, lcmp_ge, lcmp_lt, lcmp_le, lcmp_gt, lcmp_eq, true_or, or_true, not_true_eq_false, not_false_eq_true, false_implies, true_implies, List.length_cons, List.length_nil, h1, h2]
    refine ⟨fun q => by omega, fun _ => ?_⟩
    refine fldE (i := (k : Int)) mk_X18 X18p.loc (by omega) (by omega) h4 (by decide) (by decide) (fun _ _ x => x.1.1) (by omega) (by rfl) (by rfl) (by rfl) fun B1 S1 D1 u1 b1 m1 r1 e1 x1 => ?_
    rw [hn] at m1 r1 x1
    have c1 := b1.toF (F := x2F q) e1 (Or.inl rfl)
    have hb1 := h.go c1 (by omega)
    obtain ⟨j1, j2, j3, j4, j5⟩ := id hb1
    simp only [P_X16_init, i_kil, i_icon, i_lcon, i_null, i_loadI, i_loadL, i_loadR, i_istore, i_lstore, i_astore, i_iinc, i_dup, i_dup2, i_pop, i_iadd, i_isub, i_imul, i_idiv, i_irem, i_ineg, i_iand, i_ior, i_ishl, i_ishr, i_lxor, i_ladd, i_lsub, i_lmul, i_ldiv, i_lrem, i_lneg, i_lshl, i_lcmp, i_i2l, i_l2i, i_i2b, i_i2s, i_ifeq, i_ifne, i_iflt, i_ifge, i_ifgt, i_ifle, i_cmpeq, i_cmpne, i_cmplt, i_cmpge, i_cmpgt, i_cmple, i_acmpeq, i_acmpne, i_ifnull, i_ifnonnull, i_getI, i_getR, i_putI, i_putZ, i_putR, i_ald, i_ldL, i_ldR, i_ast, i_stL, i_alen, i_new, i_iret, i_zret, i_lret, i_aret, i_vret, i_raise, i_throw, i_recv, i_objinit, i_tsw3, lget, lset, lput1, lput2, lkil, ltrim, largs, isL, takev, dropv, nthv, pushO, catv, gd, true_and, and_true, Option.some.injEq, Prod.mk.injEq, exists_eq_left', if_true, if_false, reduceCtorEq, Bool.false_eq_true, lcmp_ge, lcmp_lt, lcmp_le, lcmp_gt, lcmp_eq, true_or, or_true, not_true_eq_false, not_false_eq_true, false_implies, true_implies, List.length_cons, List.length_nil, j1, j3]
    refine fldE (i := (k : Int)) mk_X18 X18p.loc (by omega) (by omega) j5 (by decide) (by decide) (fun _ _ x => x.1.1) (by omega) (by rfl) (by rfl) (by rfl) fun B2 S2 D2 u2 b2 m2 r2 e2 x2 => ?_
    rw [show S1.2.2 = q + 16343 + 488 * k by omega] at m2 r2 x2
    have c2 := b2.toF (F := x2F q) e2 (Or.inr rfl)
    have hb2 := hb1.go c2 (by omega)
    have c := c1.tr c2
    simp only [P_X16_init, i_kil, i_icon, i_lcon, i_null, i_loadI, i_loadL, i_loadR, i_istore, i_lstore, i_astore, i_iinc, i_dup, i_dup2, i_pop, i_iadd, i_isub, i_imul, i_idiv, i_irem, i_ineg, i_iand, i_ior, i_ishl, i_ishr, i_lxor, i_ladd, i_lsub, i_lmul, i_ldiv, i_lrem, i_lneg, i_lshl, i_lcmp, i_i2l, i_l2i, i_i2b, i_i2s, i_ifeq, i_ifne, i_iflt, i_ifge, i_ifgt, i_ifle, i_cmpeq, i_cmpne, i_cmplt, i_cmpge, i_cmpgt, i_cmple, i_acmpeq, i_acmpne, i_ifnull, i_ifnonnull, i_getI, i_getR, i_putI, i_putZ, i_putR, i_ald, i_ldL, i_ldR, i_ast, i_stL, i_stR, i_alen, i_new, i_newa, i_iret, i_zret, i_lret, i_aret, i_vret, i_raise, i_throw, i_recv, i_objinit, i_tsw3, lget, lset, lput1, lput2, lkil, ltrim, largs, isL, takev, dropv, nthv, pushO, catv, gd, true_and, and_true, Option.some.injEq, Prod.mk.injEq, exists_eq_left', if_true, if_false, reduceCtorEq, Bool.false_eq_true, lcmp_ge, lcmp_lt, lcmp_le, lcmp_gt, lcmp_eq, true_or, or_true, not_true_eq_false, not_false_eq_true, false_implies, true_implies, List.length_cons, List.length_nil]
    repeat (first | refine ⟨in_small (by omega) (by omega), ?_⟩ | (show (_ → _) ∧ (_ → _); first | refine ⟨by omega, fun _ => ?_⟩ | refine ⟨fun _ => ?_, by omega⟩) | refine ⟨by omega, ?_⟩ | refine ⟨⟨_, rfl, by assumption⟩, ?_⟩ | refine ⟨okT_I _, ?_⟩ | refine call0 (gd_of rfl) ?_)
    refine ih (k + 1) B2 S2 D2 (by omega) (by omega) hb2 (by omega) (fun j hj => ?_) fun B' S' D' u' b' => K B' S' D' (by omega) (c.tr b')
    have A1 : S2.2.1 (q + 78) j = S1.2.1 (q + 78) j := by rw [b2.2.2.1 _ _ (by omega) (by omega)]
    have A2 : S1.2.1 (q + 79) j = S.2.1 (q + 79) j := by rw [b1.2.2.1 _ _ (by omega) (by omega)]
    rw [A1, r1, r2, A2]
    by_cases hji : j = k
    · subst hji
      exact ⟨⟨if_pos rfl, X18p.loc.goF c2 (by omega) (by unfold x2F; omega) x1⟩, if_pos rfl, x2⟩
    · obtain ⟨⟨z1, z2⟩, z3, z4⟩ := he j (by omega)
      exact ⟨⟨by rw [if_neg (by omega)]; exact z1, X18p.loc.goF c (by omega) (by unfold x2F; omega) z2⟩, by rw [if_neg (by omega)]; exact z3, X18p.loc.goF c (by omega) (by unfold x2F; omega) z4⟩
def x16G (q a : Nat) : Prop := a = q + 22 ∨ x2F q a ∨ a = q + 10779
theorem x16G_ge {q a : Nat} (h : x16G q a) : q + 1 ≤ a := by unfold x16G x2F at h; omega
theorem x16_fin {q : Nat} {S S1 S2 S3 : Stat} {D D1 D2 D3 : Dat} (h : x16W S D q) (c1 : bF (fun a => a = q + 22) S S1 D D1) (c2 : bF (x2F q) S1 S2 D1 D2) (c3 : bF (fun a => a = q + 10779) S2 S3 D2 D3) (n1 : S1.2.2 = q + 16099) (n2 : S2.2.2 = q + 19027) (e1 : ∀ j : Nat, j < 16 → S1.2.1 (q + 22) j = some (q + 12195 + 244 * j) ∧ X18p S1 D1 (q + 12195 + 244 * j)) (e2 : x2E S2 D2 q 6) (e3 : ∀ j : Nat, j < 35 → S3.2.1 (q + 10779) j = some (q + 19027 + 244 * j) ∧ X18p S3 D3 (q + 19027 + 244 * j)) : moI S3 D3 q s0 := by
  have c : bF (x16G q) S S3 D D3 := (c1.mono fun a h => Or.inl h).tr ((c2.mono fun a h => Or.inr (Or.inl h)).tr (c3.mono fun a h => Or.inr (Or.inr h)))
  have d2 : bF (x16G q) S1 S3 D1 D3 := (c2.mono fun a h => Or.inr (Or.inl h)).tr (c3.mono fun a h => Or.inr (Or.inr h))
  obtain ⟨o, n, r, d, y1, y2, y3, y4, y5, y7, y9, y11, y13, y15, y17, y19, y21, y22, y23, y24, y25, y42, y43, y76, y77, y78, y79, y80, y324, y568, y2393, y4218, y4219, y4220, y4221, y4223, y4225, y4226, y4227, y4228, y4230, y4232, y5697, y5698, y5699, y5700, y5701, y10778, y10779, y10780, y10781, y10783, y10785, y10787, y10789, y10790, y10791, y10793, y10795, y11240, y11241, y11278, y11295, y11296, y11297, y11299, y11301, y11303, y11305, y11307, y11308, y12109, y12110, y12117, y12119, y12121, y12158⟩ := h
  have o' : S3.1 q = some (16, 0) := by rw [c.2.1 q (by omega)]; exact o
  have r' : ∀ i, S3.2.1 q i = x16R q i := fun i => by rw [c.2.2.1 q i (by omega) (by unfold x16G x2F; omega)]; exact r i
  have z : ∀ i, D3 q i = if i = 38 then -1 else 0 := fun i => by rw [c.2.2.2 q i (by omega)]; exact d i
  have e1' : ∀ j : Nat, j < 16 → S3.2.1 (q + 22) j = some (q + 12195 + 244 * j) ∧ X18p S3 D3 (q + 12195 + 244 * j) := fun j j2 => ⟨by rw [((c2.mono (G := fun a => x2F q a ∨ a = q + 10779) fun a h => Or.inl h).tr (c3.mono fun a h => Or.inr h)).2.2.1 (q + 22) _ (by omega) (by unfold x2F; omega)]; exact (e1 j j2).1, X18p.loc.goF d2 (by omega) (by unfold x16G x2F; omega) (e1 j j2).2⟩
  have e2' : x2E S3 D3 q 6 := fun j hj => ⟨⟨by rw [c3.2.2.1 _ _ (by omega) (by omega)]; exact (e2 j hj).1.1, X18p.loc.goF c3 (by omega) (by omega) (e2 j hj).1.2⟩, by rw [c3.2.2.1 _ _ (by omega) (by omega)]; exact (e2 j hj).2.1, X18p.loc.goF c3 (by omega) (by omega) (e2 j hj).2.2⟩
  have f0 : S3.2.1 q 0 = some (q + 1) := r' 0
  have f1 : S3.2.1 q 1 = some (q + 2) := r' 1
  have f2 : S3.2.1 q 2 = some (q + 3) := r' 2
  have f3 : S3.2.1 q 3 = some (q + 4) := r' 3
  have f4 : S3.2.1 q 4 = some (q + 5) := r' 4
  have f5 : S3.2.1 q 5 = some (q + 7) := r' 5
  have f6 : S3.2.1 q 6 = some (q + 9) := r' 6
  have f7 : S3.2.1 q 7 = some (q + 11) := r' 7
  have f8 : S3.2.1 q 8 = some (q + 13) := r' 8
  have f9 : S3.2.1 q 9 = some (q + 15) := r' 9
  have f10 : S3.2.1 q 10 = some (q + 17) := r' 10
  have f11 : S3.2.1 q 11 = some (q + 19) := r' 11
  have f12 : S3.2.1 q 12 = some (q + 21) := r' 12
  have f13 : S3.2.1 q 13 = some (q + 22) := r' 13
  have f14 : S3.2.1 q 14 = some (q + 23) := r' 14
  have f15 : S3.2.1 q 15 = some (q + 24) := r' 15
  have f16 : S3.2.1 q 16 = some (q + 25) := r' 16
  have f17 : S3.2.1 q 17 = some (q + 42) := r' 17
  have f18 : S3.2.1 q 18 = some (q + 43) := r' 18
  have f19 : S3.2.1 q 19 = some (q + 76) := r' 19
  have f21 : S3.2.1 q 21 = some (q + 77) := r' 21
  have f22 : S3.2.1 q 22 = some (q + 78) := r' 22
  have f24 : S3.2.1 q 24 = some (q + 79) := r' 24
  have f26 : S3.2.1 q 26 = some (q + 80) := r' 26
  have f28 : S3.2.1 q 28 = some (q + 324) := r' 28
  have f29 : S3.2.1 q 29 = some (q + 568) := r' 29
  have f30 : S3.2.1 q 30 = some (q + 2393) := r' 30
  have f32 : S3.2.1 q 32 = some (q + 4218) := r' 32
  have f33 : S3.2.1 q 33 = some (q + 4219) := r' 33
  have f34 : S3.2.1 q 34 = some (q + 4220) := r' 34
  have f35 : S3.2.1 q 35 = some (q + 4221) := r' 35
  have f36 : S3.2.1 q 36 = some (q + 4223) := r' 36
  have f37 : S3.2.1 q 37 = some (q + 4225) := r' 37
  have f39 : S3.2.1 q 39 = some (q + 4226) := r' 39
  have f40 : S3.2.1 q 40 = some (q + 4227) := r' 40
  have f41 : S3.2.1 q 41 = some (q + 4228) := r' 41
  have f42 : S3.2.1 q 42 = some (q + 4230) := r' 42
  have f43 : S3.2.1 q 43 = some (q + 4232) := r' 43
  have f50 : S3.2.1 q 50 = some (q + 5697) := r' 50
  have f51 : S3.2.1 q 51 = some (q + 5698) := r' 51
  have f53 : S3.2.1 q 53 = some (q + 5699) := r' 53
  have f54 : S3.2.1 q 54 = some (q + 5700) := r' 54
  have f55 : S3.2.1 q 55 = some (q + 5701) := r' 55
  have f56 : S3.2.1 q 56 = some (q + 10778) := r' 56
  have f58 : S3.2.1 q 58 = some (q + 10779) := r' 58
  have f59 : S3.2.1 q 59 = some (q + 10780) := r' 59
  have f60 : S3.2.1 q 60 = some (q + 10781) := r' 60
  have f61 : S3.2.1 q 61 = some (q + 10783) := r' 61
  have f62 : S3.2.1 q 62 = some (q + 10785) := r' 62
  have f63 : S3.2.1 q 63 = some (q + 10787) := r' 63
  have f64 : S3.2.1 q 64 = some (q + 10789) := r' 64
  have f65 : S3.2.1 q 65 = some (q + 10790) := r' 65
  have f66 : S3.2.1 q 66 = some (q + 10791) := r' 66
  have f67 : S3.2.1 q 67 = some (q + 10793) := r' 67
  have f68 : S3.2.1 q 68 = some (q + 10795) := r' 68
  have f69 : S3.2.1 q 69 = some (q + 11240) := r' 69
  have f71 : S3.2.1 q 71 = some (q + 11241) := r' 71
  have f73 : S3.2.1 q 73 = some (q + 11278) := r' 73
  have f74 : S3.2.1 q 74 = some (q + 11295) := r' 74
  have f75 : S3.2.1 q 75 = some (q + 11296) := r' 75
  have f78 : S3.2.1 q 78 = some (q + 11297) := r' 78
  have f79 : S3.2.1 q 79 = some (q + 11299) := r' 79
  have f80 : S3.2.1 q 80 = some (q + 11301) := r' 80
  have f81 : S3.2.1 q 81 = some (q + 11303) := r' 81
  have f82 : S3.2.1 q 82 = some (q + 11305) := r' 82
  have f83 : S3.2.1 q 83 = some (q + 11307) := r' 83
  have f85 : S3.2.1 q 85 = some (q + 11308) := r' 85
  have f86 : S3.2.1 q 86 = some (q + 12109) := r' 86
  have f87 : S3.2.1 q 87 = some (q + 12110) := r' 87
  have f88 : S3.2.1 q 88 = some (q + 12117) := r' 88
  have f89 : S3.2.1 q 89 = some (q + 12119) := r' 89
  have f90 : S3.2.1 q 90 = some (q + 12121) := r' 90
  have f91 : S3.2.1 q 91 = some (q + 12158) := r' 91
  have w1 := (X0a.loc 100 264).goF c (by omega) (by unfold x16G x2F; omega) y1
  have w2 := (X0a.loc 100 266).goF c (by omega) (by unfold x16G x2F; omega) y2
  have w3 := (X0a.loc 100 266).goF c (by omega) (by unfold x16G x2F; omega) y3
  have w4 := (X0a.loc 100 266).goF c (by omega) (by unfold x16G x2F; omega) y4
  have w5 := (X17n.loc 264).goF c (by omega) (by unfold x16G x2F; omega) y5
  have w7 := (X17n.loc 264).goF c (by omega) (by unfold x16G x2F; omega) y7
  have w9 := (X17n.loc 264).goF c (by omega) (by unfold x16G x2F; omega) y9
  have w11 := (X17n.loc 260).goF c (by omega) (by unfold x16G x2F; omega) y11
  have w13 := (X17n.loc 260).goF c (by omega) (by unfold x16G x2F; omega) y13
  have w15 := (X17n.loc 260).goF c (by omega) (by unfold x16G x2F; omega) y15
  have w17 := (X17n.loc 260).goF c (by omega) (by unfold x16G x2F; omega) y17
  have w19 := (X17n.loc 260).goF c (by omega) (by unfold x16G x2F; omega) y19
  have w21 := (X0a.loc 100 16).goF c (by omega) (by unfold x16G x2F; omega) y21
  have k22 : S3.1 (q + 22) = _ := (c.2.1 (q + 22) (by omega)).trans y22.1
  have w23 := (X0a.loc 100 16).goF c (by omega) (by unfold x16G x2F; omega) y23
  have w24 := (X0a.loc 100 16).goF c (by omega) (by unfold x16G x2F; omega) y24
  have w25 := (X0m.loc 117 104 16 9).goF c (by omega) (by unfold x16G x2F; omega) y25
  have w42 := (X0a.loc 100 16).goF c (by omega) (by unfold x16G x2F; omega) y42
  have w43 := (nmX.loc 16 130).goF c (by omega) (by unfold x16G x2F; omega) y43
  have w76 := (X0a.loc 100 16).goF c (by omega) (by unfold x16G x2F; omega) y76
  have w77 := (X0a.loc 100 8).goF c (by omega) (by unfold x16G x2F; omega) y77
  have k78 : S3.1 (q + 78) = _ := (c.2.1 (q + 78) (by omega)).trans y78.1
  have k79 : S3.1 (q + 79) = _ := (c.2.1 (q + 79) (by omega)).trans y79.1
  have w80 := X18p.loc.goF c (by omega) (by unfold x16G x2F; omega) y80
  have w324 := X18p.loc.goF c (by omega) (by unfold x16G x2F; omega) y324
  have w568 := X19s.loc.goF c (by omega) (by unfold x16G x2F; omega) y568
  have w2393 := X19s.loc.goF c (by omega) (by unfold x16G x2F; omega) y2393
  have w4218 := (X0a.loc 100 4).goF c (by omega) (by unfold x16G x2F; omega) y4218
  have w4219 := (X0a.loc 100 48).goF c (by omega) (by unfold x16G x2F; omega) y4219
  have w4220 := (X0a.loc 100 48).goF c (by omega) (by unfold x16G x2F; omega) y4220
  have w4221 := (X17n.loc 260).goF c (by omega) (by unfold x16G x2F; omega) y4221
  have w4223 := (X17n.loc 260).goF c (by omega) (by unfold x16G x2F; omega) y4223
  have w4225 := (X0a.loc 101 20000).goF c (by omega) (by unfold x16G x2F; omega) y4225
  have w4226 := (X0a.loc 103 60).goF c (by omega) (by unfold x16G x2F; omega) y4226
  have w4227 := (X0a.loc 100 35).goF c (by omega) (by unfold x16G x2F; omega) y4227
  have w4228 := (X17n.loc 260).goF c (by omega) (by unfold x16G x2F; omega) y4228
  have w4230 := (X17n.loc 260).goF c (by omega) (by unfold x16G x2F; omega) y4230
  have w4232 := ptX.loc.goF c (by omega) (by unfold x16G x2F; omega) y4232
  have w5697 := (X0a.loc 100 35).goF c (by omega) (by unfold x16G x2F; omega) y5697
  have w5698 := (X0a.loc 100 4096).goF c (by omega) (by unfold x16G x2F; omega) y5698
  have w5699 := (X0a.loc 100 35).goF c (by omega) (by unfold x16G x2F; omega) y5699
  have w5700 := (X0a.loc 100 35).goF c (by omega) (by unfold x16G x2F; omega) y5700
  have w5701 := (rwX.loc 36).goF c (by omega) (by unfold x16G x2F; omega) y5701
  have w10778 := (X0a.loc 100 36).goF c (by omega) (by unfold x16G x2F; omega) y10778
  have k10779 : S3.1 (q + 10779) = _ := (c.2.1 (q + 10779) (by omega)).trans y10779.1
  have w10780 := (X0a.loc 100 35).goF c (by omega) (by unfold x16G x2F; omega) y10780
  have w10781 := (X17n.loc 260).goF c (by omega) (by unfold x16G x2F; omega) y10781
  have w10783 := (X17n.loc 260).goF c (by omega) (by unfold x16G x2F; omega) y10783
  have w10785 := (X17n.loc 260).goF c (by omega) (by unfold x16G x2F; omega) y10785
  have w10787 := (X17n.loc 260).goF c (by omega) (by unfold x16G x2F; omega) y10787
  have w10789 := (X0a.loc 116 35).goF c (by omega) (by unfold x16G x2F; omega) y10789
  have w10790 := (X0a.loc 100 35).goF c (by omega) (by unfold x16G x2F; omega) y10790
  have w10791 := (X17n.loc 260).goF c (by omega) (by unfold x16G x2F; omega) y10791
  have w10793 := (X17n.loc 260).goF c (by omega) (by unfold x16G x2F; omega) y10793
  have w10795 := chX.loc.goF c (by omega) (by unfold x16G x2F; omega) y10795
  have w11240 := (X0a.loc 100 12).goF c (by omega) (by unfold x16G x2F; omega) y11240
  have w11241 := (nmX.loc 18 260).goF c (by omega) (by unfold x16G x2F; omega) y11241
  have w11278 := (nmX.loc 8 130).goF c (by omega) (by unfold x16G x2F; omega) y11278
  have w11295 := (X0a.loc 100 8).goF c (by omega) (by unfold x16G x2F; omega) y11295
  have w11296 := (X0a.loc 104 9).goF c (by omega) (by unfold x16G x2F; omega) y11296
  have w11297 := (X17n.loc 4).goF c (by omega) (by unfold x16G x2F; omega) y11297
  have w11299 := (X17n.loc 260).goF c (by omega) (by unfold x16G x2F; omega) y11299
  have w11301 := (X17n.loc 260).goF c (by omega) (by unfold x16G x2F; omega) y11301
  have w11303 := (X17n.loc 260).goF c (by omega) (by unfold x16G x2F; omega) y11303
  have w11305 := (X17n.loc 260).goF c (by omega) (by unfold x16G x2F; omega) y11305
  have w11307 := (X0a.loc 104 9).goF c (by omega) (by unfold x16G x2F; omega) y11307
  have w11308 := (nmX.loc 400 20).goF c (by omega) (by unfold x16G x2F; omega) y11308
  have w12109 := (X0a.loc 100 400).goF c (by omega) (by unfold x16G x2F; omega) y12109
  have w12110 := (nmX.loc 3 130).goF c (by omega) (by unfold x16G x2F; omega) y12110
  have w12117 := (X17n.loc 130).goF c (by omega) (by unfold x16G x2F; omega) y12117
  have w12119 := (X17n.loc 130).goF c (by omega) (by unfold x16G x2F; omega) y12119
  have w12121 := (nmX.loc 18 4).goF c (by omega) (by unfold x16G x2F; omega) y12121
  have w12158 := (nmX.loc 18 4).goF c (by omega) (by unfold x16G x2F; omega) y12158
  clear d r c c1 c2 c3 d2 n n1 n2 e1 e2 o
  have hm : mS S3 q := ⟨o', f0, w1.1, f1, w2.1, f2, w3.1, f3, w4.1, f4, w5.1, f5, w7.1, f6, w9.1, f7, w11.1, f8, w13.1, f9, w15.1⟩
  have hg : mgS S3 q := ⟨hm, f10, w17.1, f11, w19.1⟩
  have hpt : ∀ k : Nat, k < 6 → S3.2.1 (q + 4232) k = some (q + 4233 + 244 * k) ∧ mpS S3 (q + 4233 + 244 * k) := fun k hk => ⟨(w4232.2 k hk).1, (w4232.2 k hk).2.1⟩
  have hmd : mdS S3 q := ⟨hg, f29, w568.1, f30, w2393.1, f35, w4221.1, f36, w4223.1, f40, w4227.1, f41, w4228.1, f42, w4230.1, f43, w4232.1, hpt⟩
  have hmw : mwS S3 q := ⟨f60, w10781.1, f61, w10783.1, f62, w10785.1, f63, w10787.1⟩
  have hmc : mcS S3 q := ⟨o', f50, w5697.1, f51, w5698.1⟩
  have hmu : muS S3 q := ⟨hm, hmw, hmc, ⟨f55, w5701.1, fun r hr => ⟨(w5701.2 r hr).1, by have h := (w5701.2 r hr).2.nm; rwa [show q + 5701 + 1 + 141 * r = q + 5702 + 141 * r from rfl, show q + 5702 + 141 * r + 1 = q + 5703 + 141 * r by omega] at h⟩⟩, ⟨f56, w10778.1⟩, ⟨f53, w5699.1⟩, ⟨f54, w5700.1⟩, ⟨f32, w4218.1⟩, ⟨f33, w4219.1⟩, ⟨f34, w4220.1⟩⟩
  have hmt : mtS S3 q := ⟨hmu, hg, ⟨f29, w568.1⟩, ⟨f58, k10779, fun k hk => ⟨(e3 k hk).1, (e3 k hk).2.1⟩⟩, ⟨f59, w10780.1⟩⟩
  have hmv : mvS S3 q := ⟨hmt, ⟨f35, w4221.1⟩, ⟨f24, k79, fun k hk => ⟨(e2' k hk).2.1, (e2' k hk).2.2.1⟩⟩, f26, w80.1⟩
  have hmh : mhS S3 q := ⟨hm, hmw, ⟨f71, w11241.nm⟩, f68, w10795.1, fun r hr => ⟨(w10795.2 r hr).1, (w10795.2 r hr).2.nm⟩, f69, w11240.1⟩
  have hms : msS S3 q := ⟨f78, w11297.1, f79, w11299.1, f80, w11301.1, f81, w11303.1, f82, w11305.1, f35, w4221.1⟩
  have hmr : mrS S3 q := ⟨hmh, hms, ⟨f83, w11307.1⟩, f67, w10793.1, f85, w11308.nm, f86, w12109.1, f73, w11278.nm, f74, w11295.1, f75, w11296.1⟩
  have hsg : sgS S3 q := ⟨hmr, ⟨f87, w12110.nm, f88, w12117.1, f89, w12119.1⟩, f90, w12121.nm, f91, w12158.nm, f16, w25.1, w25.2⟩
  have hfx : mfx S3 q := ⟨hmd, hmv, hsg, ⟨o', f21, w77.1⟩, ⟨f12, w21.1⟩, ⟨f13, k22, fun k hk => ⟨(e1' k hk).1, (e1' k hk).2.1⟩⟩, ⟨f14, w23.1⟩, ⟨f15, w24.1⟩, ⟨f17, w42.1⟩, ⟨f18, w43.nm⟩, ⟨f19, w76.1⟩, ⟨f22, k78, fun k hk => ⟨(e2' k hk).1.1, (e2' k hk).1.2.1⟩⟩, ⟨f28, w324.1⟩, ⟨f37, w4225.1⟩, ⟨f39, w4226.1⟩, ⟨f64, w10789.1, f65, w10790.1⟩, f66, w10791.1⟩
  have ng : ∀ {k : Nat} {Q : Prop}, k < 0 → Q := fun h => absurd h (Nat.not_lt_zero _)
  exact ⟨hfx, fun p hp => w21.2.2 p, ⟨z 20, fun k hk => w77.2.2 k⟩, ⟨z 23, fun k hk => ng hk⟩, ⟨Nat.zero_le _, z 31, fun k hk => ng hk⟩, ⟨z 25, fun k hk => ng hk, fun k hk => ⟨_, (e2' k hk).2.2.2⟩⟩, ⟨z 27, (fun ρ h => nomatch h), _, w80.2⟩, ⟨z 44, fun c g d m I st σ h => nomatch h⟩, ⟨z 77, fun q L h => nomatch h⟩, ⟨Or.inr ⟨rfl, z 38⟩, fun i hi => ng hi⟩, ⟨_, w568.2⟩, ⟨_, w2393.2⟩, fun k hk => ⟨_, (w4232.2 k hk).2.2⟩⟩
theorem x16_end {E : Ex} {q : Nat} {B : Nat × Nat} {S : Stat} {D : Dat} (h : x16W S D q) (v : 15372 ≤ B.1 ∧ 140112 ≤ B.2) (K : ∀ (B' : Nat × Nat) (S' : Stat) (D' : Dat), moI S' D' q s0 → bF (x16G q) S S' D D' → S'.2.2 = q + 27567 → E (.inl none) B' S' D') : Wp P_X16_init E 1 [some (aR q), some (aI 0)] [] B S D := by
  obtain ⟨o, n, r, d, y1, y2, y3, y4, y5, y7, y9, y11, y13, y15, y17, y19, y21, y22, y23, y24, y25, y42, y43, y76, y77, y78, y79, y80, y324, y568, y2393, y4218, y4219, y4220, y4221, y4223, y4225, y4226, y4227, y4228, y4230, y4232, y5697, y5698, y5699, y5700, y5701, y10778, y10779, y10780, y10781, y10783, y10785, y10787, y10789, y10790, y10791, y10793, y10795, y11240, y11241, y11278, y11295, y11296, y11297, y11299, y11301, y11303, y11305, y11307, y11308, y12109, y12110, y12117, y12119, y12121, y12158⟩ := id h
  have r13 : S.2.1 q 13 = some (q + 22) := r 13
  have r22 : S.2.1 q 22 = some (q + 78) := r 22
  have r24 : S.2.1 q 24 = some (q + 79) := r 24
  have r58 : S.2.1 q 58 = some (q + 10779) := r 58
  have k22 : S.1 (q + 22) = some (116, 16) := y22.1
  have k78 : S.1 (q + 78) = some (116, 6) := y78.1
  have k79 : S.1 (q + 79) = some (116, 6) := y79.1
  have kel : S.1 (q + 10779) = some (116, 35) := y10779.1
  clear r d y1 y2 y3 y4 y5 y7 y9 y11 y13 y15 y17 y19 y21 y22 y23 y24 y25 y42 y43 y76 y77 y78 y79 y80 y324 y568 y2393 y4218 y4219 y4220 y4221 y4223 y4225 y4226 y4227 y4228 y4230 y4232 y5697 y5698 y5699 y5700 y5701 y10778 y10779 y10780 y10781 y10783 y10785 y10787 y10789 y10790 y10791 y10793 y10795 y11240 y11241 y11278 y11295 y11296 y11297 y11299 y11301 y11303 y11305 y11307 y11308 y12109 y12110 y12117 y12119 y12121 y12158
  refine x16_l1 16 0 _ S D rfl (Nat.le_refl _) (by omega) o r13 k22 (by omega) (fun j j2 => absurd j2 (Nat.not_lt_zero _)) fun B1 S1 D1 u1 c1 n1 e1 => ?_
  have o1 : S1.1 q = some (16, 0) := by rw [c1.2.1 _ (by omega)]; exact o
  have q1 : ∀ i, S1.2.1 q i = S.2.1 q i := fun i => c1.2.2.1 q i (by omega) (by omega)
  refine x16_l2 6 0 _ S1 D1 rfl (by omega) ⟨o1, by rw [q1]; exact r22, by rw [q1]; exact r24, by rw [c1.2.1 _ (by omega)]; exact k78, by rw [c1.2.1 _ (by omega)]; exact k79⟩ (by omega) (fun j j2 => absurd j2 (Nat.not_lt_zero _)) fun B2 S2 D2 u2 c2 n2 e2 => ?_
  have o2 : S2.1 q = some (16, 0) := by rw [c2.2.1 _ (by omega)]; exact o1
  have q2 : ∀ i, S2.2.1 q i = S.2.1 q i := fun i => by rw [c2.2.2.1 q i (by omega) (by unfold x2F; omega), q1]
  refine x16_l3 35 0 _ S2 D2 rfl (Nat.le_refl _) (by omega) o2 (by rw [q2]; exact r58) (by rw [c2.2.1 _ (by omega), c1.2.1 _ (by omega)]; exact kel) (by omega) (fun j j2 => absurd j2 (Nat.not_lt_zero _)) fun B3 S3 D3 u3 c3 n3 e3 => ?_
  exact K _ _ _ (x16_fin h c1 c2 c3 n1 n2 e1 e2 e3) ((c1.mono fun a h => Or.inl h).tr ((c2.mono fun a h => Or.inr (Or.inl h)).tr (c3.mono fun a h => Or.inr (Or.inr h)))) n3
theorem mk_X16 : Mk P_X16_init 16 (fun q => [some (aR q)]) 27566 355051 (fun S D q => moI S D q s0) 27567 := fun E B S D q hB h1 h2 h3 h4 K =>
  x16_walk hB h1 h2 h3 h4 fun B1 S1 D1 hw v g => x16_end hw v fun B' S' D' a b c => K B' S' D' a c (g.trF b fun a ha => by rw [h2]; exact x16G_ge ha)
