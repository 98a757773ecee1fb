/-! the model's calls: closed -/
-- needs: eo.mclo
set_option maxRecDepth 100000
set_option linter.unusedVariables false
section MCL
variable {M N : Nat} {S : Stat} {s : Cst}
theorem moI.mn {S' : Stat} {D : Dat} (h : moI S D M s) (e : mnS M S S') : moI S' D M s := ⟨h.1.mn e, h.2⟩
set_option maxHeartbeats 4000000 in
theorem mo_closed {E : Ex} {B : Nat × Nat} {D : Dat} (hI : moI S D M s) (hW : crW N s) (hN : N < 1000) (K : ∀ (S' : Stat) (D' : Dat) (s' : Cst) (v : Int), mnS M S S' → oClosed s s' v → moI S' D' M s' → mO M D D' → E (.inl (some (.inl v))) B S' D') : Wp P_X16_closed E 0 [some (aR M)] [] B S D := by
  have o := hI.1.o
  obtain ⟨q44, qs⟩ := hI.2.2.2.2.2.2.2.1
  refine wp_in ?_
  simp only [P_X16_closed, i_kil, i_icon, i_lcon, i_null, i_loadI, i_loadL, i_loadR, i_istore, i_lstore, i_astore, i_iinc, i_dup, i_dup2, i_pop, i_iadd, i_isub, i_imul, i_idiv, i_irem, i_ineg, i_iand, i_ior, i_ishl, i_ishr, i_lxor, i_ladd, i_lsub, i_lmul, i_ldiv, i_lrem, i_lneg, i_lshl, i_lcmp, i_i2l, i_l2i, i_i2b, i_i2s, i_ifeq, i_ifne, i_iflt, i_ifge, i_ifgt, i_ifle, i_cmpeq, i_cmpne, i_cmplt, i_cmpge, i_cmpgt, i_cmple, i_acmpeq, i_acmpne, i_ifnull, i_ifnonnull, i_getI, i_getR, i_putI, i_putZ, i_putR, i_ald, i_ldL, i_ldR, i_ast, i_stL, i_stR, i_alen, i_new, i_newa, i_iret, i_zret, i_lret, i_aret, i_vret, i_raise, i_throw, i_recv, i_objinit, i_tsw3, lget, lset, lput1, lput2, lkil, ltrim, largs, isL, takev, dropv, nthv, pushO, catv, gd, true_and, and_true, Option.some.injEq, Prod.mk.injEq, exists_eq_left', if_true, if_false, reduceCtorEq, Bool.false_eq_true, lcmp_ge, lcmp_lt, lcmp_le, lcmp_gt, lcmp_eq, true_or, or_true, not_true_eq_false, not_false_eq_true, false_implies, true_implies, List.length_cons, List.length_nil, o]
  rcases hx : sSp s with _ | ⟨⟨c, g, d⟩, ⟨m, I⟩, st, σ⟩
  · rw [if_pos hx] at q44
    refine ⟨fun w => absurd q44 w, fun _ => ?_⟩
    repeat (first | refine ⟨in_small (by omega) (by omega), ?_⟩ | (show (_ → _) ∧ (_ → _); first | refine ⟨by omega, fun _ => ?_⟩ | refine ⟨fun _ => ?_, by omega⟩) | refine ⟨by omega, ?_⟩ | refine ⟨⟨_, rfl, by assumption⟩, ?_⟩ | refine ⟨okT_I _, ?_⟩ | refine call0 (gd_of rfl) ?_)
    refine mo_ans hI hW hN (k := 7) (by decide) rfl fun D' h3 h4 => ?_
    simp only [P_X16_closed, i_kil, i_icon, i_lcon, i_null, i_loadI, i_loadL, i_loadR, i_istore, i_lstore, i_astore, i_iinc, i_dup, i_dup2, i_pop, i_iadd, i_isub, i_imul, i_idiv, i_irem, i_ineg, i_iand, i_ior, i_ishl, i_ishr, i_lxor, i_ladd, i_lsub, i_lmul, i_ldiv, i_lrem, i_lneg, i_lshl, i_lcmp, i_i2l, i_l2i, i_i2b, i_i2s, i_ifeq, i_ifne, i_iflt, i_ifge, i_ifgt, i_ifle, i_cmpeq, i_cmpne, i_cmplt, i_cmpge, i_cmpgt, i_cmple, i_acmpeq, i_acmpne, i_ifnull, i_ifnonnull, i_getI, i_getR, i_putI, i_putZ, i_putR, i_ald, i_ldL, i_ldR, i_ast, i_stL, i_stR, i_alen, i_new, i_newa, i_iret, i_zret, i_lret, i_aret, i_vret, i_raise, i_throw, i_recv, i_objinit, i_tsw3, lget, lset, lput1, lput2, lkil, ltrim, largs, isL, takev, dropv, nthv, pushO, catv, gd, true_and, and_true, Option.some.injEq, Prod.mk.injEq, exists_eq_left', if_true, if_false, reduceCtorEq, Bool.false_eq_true, lcmp_ge, lcmp_lt, lcmp_le, lcmp_gt, lcmp_eq, true_or, or_true, not_true_eq_false, not_false_eq_true, false_implies, true_implies, List.length_cons, List.length_nil]
    exact K S D' _ _ ⟨rfl, fun _ _ _ => rfl, rfl⟩ (.inl ⟨hx, rfl, rfl⟩) h3 h4
  · rw [if_neg (by rw [hx]; exact fun z => nomatch z)] at q44
    obtain ⟨e45, e46, e47, e48, n, tc, hE⟩ := qs c g d m I st σ hx
    have hmt := hI.1.mt
    obtain ⟨w1, w2, -⟩ := hW.2.2.2.2.2.2.1 _ hx
    have w1 : ordOK c g := w1
    have w2 : c ≠ 12 → g = 0 := w2
    refine ⟨fun _ => ?_, fun w => by omega⟩
    repeat (first | refine ⟨in_small (by omega) (by omega), ?_⟩ | (show (_ → _) ∧ (_ → _); first | refine ⟨by omega, fun _ => ?_⟩ | refine ⟨fun _ => ?_, by omega⟩) | refine ⟨by omega, ?_⟩ | refine ⟨⟨_, rfl, by assumption⟩, ?_⟩ | refine ⟨okT_I _, ?_⟩ | refine call0 (gd_of rfl) ?_)
    refine sp_X16_gatherMinimal hmt hI.1.h64 hE fun S1 D1 r μ a1 a2 a3 a4 => ?_
    have hf1 := hI.1.mn a1
    have o1 := hf1.o
    obtain ⟨m1, m2, m3⟩ := hI.sm
    have cg : ∀ c i, pSm M c i → D1 c i = D c i := fun c i h => by unfold pSm at h; exact a2 c i (by omega)
    obtain ⟨m1', m2', m3'⟩ := hI.sm.cgr cg
    have fin : ∀ D2 : Dat, mcW M D1 D2 → (∃ φ, smP D2 (M + 568) φ) → (∃ φ, smP D2 (M + 2393) φ) → (∀ k, k < 6 → ∃ χ, mpP D2 (M + 4233 + 244 * k) χ) → moI S1 D2 M s ∧ mO M D D2 := fun D2 b1 b2 b3 b4 => by
      obtain ⟨k1, k2⟩ := hI.scr (D' := D2) hW (fun c i h1 h2 => by
        unfold sK at h1
        rw [b1 c i (by omega) (by omega) (by omega) (by omega), a2 c i (by omega)]) ⟨b2, b3, b4⟩
      exact ⟨k1.mn a1, k2⟩
    simp only [P_X16_closed, i_kil, i_icon, i_lcon, i_null, i_loadI, i_loadL, i_loadR, i_istore, i_lstore, i_astore, i_iinc, i_dup, i_dup2, i_pop, i_iadd, i_isub, i_imul, i_idiv, i_irem, i_ineg, i_iand, i_ior, i_ishl, i_ishr, i_lxor, i_ladd, i_lsub, i_lmul, i_ldiv, i_lrem, i_lneg, i_lshl, i_lcmp, i_i2l, i_l2i, i_i2b, i_i2s, i_ifeq, i_ifne, i_iflt, i_ifge, i_ifgt, i_ifle, i_cmpeq, i_cmpne, i_cmplt, i_cmpge, i_cmpgt, i_cmple, i_acmpeq, i_acmpne, i_ifnull, i_ifnonnull, i_getI, i_getR, i_putI, i_putZ, i_putR, i_ald, i_ldL, i_ldR, i_ast, i_stL, i_stR, i_alen, i_new, i_newa, i_iret, i_zret, i_lret, i_aret, i_vret, i_raise, i_throw, i_recv, i_objinit, i_tsw3, lget, lset, lput1, lput2, lkil, ltrim, largs, isL, takev, dropv, nthv, pushO, catv, gd, true_and, and_true, Option.some.injEq, Prod.mk.injEq, exists_eq_left', if_true, if_false, reduceCtorEq, Bool.false_eq_true, lcmp_ge, lcmp_lt, lcmp_le, lcmp_gt, lcmp_eq, true_or, or_true, not_true_eq_false, not_false_eq_true, false_implies, true_implies, List.length_cons, List.length_nil]
    refine sp_X16_closed1 (z := (g : Int)) hf1.1 hf1.mt hf1.h64 w1 (hE.congrM a2) a3 a4 (by rw [a2 _ _ (by omega)]; exact e45) (by rw [a2 _ _ (by omega)]; exact e46) (.inl rfl) m1' m2' m3' (fun D2 v b1 b2 b3 b4 b5 b6 => ?_) fun D2 b1 b2 b3 b4 b6 => ?_
    · obtain ⟨k1, k2⟩ := fin D2 b1 b2 b3 b4
      exact K S1 D2 s v a1 (.inr ⟨_, _, _, _, _, _, hx, r, μ, v, a3, b6, .inr ⟨by omega, rfl, rfl⟩⟩) k1 k2
    · obtain ⟨k1, k2⟩ := fin D2 b1 b2 b3 b4
      refine wp_in ?_
      simp only [P_X16_closed, i_kil, i_icon, i_lcon, i_null, i_loadI, i_loadL, i_loadR, i_istore, i_lstore, i_astore, i_iinc, i_dup, i_dup2, i_pop, i_iadd, i_isub, i_imul, i_idiv, i_irem, i_ineg, i_iand, i_ior, i_ishl, i_ishr, i_lxor, i_ladd, i_lsub, i_lmul, i_ldiv, i_lrem, i_lneg, i_lshl, i_lcmp, i_i2l, i_l2i, i_i2b, i_i2s, i_ifeq, i_ifne, i_iflt, i_ifge, i_ifgt, i_ifle, i_cmpeq, i_cmpne, i_cmplt, i_cmpge, i_cmpgt, i_cmple, i_acmpeq, i_acmpne, i_ifnull, i_ifnonnull, i_getI, i_getR, i_putI, i_putZ, i_putR, i_ald, i_ldL, i_ldR, i_ast, i_stL, i_stR, i_alen, i_new, i_newa, i_iret, i_zret, i_lret, i_aret, i_vret, i_raise, i_throw, i_recv, i_objinit, i_tsw3, lget, lset, lput1, lput2, lkil, ltrim, largs, isL, takev, dropv, nthv, pushO, catv, gd, true_and, and_true, Option.some.injEq, Prod.mk.injEq, exists_eq_left', if_true, if_false, reduceCtorEq, Bool.false_eq_true, lcmp_ge, lcmp_lt, lcmp_le, lcmp_gt, lcmp_eq, true_or, or_true, not_true_eq_false, not_false_eq_true, false_implies, true_implies, List.length_cons, List.length_nil, o1]
      repeat (first | refine ⟨in_small (by omega) (by omega), ?_⟩ | (show (_ → _) ∧ (_ → _); first | refine ⟨by omega, fun _ => ?_⟩ | refine ⟨fun _ => ?_, by omega⟩) | refine ⟨by omega, ?_⟩ | refine ⟨⟨_, rfl, by assumption⟩, ?_⟩ | refine ⟨okT_I _, ?_⟩ | refine call0 (gd_of rfl) ?_)
      refine mo_ans k1 hW hN (k := 6) (by decide) rfl fun D' h3 h4 => ?_
      simp only [P_X16_closed, i_kil, i_icon, i_lcon, i_null, i_loadI, i_loadL, i_loadR, i_istore, i_lstore, i_astore, i_iinc, i_dup, i_dup2, i_pop, i_iadd, i_isub, i_imul, i_idiv, i_irem, i_ineg, i_iand, i_ior, i_ishl, i_ishr, i_lxor, i_ladd, i_lsub, i_lmul, i_ldiv, i_lrem, i_lneg, i_lshl, i_lcmp, i_i2l, i_l2i, i_i2b, i_i2s, i_ifeq, i_ifne, i_iflt, i_ifge, i_ifgt, i_ifle, i_cmpeq, i_cmpne, i_cmplt, i_cmpge, i_cmpgt, i_cmple, i_acmpeq, i_acmpne, i_ifnull, i_ifnonnull, i_getI, i_getR, i_putI, i_putZ, i_putR, i_ald, i_ldL, i_ldR, i_ast, i_stL, i_stR, i_alen, i_new, i_newa, i_iret, i_zret, i_lret, i_aret, i_vret, i_raise, i_throw, i_recv, i_objinit, i_tsw3, lget, lset, lput1, lput2, lkil, ltrim, largs, isL, takev, dropv, nthv, pushO, catv, gd, true_and, and_true, Option.some.injEq, Prod.mk.injEq, exists_eq_left', if_true, if_false, reduceCtorEq, Bool.false_eq_true, lcmp_ge, lcmp_lt, lcmp_le, lcmp_gt, lcmp_eq, true_or, or_true, not_true_eq_false, not_false_eq_true, false_implies, true_implies, List.length_cons, List.length_nil]
      exact K S1 D' _ _ a1 (.inr ⟨_, _, _, _, _, _, hx, r, μ, -6, a3, b6, .inl ⟨rfl, rfl, rfl⟩⟩) h3 (k2.tr h4)
end MCL
