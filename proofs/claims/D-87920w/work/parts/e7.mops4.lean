/-! the model's calls: put, same, sums -/
-- needs: e6.mops3
set_option maxRecDepth 100000
set_option linter.unusedVariables false
section MOS
variable {M N : Nat} {S : Stat} {s : Cst}
theorem mth.kd {D : Dat} {p : Nat} {t : Th} (h : mth D M p t) : D (M + 21) p = (tkN t : Int) := by
  rcases t with _ | (φ | (o | (r | k)))
  · exact h
  all_goals exact h.1
theorem mlw_b {h : Nat} {w : Int} (h0 : 0 ≤ w) (h1 : w < ((2 ^ h : Nat) : Int)) (hh : h ≤ 459) : ((mlw h w).natAbs : Int) < 1000000000 ^ 17 := mlw_pw (mlw_abs h0 (by omega)) (by omega)
theorem pw17 : (1000000000 : Int) ^ 17 ≤ 1000000000 ^ 130 := by decide +kernel
theorem mo_put {E : Ex} {B : Nat × Nat} {D : Dat} {x y : Int} (hI : moI S D M s) (hW : crW N s) (hN : N < 1000) (K : mK E B S D M (oPut x y s)) : Wp P_X16_put_2 E 0 [some (aR M), some (aI x), some (aI y)] [] B S D := by
  have o := hI.1.o
  obtain ⟨a1, a2⟩ := hI.1.h12
  obtain ⟨b1, b2⟩ := hI.1.h14
  obtain ⟨c1, c2⟩ := hI.1.h15
  obtain ⟨d1, d2, d3⟩ := hI.1.h13
  obtain ⟨e1, e2⟩ := hI.1.h17
  obtain ⟨f1, f2, f3⟩ := hI.1.h18
  obtain ⟨g1, g2⟩ := hI.1.h19
  obtain ⟨-, -, -, -, -, -, i1, i2, i3⟩ := hI.1.sg
  have hle : foN (lkN s x 0) (glN y) ≤ 3 := foN_le (by have := lkN_le s x 0; omega) (by have := glN_le y; omega)
  refine wp_in ?_
  simp only [P_X16_put_2, i_kil, i_icon, i_lcon, i_null, i_loadI, i_loadL, i_loadR, i_istore, i_lstore, i_astore, i_iinc, i_dup, i_dup2, i_pop, i_iadd, i_isub, i_imul, i_idiv, i_irem, i_ineg, i_iand, i_ior, i_ishl, i_ishr, i_lxor, i_ladd, i_lsub, i_lmul, i_ldiv, i_lrem, i_lneg, i_lshl, i_lcmp, i_i2l, i_l2i, i_i2b, i_i2s, i_ifeq, i_ifne, i_iflt, i_ifge, i_ifgt, i_ifle, i_cmpeq, i_cmpne, i_cmplt, i_cmpge, i_cmpgt, i_cmple, i_acmpeq, i_acmpne, i_ifnull, i_ifnonnull, i_getI, i_getR, i_putI, i_putZ, i_putR, i_ald, i_ldL, i_ldR, i_ast, i_stL, i_stR, i_alen, i_new, i_newa, i_iret, i_zret, i_lret, i_aret, i_vret, i_raise, i_throw, i_recv, i_objinit, i_tsw3, lget, lset, lput1, lput2, lkil, ltrim, largs, isL, takev, dropv, nthv, pushO, catv, gd, true_and, and_true, Option.some.injEq, Prod.mk.injEq, exists_eq_left', if_true, if_false, reduceCtorEq, Bool.false_eq_true, lcmp_ge, lcmp_lt, lcmp_le, lcmp_gt, lcmp_eq, true_or, or_true, not_true_eq_false, not_false_eq_true, false_implies, true_implies, List.length_cons, List.length_nil, o]
  repeat (first | refine ⟨in_small (by omega) (by omega), ?_⟩ | (show (_ → _) ∧ (_ → _); first | refine ⟨by omega, fun _ => ?_⟩ | refine ⟨fun _ => ?_, by omega⟩) | refine ⟨by omega, ?_⟩ | refine ⟨⟨_, rfl, by assumption⟩, ?_⟩ | refine ⟨okT_I _, ?_⟩ | refine call0 (gd_of rfl) ?_)
  refine mo_look (k := 0) hI rfl ?_
  simp only [P_X16_put_2, i_kil, i_icon, i_lcon, i_null, i_loadI, i_loadL, i_loadR, i_istore, i_lstore, i_astore, i_iinc, i_dup, i_dup2, i_pop, i_iadd, i_isub, i_imul, i_idiv, i_irem, i_ineg, i_iand, i_ior, i_ishl, i_ishr, i_lxor, i_ladd, i_lsub, i_lmul, i_ldiv, i_lrem, i_lneg, i_lshl, i_lcmp, i_i2l, i_l2i, i_i2b, i_i2s, i_ifeq, i_ifne, i_iflt, i_ifge, i_ifgt, i_ifle, i_cmpeq, i_cmpne, i_cmplt, i_cmpge, i_cmpgt, i_cmple, i_acmpeq, i_acmpne, i_ifnull, i_ifnonnull, i_getI, i_getR, i_putI, i_putZ, i_putR, i_ald, i_ldL, i_ldR, i_ast, i_stL, i_stR, i_alen, i_new, i_newa, i_iret, i_zret, i_lret, i_aret, i_vret, i_raise, i_throw, i_recv, i_objinit, i_tsw3, lget, lset, lput1, lput2, lkil, ltrim, largs, isL, takev, dropv, nthv, pushO, catv, gd, true_and, and_true, Option.some.injEq, Prod.mk.injEq, exists_eq_left', if_true, if_false, reduceCtorEq, Bool.false_eq_true, lcmp_ge, lcmp_lt, lcmp_le, lcmp_gt, lcmp_eq, true_or, or_true, not_true_eq_false, not_false_eq_true, false_implies, true_implies, List.length_cons, List.length_nil]
  repeat (first | refine ⟨in_small (by omega) (by omega), ?_⟩ | (show (_ → _) ∧ (_ → _); first | refine ⟨by omega, fun _ => ?_⟩ | refine ⟨fun _ => ?_, by omega⟩) | refine ⟨by omega, ?_⟩ | refine ⟨⟨_, rfl, by assumption⟩, ?_⟩ | refine ⟨okT_I _, ?_⟩ | refine call0 (gd_of rfl) ?_)
  refine sp_goal o ?_
  simp only [P_X16_put_2, i_kil, i_icon, i_lcon, i_null, i_loadI, i_loadL, i_loadR, i_istore, i_lstore, i_astore, i_iinc, i_dup, i_dup2, i_pop, i_iadd, i_isub, i_imul, i_idiv, i_irem, i_ineg, i_iand, i_ior, i_ishl, i_ishr, i_lxor, i_ladd, i_lsub, i_lmul, i_ldiv, i_lrem, i_lneg, i_lshl, i_lcmp, i_i2l, i_l2i, i_i2b, i_i2s, i_ifeq, i_ifne, i_iflt, i_ifge, i_ifgt, i_ifle, i_cmpeq, i_cmpne, i_cmplt, i_cmpge, i_cmpgt, i_cmple, i_acmpeq, i_acmpne, i_ifnull, i_ifnonnull, i_getI, i_getR, i_putI, i_putZ, i_putR, i_ald, i_ldL, i_ldR, i_ast, i_stL, i_stR, i_alen, i_new, i_newa, i_iret, i_zret, i_lret, i_aret, i_vret, i_raise, i_throw, i_recv, i_objinit, i_tsw3, lget, lset, lput1, lput2, lkil, ltrim, largs, isL, takev, dropv, nthv, pushO, catv, gd, true_and, and_true, Option.some.injEq, Prod.mk.injEq, exists_eq_left', if_true, if_false, reduceCtorEq, Bool.false_eq_true, lcmp_ge, lcmp_lt, lcmp_le, lcmp_gt, lcmp_eq, true_or, or_true, not_true_eq_false, not_false_eq_true, false_implies, true_implies, List.length_cons, List.length_nil]
  repeat (first | refine ⟨in_small (by omega) (by omega), ?_⟩ | (show (_ → _) ∧ (_ → _); first | refine ⟨by omega, fun _ => ?_⟩ | refine ⟨fun _ => ?_, by omega⟩) | refine ⟨by omega, ?_⟩ | refine ⟨⟨_, rfl, by assumption⟩, ?_⟩ | refine ⟨okT_I _, ?_⟩ | refine call0 (gd_of rfl) ?_)
  refine sp_firstOf2 ?_
  simp only [P_X16_put_2, i_kil, i_icon, i_lcon, i_null, i_loadI, i_loadL, i_loadR, i_istore, i_lstore, i_astore, i_iinc, i_dup, i_dup2, i_pop, i_iadd, i_isub, i_imul, i_idiv, i_irem, i_ineg, i_iand, i_ior, i_ishl, i_ishr, i_lxor, i_ladd, i_lsub, i_lmul, i_ldiv, i_lrem, i_lneg, i_lshl, i_lcmp, i_i2l, i_l2i, i_i2b, i_i2s, i_ifeq, i_ifne, i_iflt, i_ifge, i_ifgt, i_ifle, i_cmpeq, i_cmpne, i_cmplt, i_cmpge, i_cmpgt, i_cmple, i_acmpeq, i_acmpne, i_ifnull, i_ifnonnull, i_getI, i_getR, i_putI, i_putZ, i_putR, i_ald, i_ldL, i_ldR, i_ast, i_stL, i_stR, i_alen, i_new, i_newa, i_iret, i_zret, i_lret, i_aret, i_vret, i_raise, i_throw, i_recv, i_objinit, i_tsw3, lget, lset, lput1, lput2, lkil, ltrim, largs, isL, takev, dropv, nthv, pushO, catv, gd, true_and, and_true, Option.some.injEq, Prod.mk.injEq, exists_eq_left', if_true, if_false, reduceCtorEq, Bool.false_eq_true, lcmp_ge, lcmp_lt, lcmp_le, lcmp_gt, lcmp_eq, true_or, or_true, not_true_eq_false, not_false_eq_true, false_implies, true_implies, List.length_cons, List.length_nil, o, a1, a2, b1, b2, c1, c2]
  refine ⟨fun w => ?_, fun w => ?_⟩
  · have h00 : foN (lkN s x 0) (glN y) = 0 := by omega
    obtain ⟨h0, h0'⟩ := foN_0.mp h00
    obtain ⟨p, hp, hp16, hk, -⟩ := lk_in h0
    obtain ⟨r, hr, hr16⟩ := gl_in h0'
    subst hp; subst hr
    have hm := hI.2.1 p hp16
    have hkd := hm.kd
    have hwt := hW.1 p hp16
    have fin : ∀ D2 : Dat, moI S D2 M (uTh s r (sTh s p)) → mO M D D2 → Wp P_X16_put_2 E 3 [some (aR M), none, some (aI (r : Int))] [] B S D2 := fun D2 h1 h2 => by
      have hk2 := (h1.2.1 r hr16).kd
      have e0 : sTh (uTh s r (sTh s p)) r = sTh s p := by
        show (if (r : Int) = (r : Int) then _ else _) = _
        rw [if_pos rfl]
      rw [e0] at hk2
      refine wp_in ?_
      simp only [P_X16_put_2, i_kil, i_icon, i_lcon, i_null, i_loadI, i_loadL, i_loadR, i_istore, i_lstore, i_astore, i_iinc, i_dup, i_dup2, i_pop, i_iadd, i_isub, i_imul, i_idiv, i_irem, i_ineg, i_iand, i_ior, i_ishl, i_ishr, i_lxor, i_ladd, i_lsub, i_lmul, i_ldiv, i_lrem, i_lneg, i_lshl, i_lcmp, i_i2l, i_l2i, i_i2b, i_i2s, i_ifeq, i_ifne, i_iflt, i_ifge, i_ifgt, i_ifle, i_cmpeq, i_cmpne, i_cmplt, i_cmpge, i_cmpgt, i_cmple, i_acmpeq, i_acmpne, i_ifnull, i_ifnonnull, i_getI, i_getR, i_putI, i_putZ, i_putR, i_ald, i_ldL, i_ldR, i_ast, i_stL, i_stR, i_alen, i_new, i_newa, i_iret, i_zret, i_lret, i_aret, i_vret, i_raise, i_throw, i_recv, i_objinit, i_tsw3, lget, lset, lput1, lput2, lkil, ltrim, largs, isL, takev, dropv, nthv, pushO, catv, gd, true_and, and_true, Option.some.injEq, Prod.mk.injEq, exists_eq_left', if_true, if_false, reduceCtorEq, Bool.false_eq_true, lcmp_ge, lcmp_lt, lcmp_le, lcmp_gt, lcmp_eq, true_or, or_true, not_true_eq_false, not_false_eq_true, false_implies, true_implies, List.length_cons, List.length_nil, o, a1, a2]
      repeat (first | refine ⟨in_small (by omega) (by omega), ?_⟩ | (show (_ → _) ∧ (_ → _); first | refine ⟨by omega, fun _ => ?_⟩ | refine ⟨fun _ => ?_, by omega⟩) | refine ⟨by omega, ?_⟩ | refine ⟨⟨_, rfl, by assumption⟩, ?_⟩ | refine ⟨okT_I _, ?_⟩ | refine call0 (gd_of rfl) ?_)
      rw [hk2]
      exact K D2 _ _ (rR_q h00 ⟨rfl, rfl⟩) h1 h2
    refine ⟨fun w2 => fin D (by
      have : p = r := by omega
      subst this
      rw [uTh_self]; exact hI) mO.rfl, fun w2 => ?_⟩
    have hpr : p ≠ r := by omega
    have q1 : pmu D (M + 21) (r : Int) (D (M + 21) p) (M + 23) p = D (M + 23) p := pmu_ne (by omega)
    have q2 : pmu (pmu D (M + 21) (r : Int) (D (M + 21) p)) (M + 23) r (D (M + 23) p) (M + 24) p = D (M + 24) p := by rw [pmu_ne (by omega), pmu_ne (by omega)]
    have q3 : pmu (pmu (pmu D (M + 21) (r : Int) (D (M + 21) p)) (M + 23) r (D (M + 23) p)) (M + 24) r (D (M + 24) p) (M + 21) p = D (M + 21) p := by rw [pmu_ne (by omega), pmu_ne (by omega), pmu_ne (by omega)]
    repeat (first | refine ⟨in_small (by omega) (by omega), ?_⟩ | (show (_ → _) ∧ (_ → _); first | refine ⟨by omega, fun _ => ?_⟩ | refine ⟨fun _ => ?_, by omega⟩) | refine ⟨by omega, ?_⟩ | refine ⟨⟨_, rfl, by assumption⟩, ?_⟩ | refine ⟨okT_I _, ?_⟩ | refine call0 (gd_of rfl) ?_)
    rw [q1]
    repeat (first | refine ⟨in_small (by omega) (by omega), ?_⟩ | (show (_ → _) ∧ (_ → _); first | refine ⟨by omega, fun _ => ?_⟩ | refine ⟨fun _ => ?_, by omega⟩) | refine ⟨by omega, ?_⟩ | refine ⟨⟨_, rfl, by assumption⟩, ?_⟩ | refine ⟨okT_I _, ?_⟩ | refine call0 (gd_of rfl) ?_)
    rw [q2]
    repeat (first | refine ⟨in_small (by omega) (by omega), ?_⟩ | (show (_ → _) ∧ (_ → _); first | refine ⟨by omega, fun _ => ?_⟩ | refine ⟨fun _ => ?_, by omega⟩) | refine ⟨by omega, ?_⟩ | refine ⟨⟨_, rfl, by assumption⟩, ?_⟩ | refine ⟨okT_I _, ?_⟩ | refine call0 (gd_of rfl) ?_)
    rw [q3]
    let D3 := pmu (pmu (pmu D (M + 21) (r : Int) (D (M + 21) p)) (M + 23) r (D (M + 23) p)) (M + 24) r (D (M + 24) p)
    have hD3 : ∀ c i, ((c ≠ M + 21 ∧ c ≠ M + 23 ∧ c ≠ M + 24) ∨ i ≠ (r : Int)) → D3 c i = D c i := fun c i h => by
      show pmu _ _ _ _ c i = _
      rw [pmu_ne (by omega), pmu_ne (by omega), pmu_ne (by omega)]
    have k21 : D3 (M + 21) r = D (M + 21) p := by
      show pmu _ _ _ _ _ _ = _
      rw [pmu_ne (by omega), pmu_ne (by omega), pmu_eq]
    have k23 : D3 (M + 23) r = D (M + 23) p := by
      show pmu _ _ _ _ _ _ = _
      rw [pmu_ne (by omega), pmu_eq]
    have k24 : D3 (M + 24) r = D (M + 24) p := by
      show pmu _ _ _ _ _ _ = _
      rw [pmu_eq]
    have one : ∀ D4 : Dat, (∀ c i, (c < M + 12195 + 244 * r ∨ M + 12195 + 244 * r + 243 < c) → D4 c i = D3 c i) → (∀ φ, sTh s p = some (.inl φ) → mpP D4 (M + 12195 + 244 * r) φ) → Wp P_X16_put_2 E 1 [some (aR M), some (aI (p : Int)), some (aI (r : Int))] [] B S D4 := fun D4 h4 hφ => by
      have k21' : D4 (M + 21) p = tkN (sTh s p) := by rw [h4 _ _ (by omega), hD3 _ _ (by omega)]; exact hkd
      refine wp_in ?_
      simp only [P_X16_put_2, i_kil, i_icon, i_lcon, i_null, i_loadI, i_loadL, i_loadR, i_istore, i_lstore, i_astore, i_iinc, i_dup, i_dup2, i_pop, i_iadd, i_isub, i_imul, i_idiv, i_irem, i_ineg, i_iand, i_ior, i_ishl, i_ishr, i_lxor, i_ladd, i_lsub, i_lmul, i_ldiv, i_lrem, i_lneg, i_lshl, i_lcmp, i_i2l, i_l2i, i_i2b, i_i2s, i_ifeq, i_ifne, i_iflt, i_ifge, i_ifgt, i_ifle, i_cmpeq, i_cmpne, i_cmplt, i_cmpge, i_cmpgt, i_cmple, i_acmpeq, i_acmpne, i_ifnull, i_ifnonnull, i_getI, i_getR, i_putI, i_putZ, i_putR, i_ald, i_ldL, i_ldR, i_ast, i_stL, i_stR, i_alen, i_new, i_newa, i_iret, i_zret, i_lret, i_aret, i_vret, i_raise, i_throw, i_recv, i_objinit, i_tsw3, lget, lset, lput1, lput2, lkil, ltrim, largs, isL, takev, dropv, nthv, pushO, catv, gd, true_and, and_true, Option.some.injEq, Prod.mk.injEq, exists_eq_left', if_true, if_false, reduceCtorEq, Bool.false_eq_true, lcmp_ge, lcmp_lt, lcmp_le, lcmp_gt, lcmp_eq, true_or, or_true, not_true_eq_false, not_false_eq_true, false_implies, true_implies, List.length_cons, List.length_nil, o, a1, a2]
      repeat (first | refine ⟨in_small (by omega) (by omega), ?_⟩ | (show (_ → _) ∧ (_ → _); first | refine ⟨by omega, fun _ => ?_⟩ | refine ⟨fun _ => ?_, by omega⟩) | refine ⟨by omega, ?_⟩ | refine ⟨⟨_, rfl, by assumption⟩, ?_⟩ | refine ⟨okT_I _, ?_⟩ | refine call0 (gd_of rfl) ?_)
      rw [k21']
      refine ⟨fun w3 => fin D4 ?_ ?_, fun w3 => ?_⟩
      · refine hI.place hW (by omega) (fun c i h1 h2 => ?_) ?_ (hI.sm.cgr fun c i h => ?_)
        · unfold pPl at h2
          rw [h4 c i (by omega), hD3 c i (by omega)]
        · have z1 : D4 (M + 21) r = D (M + 21) p := by rw [h4 _ _ (by omega)]; exact k21
          have z2 : D4 (M + 23) r = D (M + 23) p := by rw [h4 _ _ (by omega)]; exact k23
          have z3 : D4 (M + 24) r = D (M + 24) p := by rw [h4 _ _ (by omega)]; exact k24
          show mth D4 M r (sTh s p)
          revert hm hk hφ w3
          rcases sTh s p with _ | (φ | (q | (t | k))) <;> intro hk hm hφ w3
          · exact absurd rfl hk
          · exact ⟨by rw [z1]; exact hm.1, hφ φ rfl⟩
          · exact ⟨by rw [z1]; exact hm.1, by rw [z2]; exact hm.2.1, by rw [z3]; exact hm.2.2⟩
          · exact absurd rfl w3
          · exact ⟨by rw [z1]; exact hm.1, by rw [z2]; exact hm.2.1, by rw [z3]; exact hm.2.2⟩
        · unfold pSm at h
          rw [h4 c i (by omega), hD3 c i (by omega)]
      · intro c i hc
        rw [h4 c i (by omega), hD3 c i (by omega)]
      · obtain ⟨t, ht⟩ := tk_3 (by omega : tkN (sTh s p) = 3)
        rw [ht] at hm hwt
        obtain ⟨m1, m2, m3, m4, sm, a, m5, m6, m7⟩ := hm
        obtain ⟨w4, w5, w6, w7, w8, w9⟩ := hwt
        have hb := mlw_b w5 w6 (by omega)
        obtain ⟨fp1, fp2⟩ := f3 p hp16
        obtain ⟨fr1, fr2⟩ := f3 r hr16
        simp only [P_X16_put_2, i_kil, i_icon, i_lcon, i_null, i_loadI, i_loadL, i_loadR, i_istore, i_lstore, i_astore, i_iinc, i_dup, i_dup2, i_pop, i_iadd, i_isub, i_imul, i_idiv, i_irem, i_ineg, i_iand, i_ior, i_ishl, i_ishr, i_lxor, i_ladd, i_lsub, i_lmul, i_ldiv, i_lrem, i_lneg, i_lshl, i_lcmp, i_i2l, i_l2i, i_i2b, i_i2s, i_ifeq, i_ifne, i_iflt, i_ifge, i_ifgt, i_ifle, i_cmpeq, i_cmpne, i_cmplt, i_cmpge, i_cmpgt, i_cmple, i_acmpeq, i_acmpne, i_ifnull, i_ifnonnull, i_getI, i_getR, i_putI, i_putZ, i_putR, i_ald, i_ldL, i_ldR, i_ast, i_stL, i_stR, i_alen, i_new, i_newa, i_iret, i_zret, i_lret, i_aret, i_vret, i_raise, i_throw, i_recv, i_objinit, i_tsw3, lget, lset, lput1, lput2, lkil, ltrim, largs, isL, takev, dropv, nthv, pushO, catv, gd, true_and, and_true, Option.some.injEq, Prod.mk.injEq, exists_eq_left', if_true, if_false, reduceCtorEq, Bool.false_eq_true, lcmp_ge, lcmp_lt, lcmp_le, lcmp_gt, lcmp_eq, true_or, or_true, not_true_eq_false, not_false_eq_true, false_implies, true_implies, List.length_cons, List.length_nil, o, f1, f2]
        repeat (first | refine ⟨in_small (by omega) (by omega), ?_⟩ | (show (_ → _) ∧ (_ → _); first | refine ⟨by omega, fun _ => ?_⟩ | refine ⟨fun _ => ?_, by omega⟩) | refine ⟨by omega, ?_⟩ | refine ⟨⟨_, rfl, by assumption⟩, ?_⟩ | refine ⟨okT_I _, ?_⟩ | refine call0 (gd_of rfl) ?_)
        simp only [fr1, fp1]
        have fr3 := fr2.1
        repeat (first | refine ⟨in_small (by omega) (by omega), ?_⟩ | (show (_ → _) ∧ (_ → _); first | refine ⟨by omega, fun _ => ?_⟩ | refine ⟨fun _ => ?_, by omega⟩) | refine ⟨by omega, ?_⟩ | refine ⟨⟨_, rfl, by assumption⟩, ?_⟩ | refine ⟨okT_I _, ?_⟩ | refine call0 (gd_of rfl) ?_)
        have hv4 : wD 2 1 D4 (M + 44 + 2 * p) (mlw t.2.1 t.2.2.1) := m4.cgr fun c i hc => by rw [h4 c i (by omega), hD3 c i (by omega)]
        refine sp_X17_copy fr2 fp2 hv4 (Int.lt_of_lt_of_le hb pw17) (Int.lt_of_lt_of_le hb pw17) (by omega) fun D5 h5 h6 => ?_
        have z6 : D5 (M + 76) p = t.2.1 := by rw [h5 _ _ (by omega) (by omega), h4 _ _ (by omega), hD3 _ _ (by omega)]; exact m3
        have z7 : pmu D5 (M + 76) (r : Int) t.2.1 (M + 42) p = a := by rw [pmu_ne (by omega), h5 _ _ (by omega) (by omega), h4 _ _ (by omega), hD3 _ _ (by omega)]; exact m6
        simp only [P_X16_put_2, i_kil, i_icon, i_lcon, i_null, i_loadI, i_loadL, i_loadR, i_istore, i_lstore, i_astore, i_iinc, i_dup, i_dup2, i_pop, i_iadd, i_isub, i_imul, i_idiv, i_irem, i_ineg, i_iand, i_ior, i_ishl, i_ishr, i_lxor, i_ladd, i_lsub, i_lmul, i_ldiv, i_lrem, i_lneg, i_lshl, i_lcmp, i_i2l, i_l2i, i_i2b, i_i2s, i_ifeq, i_ifne, i_iflt, i_ifge, i_ifgt, i_ifle, i_cmpeq, i_cmpne, i_cmplt, i_cmpge, i_cmpgt, i_cmple, i_acmpeq, i_acmpne, i_ifnull, i_ifnonnull, i_getI, i_getR, i_putI, i_putZ, i_putR, i_ald, i_ldL, i_ldR, i_ast, i_stL, i_stR, i_alen, i_new, i_newa, i_iret, i_zret, i_lret, i_aret, i_vret, i_raise, i_throw, i_recv, i_objinit, i_tsw3, lget, lset, lput1, lput2, lkil, ltrim, largs, isL, takev, dropv, nthv, pushO, catv, gd, true_and, and_true, Option.some.injEq, Prod.mk.injEq, exists_eq_left', if_true, if_false, reduceCtorEq, Bool.false_eq_true, lcmp_ge, lcmp_lt, lcmp_le, lcmp_gt, lcmp_eq, true_or, or_true, not_true_eq_false, not_false_eq_true, false_implies, true_implies, List.length_cons, List.length_nil, o, g1, g2, e1, e2]
        repeat (first | refine ⟨in_small (by omega) (by omega), ?_⟩ | (show (_ → _) ∧ (_ → _); first | refine ⟨by omega, fun _ => ?_⟩ | refine ⟨fun _ => ?_, by omega⟩) | refine ⟨by omega, ?_⟩ | refine ⟨⟨_, rfl, by assumption⟩, ?_⟩ | refine ⟨okT_I _, ?_⟩ | refine call0 (gd_of rfl) ?_)
        rw [z6]
        repeat (first | refine ⟨in_small (by omega) (by omega), ?_⟩ | (show (_ → _) ∧ (_ → _); first | refine ⟨by omega, fun _ => ?_⟩ | refine ⟨fun _ => ?_, by omega⟩) | refine ⟨by omega, ?_⟩ | refine ⟨⟨_, rfl, by assumption⟩, ?_⟩ | refine ⟨okT_I _, ?_⟩ | refine call0 (gd_of rfl) ?_)
        rw [z7]
        obtain ⟨ip1, ip2⟩ := i3 p hp16
        obtain ⟨ir1, ir2⟩ := i3 r hr16
        let D6 := pmu (pmu D5 (M + 76) (r : Int) t.2.1) (M + 42) (r : Int) a
        have hD6 : ∀ c i, ((c ≠ M + 76 ∧ c ≠ M + 42) ∨ i ≠ (r : Int)) → c ≠ M + 44 + 2 * r → c ≠ M + 44 + 2 * r + 1 → (c < M + 12195 + 244 * r ∨ M + 12195 + 244 * r + 243 < c) → D6 c i = D3 c i := fun c i h1 h2 h3 h4' => by
          show pmu _ _ _ _ c i = _
          rw [pmu_ne (by omega), pmu_ne (by omega), h5 c i h2 h3, h4 c i h4']
        have loop : ∀ (L k : Nat) (D7 : Dat), k + L = 9 → (∀ c i, c ≠ M + 26 + r → D7 c i = D6 c i) → (∀ j : Nat, j < k → D7 (M + 26 + r) j = sm j) → Wp P_X16_put_2 E 2 [some (aR M), some (aI (p : Int)), some (aI (r : Int)), none, some (aI (k : Int))] [] B S D7 := by
          intro L
          induction L with
          | zero =>
            intro k D7 hkL h7 h8
            have hk9 : k = 9 := by omega
            subst hk9
            refine wp_in ?_
            simp only [P_X16_put_2, i_kil, i_icon, i_lcon, i_null, i_loadI, i_loadL, i_loadR, i_istore, i_lstore, i_astore, i_iinc, i_dup, i_dup2, i_pop, i_iadd, i_isub, i_imul, i_idiv, i_irem, i_ineg, i_iand, i_ior, i_ishl, i_ishr, i_lxor, i_ladd, i_lsub, i_lmul, i_ldiv, i_lrem, i_lneg, i_lshl, i_lcmp, i_i2l, i_l2i, i_i2b, i_i2s, i_ifeq, i_ifne, i_iflt, i_ifge, i_ifgt, i_ifle, i_cmpeq, i_cmpne, i_cmplt, i_cmpge, i_cmpgt, i_cmple, i_acmpeq, i_acmpne, i_ifnull, i_ifnonnull, i_getI, i_getR, i_putI, i_putZ, i_putR, i_ald, i_ldL, i_ldR, i_ast, i_stL, i_stR, i_alen, i_new, i_newa, i_iret, i_zret, i_lret, i_aret, i_vret, i_raise, i_throw, i_recv, i_objinit, i_tsw3, lget, lset, lput1, lput2, lkil, ltrim, largs, isL, takev, dropv, nthv, pushO, catv, gd, true_and, and_true, Option.some.injEq, Prod.mk.injEq, exists_eq_left', if_true, if_false, reduceCtorEq, Bool.false_eq_true, lcmp_ge, lcmp_lt, lcmp_le, lcmp_gt, lcmp_eq, true_or, or_true, not_true_eq_false, not_false_eq_true, false_implies, true_implies, List.length_cons, List.length_nil]
            refine ⟨fun _ => fin D7 ?_ ?_, fun w => absurd w (by decide)⟩
            · refine hI.place hW (by omega) (fun c i h1 h2 => ?_) ?_ (hI.sm.cgr fun c i h => ?_)
              · unfold pPl at h2
                rw [h7 c i (by omega), hD6 c i (by omega) (by omega) (by omega) (by omega), hD3 c i (by omega)]
              · show mth D7 M r (sTh s p)
                rw [ht]
                refine ⟨?_, ?_, ?_, ?_, sm, a, m5, ?_, h8⟩
                · rw [h7 _ _ (by omega), hD6 _ _ (by omega) (by omega) (by omega) (by omega)]; exact k21.trans m1
                · rw [h7 _ _ (by omega), hD6 _ _ (by omega) (by omega) (by omega) (by omega)]; exact k23.trans m2
                · rw [h7 _ _ (by omega)]
                  show pmu _ _ _ _ _ _ = _
                  rw [pmu_ne (by omega), pmu_eq]
                · refine h6.cgr fun c i hc => ?_
                  rw [h7 c i (by omega)]
                  show pmu _ _ _ _ _ _ = _
                  rw [pmu_ne (by omega), pmu_ne (by omega)]
                · rw [h7 _ _ (by omega)]
                  show pmu _ _ _ _ _ _ = _
                  rw [pmu_eq]
              · unfold pSm at h
                rw [h7 c i (by omega), hD6 c i (by omega) (by omega) (by omega) (by omega), hD3 c i (by omega)]
            · intro c i hc
              rw [h7 c i (by omega), hD6 c i (by omega) (by omega) (by omega) (by omega), hD3 c i (by omega)]
          | succ L ih =>
            intro k D7 hkL h7 h8
            refine wp_in ?_
            simp only [P_X16_put_2, i_kil, i_icon, i_lcon, i_null, i_loadI, i_loadL, i_loadR, i_istore, i_lstore, i_astore, i_iinc, i_dup, i_dup2, i_pop, i_iadd, i_isub, i_imul, i_idiv, i_irem, i_ineg, i_iand, i_ior, i_ishl, i_ishr, i_lxor, i_ladd, i_lsub, i_lmul, i_ldiv, i_lrem, i_lneg, i_lshl, i_lcmp, i_i2l, i_l2i, i_i2b, i_i2s, i_ifeq, i_ifne, i_iflt, i_ifge, i_ifgt, i_ifle, i_cmpeq, i_cmpne, i_cmplt, i_cmpge, i_cmpgt, i_cmple, i_acmpeq, i_acmpne, i_ifnull, i_ifnonnull, i_getI, i_getR, i_putI, i_putZ, i_putR, i_ald, i_ldL, i_ldR, i_ast, i_stL, i_stR, i_alen, i_new, i_newa, i_iret, i_zret, i_lret, i_aret, i_vret, i_raise, i_throw, i_recv, i_objinit, i_tsw3, lget, lset, lput1, lput2, lkil, ltrim, largs, isL, takev, dropv, nthv, pushO, catv, gd, true_and, and_true, Option.some.injEq, Prod.mk.injEq, exists_eq_left', if_true, if_false, reduceCtorEq, Bool.false_eq_true, lcmp_ge, lcmp_lt, lcmp_le, lcmp_gt, lcmp_eq, true_or, or_true, not_true_eq_false, not_false_eq_true, false_implies, true_implies, List.length_cons, List.length_nil, o, i1, i2]
            refine ⟨fun w => absurd w (by omega), fun _ => ?_⟩
            repeat (first | refine ⟨in_small (by omega) (by omega), ?_⟩ | (show (_ → _) ∧ (_ → _); first | refine ⟨by omega, fun _ => ?_⟩ | refine ⟨fun _ => ?_, by omega⟩) | refine ⟨by omega, ?_⟩ | refine ⟨⟨_, rfl, by assumption⟩, ?_⟩ | refine ⟨okT_I _, ?_⟩ | refine call0 (gd_of rfl) ?_)
            simp only [ir1, ip1]
            simp only [P_X16_put_2, i_kil, i_icon, i_lcon, i_null, i_loadI, i_loadL, i_loadR, i_istore, i_lstore, i_astore, i_iinc, i_dup, i_dup2, i_pop, i_iadd, i_isub, i_imul, i_idiv, i_irem, i_ineg, i_iand, i_ior, i_ishl, i_ishr, i_lxor, i_ladd, i_lsub, i_lmul, i_ldiv, i_lrem, i_lneg, i_lshl, i_lcmp, i_i2l, i_l2i, i_i2b, i_i2s, i_ifeq, i_ifne, i_iflt, i_ifge, i_ifgt, i_ifle, i_cmpeq, i_cmpne, i_cmplt, i_cmpge, i_cmpgt, i_cmple, i_acmpeq, i_acmpne, i_ifnull, i_ifnonnull, i_getI, i_getR, i_putI, i_putZ, i_putR, i_ald, i_ldL, i_ldR, i_ast, i_stL, i_stR, i_alen, i_new, i_newa, i_iret, i_zret, i_lret, i_aret, i_vret, i_raise, i_throw, i_recv, i_objinit, i_tsw3, lget, lset, lput1, lput2, lkil, ltrim, largs, isL, takev, dropv, nthv, pushO, catv, gd, true_and, and_true, Option.some.injEq, Prod.mk.injEq, exists_eq_left', if_true, if_false, reduceCtorEq, Bool.false_eq_true, lcmp_ge, lcmp_lt, lcmp_le, lcmp_gt, lcmp_eq, true_or, or_true, not_true_eq_false, not_false_eq_true, false_implies, true_implies, List.length_cons, List.length_nil, o, ip2, ir2]
            repeat (first | refine ⟨in_small (by omega) (by omega), ?_⟩ | (show (_ → _) ∧ (_ → _); first | refine ⟨by omega, fun _ => ?_⟩ | refine ⟨fun _ => ?_, by omega⟩) | refine ⟨by omega, ?_⟩ | refine ⟨⟨_, rfl, by assumption⟩, ?_⟩ | refine ⟨okT_I _, ?_⟩ | refine call0 (gd_of rfl) ?_)
            have ev : D7 (M + 26 + p) (k : Int) = sm k := by
              rw [h7 _ _ (by omega), hD6 _ _ (by omega) (by omega) (by omega) (by omega), hD3 _ _ (by omega)]
              exact m7 k (by omega)
            rw [ev]
            refine ih (k + 1) _ (by omega) (fun c i hc => ?_) fun j hj => ?_
            · rw [pmu_ne (by omega)]; exact h7 c i hc
            · rcases Nat.decEq j k with w | w
              · rw [pmu_ne (by omega)]; exact h8 j (by omega)
              · subst w; exact pmu_eq
        exact loop 9 0 D6 rfl (fun _ _ _ => rfl) fun j hj => absurd hj (Nat.not_lt_zero _)
    refine ⟨fun w3 => one D3 (fun _ _ _ => rfl) fun φ hφ => ?_, fun w3 => ?_⟩
    · rw [hkd, hφ] at w3; exact absurd rfl w3
    · rw [hkd] at w3
      obtain ⟨φ, hφ⟩ := tk_1 (by omega : tkN (sTh s p) = 1)
      obtain ⟨hm1, hs1, hs2, hs3⟩ := hI.poly hp16 hφ
      obtain ⟨hr1, hr2⟩ := d3 r hr16
      simp only [P_X16_put_2, i_kil, i_icon, i_lcon, i_null, i_loadI, i_loadL, i_loadR, i_istore, i_lstore, i_astore, i_iinc, i_dup, i_dup2, i_pop, i_iadd, i_isub, i_imul, i_idiv, i_irem, i_ineg, i_iand, i_ior, i_ishl, i_ishr, i_lxor, i_ladd, i_lsub, i_lmul, i_ldiv, i_lrem, i_lneg, i_lshl, i_lcmp, i_i2l, i_l2i, i_i2b, i_i2s, i_ifeq, i_ifne, i_iflt, i_ifge, i_ifgt, i_ifle, i_cmpeq, i_cmpne, i_cmplt, i_cmpge, i_cmpgt, i_cmple, i_acmpeq, i_acmpne, i_ifnull, i_ifnonnull, i_getI, i_getR, i_putI, i_putZ, i_putR, i_ald, i_ldL, i_ldR, i_ast, i_stL, i_stR, i_alen, i_new, i_newa, i_iret, i_zret, i_lret, i_aret, i_vret, i_raise, i_throw, i_recv, i_objinit, i_tsw3, lget, lset, lput1, lput2, lkil, ltrim, largs, isL, takev, dropv, nthv, pushO, catv, gd, true_and, and_true, Option.some.injEq, Prod.mk.injEq, exists_eq_left', if_true, if_false, reduceCtorEq, Bool.false_eq_true, lcmp_ge, lcmp_lt, lcmp_le, lcmp_gt, lcmp_eq, true_or, or_true, not_true_eq_false, not_false_eq_true, false_implies, true_implies, List.length_cons, List.length_nil, o, d1, d2]
      repeat (first | refine ⟨in_small (by omega) (by omega), ?_⟩ | (show (_ → _) ∧ (_ → _); first | refine ⟨by omega, fun _ => ?_⟩ | refine ⟨fun _ => ?_, by omega⟩) | refine ⟨by omega, ?_⟩ | refine ⟨⟨_, rfl, by assumption⟩, ?_⟩ | refine ⟨okT_I _, ?_⟩ | refine call0 (gd_of rfl) ?_)
      simp only [hr1, hs1]
      have hr3 := hr2.1
      repeat (first | refine ⟨in_small (by omega) (by omega), ?_⟩ | (show (_ → _) ∧ (_ → _); first | refine ⟨by omega, fun _ => ?_⟩ | refine ⟨fun _ => ?_, by omega⟩) | refine ⟨by omega, ?_⟩ | refine ⟨⟨_, rfl, by assumption⟩, ?_⟩ | refine ⟨okT_I _, ?_⟩ | refine call0 (gd_of rfl) ?_)
      refine sp_X18_copy hr2 hs2 (by omega) (hm1.cgr fun c i h1 h2 => hD3 c i (by omega)) fun D4 h4 h5 => ?_
      simp only [P_X16_put_2, i_kil, i_icon, i_lcon, i_null, i_loadI, i_loadL, i_loadR, i_istore, i_lstore, i_astore, i_iinc, i_dup, i_dup2, i_pop, i_iadd, i_isub, i_imul, i_idiv, i_irem, i_ineg, i_iand, i_ior, i_ishl, i_ishr, i_lxor, i_ladd, i_lsub, i_lmul, i_ldiv, i_lrem, i_lneg, i_lshl, i_lcmp, i_i2l, i_l2i, i_i2b, i_i2s, i_ifeq, i_ifne, i_iflt, i_ifge, i_ifgt, i_ifle, i_cmpeq, i_cmpne, i_cmplt, i_cmpge, i_cmpgt, i_cmple, i_acmpeq, i_acmpne, i_ifnull, i_ifnonnull, i_getI, i_getR, i_putI, i_putZ, i_putR, i_ald, i_ldL, i_ldR, i_ast, i_stL, i_stR, i_alen, i_new, i_newa, i_iret, i_zret, i_lret, i_aret, i_vret, i_raise, i_throw, i_recv, i_objinit, i_tsw3, lget, lset, lput1, lput2, lkil, ltrim, largs, isL, takev, dropv, nthv, pushO, catv, gd, true_and, and_true, Option.some.injEq, Prod.mk.injEq, exists_eq_left', if_true, if_false, reduceCtorEq, Bool.false_eq_true, lcmp_ge, lcmp_lt, lcmp_le, lcmp_gt, lcmp_eq, true_or, or_true, not_true_eq_false, not_false_eq_true, false_implies, true_implies, List.length_cons, List.length_nil]
      refine one D4 h4 fun ψ hψ => ?_
      rw [hφ] at hψ
      cases hψ
      exact h5
  · repeat (first | refine ⟨in_small (by omega) (by omega), ?_⟩ | (show (_ → _) ∧ (_ → _); first | refine ⟨by omega, fun _ => ?_⟩ | refine ⟨fun _ => ?_, by omega⟩) | refine ⟨by omega, ?_⟩ | refine ⟨⟨_, rfl, by assumption⟩, ?_⟩ | refine ⟨okT_I _, ?_⟩ | refine call0 (gd_of rfl) ?_)
    refine mo_ans hI hW hN (k := foN (lkN s x 0) (glN y)) (by omega) rfl fun D' h1 h2 => ?_
    simp only [P_X16_put_2, i_kil, i_icon, i_lcon, i_null, i_loadI, i_loadL, i_loadR, i_istore, i_lstore, i_astore, i_iinc, i_dup, i_dup2, i_pop, i_iadd, i_isub, i_imul, i_idiv, i_irem, i_ineg, i_iand, i_ior, i_ishl, i_ishr, i_lxor, i_ladd, i_lsub, i_lmul, i_ldiv, i_lrem, i_lneg, i_lshl, i_lcmp, i_i2l, i_l2i, i_i2b, i_i2s, i_ifeq, i_ifne, i_iflt, i_ifge, i_ifgt, i_ifle, i_cmpeq, i_cmpne, i_cmplt, i_cmpge, i_cmpgt, i_cmple, i_acmpeq, i_acmpne, i_ifnull, i_ifnonnull, i_getI, i_getR, i_putI, i_putZ, i_putR, i_ald, i_ldL, i_ldR, i_ast, i_stL, i_stR, i_alen, i_new, i_newa, i_iret, i_zret, i_lret, i_aret, i_vret, i_raise, i_throw, i_recv, i_objinit, i_tsw3, lget, lset, lput1, lput2, lkil, ltrim, largs, isL, takev, dropv, nthv, pushO, catv, gd, true_and, and_true, Option.some.injEq, Prod.mk.injEq, exists_eq_left', if_true, if_false, reduceCtorEq, Bool.false_eq_true, lcmp_ge, lcmp_lt, lcmp_le, lcmp_gt, lcmp_eq, true_or, or_true, not_true_eq_false, not_false_eq_true, false_implies, true_implies, List.length_cons, List.length_nil]
    exact K D' _ _ (rR_f (by omega) rfl) h1 h2
end MOS
