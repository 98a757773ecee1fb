/-! the model's calls: root, narrow -/
-- needs: ee.mterm
set_option maxRecDepth 100000
set_option linter.unusedVariables false
section MRT
variable {M N : Nat} {S : Stat} {s : Cst}
theorem mB_of {D : Dat} {q : Rq} {f : Nat → Int} {a : Nat} (hs : smW q f a) (hq : q.2 ≤ 8) {F : Nat → Nat → Int} {n : Nat → Nat} {m : Nat} (hD : mhD D M F n m) (hG : chG f (brow (zder f) (a - 1)) a (a - 1) F n m) : mB (zp q.1 (q.2 + 1)) D M := by
  obtain ⟨h1, h2, h3, h4, h5, h6, h7⟩ := hs
  have hz : zder f (a - 1) ≠ 0 := by
    unfold zder
    rw [show a - 1 + 1 = a by omega]
    exact Int.mul_ne_zero h3 (by omega)
  have hzb : ∀ k, k ≤ a - 1 → (zder f k).natAbs ≤ 2 ^ 68 := fun k hk => by
    unfold zder
    rw [Int.natAbs_mul]
    have e1 : (((k + 1 : Nat) : Int)).natAbs ≤ 8 := by omega
    have e2 := h6 (k + 1) (by omega)
    calc (f (k + 1)).natAbs * (((k + 1 : Nat) : Int)).natAbs ≤ 2 ^ 47 * 8 := Nat.mul_le_mul e2 e1
      _ ≤ 2 ^ 68 := by decide
  refine ⟨F, n, m, zp f (a + 1), by have := hG.2.1; omega, hD, (hG.sz (by omega) (by omega) (fun k hk => Nat.le_trans (h6 k hk) (by decide)) fun k hk => Nat.le_trans (brow_abs hk hz) (hzb k hk)).mh fun i hi => (hD.2 i hi).2.1, mG_pc hG h1 h3, h5⟩
set_option maxHeartbeats 4000000 in
theorem mo_root {E : Ex} {B : Nat × Nat} {D : Dat} {k x : Int} (hI : moI S D M s) (hW : crW N s) (hN : N < 1000) (K : mK E B S D M (oRoot k x s)) : Wp P_X16_root E 0 [some (aR M), some (aI k), some (aI x)] [] B S D := by
  have o := hI.1.o
  obtain ⟨a1, a2⟩ := hI.1.h12
  obtain ⟨b1, b2⟩ := hI.1.h14
  obtain ⟨e1, e2⟩ := hI.1.h17
  obtain ⟨f1, f2, f3⟩ := hI.1.h18
  obtain ⟨g1, g2⟩ := hI.1.h19
  obtain ⟨-, -, -, -, -, -, i1, i2, i3⟩ := hI.1.sg
  obtain ⟨-, -, -, -, -, -, -, -, -, t1, ⟨t2, t3⟩, t4, t5, t6, t7⟩ := hI.1.mr
  obtain ⟨q77, qs⟩ := hI.2.2.2.2.2.2.2.2.1
  have hgl := glN_le x
  have two : ∀ (f : Nat) (R : Cst → Int → Prop), 1 ≤ f ∧ f ≤ 7 → mK E B S D M R → R (uFn s f) (-(f : Int)) → Wp P_X16_root E 2 [] [.inl (-(f : Int)), .inr (.inr (some M))] B S D := fun f R h1 hK h2 => by
    refine wp_in ?_
    simp only [P_X16_root, i_kil, i_icon, i_lcon, i_null, i_loadI, i_loadL, i_loadR, i_istore, i_lstore, i_astore, i_iinc, i_dup, i_dup2, i_pop, i_iadd, i_isub, i_imul, i_idiv, i_irem, i_ineg, i_iand, i_ior, i_ishl, i_ishr, i_lxor, i_ladd, i_lsub, i_lmul, i_ldiv, i_lrem, i_lneg, i_lshl, i_lcmp, i_i2l, i_l2i, i_i2b, i_i2s, i_ifeq, i_ifne, i_iflt, i_ifge, i_ifgt, i_ifle, i_cmpeq, i_cmpne, i_cmplt, i_cmpge, i_cmpgt, i_cmple, i_acmpeq, i_acmpne, i_ifnull, i_ifnonnull, i_getI, i_getR, i_putI, i_putZ, i_putR, i_ald, i_ldL, i_ldR, i_ast, i_stL, i_stR, i_alen, i_new, i_newa, i_iret, i_zret, i_lret, i_aret, i_vret, i_raise, i_throw, i_recv, i_objinit, i_tsw3, lget, lset, lput1, lput2, lkil, ltrim, largs, isL, takev, dropv, nthv, pushO, catv, gd, true_and, and_true, Option.some.injEq, Prod.mk.injEq, exists_eq_left', if_true, if_false, reduceCtorEq, Bool.false_eq_true, lcmp_ge, lcmp_lt, lcmp_le, lcmp_gt, lcmp_eq, true_or, or_true, not_true_eq_false, not_false_eq_true, false_implies, true_implies, List.length_cons, List.length_nil, o]
    repeat (first | refine ⟨in_small (by omega) (by omega), ?_⟩ | (show (_ → _) ∧ (_ → _); first | refine ⟨by omega, fun _ => ?_⟩ | refine ⟨fun _ => ?_, by omega⟩) | refine ⟨by omega, ?_⟩ | refine ⟨⟨_, rfl, by assumption⟩, ?_⟩ | refine ⟨okT_I _, ?_⟩ | refine call0 (gd_of rfl) ?_)
    refine mo_ans hI hW hN h1 rfl fun D' h3 h4 => ?_
    simp only [P_X16_root, i_kil, i_icon, i_lcon, i_null, i_loadI, i_loadL, i_loadR, i_istore, i_lstore, i_astore, i_iinc, i_dup, i_dup2, i_pop, i_iadd, i_isub, i_imul, i_idiv, i_irem, i_ineg, i_iand, i_ior, i_ishl, i_ishr, i_lxor, i_ladd, i_lsub, i_lmul, i_ldiv, i_lrem, i_lneg, i_lshl, i_lcmp, i_i2l, i_l2i, i_i2b, i_i2s, i_ifeq, i_ifne, i_iflt, i_ifge, i_ifgt, i_ifle, i_cmpeq, i_cmpne, i_cmplt, i_cmpge, i_cmpgt, i_cmple, i_acmpeq, i_acmpne, i_ifnull, i_ifnonnull, i_getI, i_getR, i_putI, i_putZ, i_putR, i_ald, i_ldL, i_ldR, i_ast, i_stL, i_stR, i_alen, i_new, i_newa, i_iret, i_zret, i_lret, i_aret, i_vret, i_raise, i_throw, i_recv, i_objinit, i_tsw3, lget, lset, lput1, lput2, lkil, ltrim, largs, isL, takev, dropv, nthv, pushO, catv, gd, true_and, and_true, Option.some.injEq, Prod.mk.injEq, exists_eq_left', if_true, if_false, reduceCtorEq, Bool.false_eq_true, lcmp_ge, lcmp_lt, lcmp_le, lcmp_gt, lcmp_eq, true_or, or_true, not_true_eq_false, not_false_eq_true, false_implies, true_implies, List.length_cons, List.length_nil]
    exact hK D' _ _ h2 h3 h4
  have one : (glN x ≠ 0 ∨ ∀ q L, sRo s = some (q, L) → ¬ (0 ≤ k ∧ k < L.length)) → Wp P_X16_root E 1 [some (aR M), none, none, some (aI (-(glN x : Int)))] [] B S D := fun h2 => by
    refine wp_in ?_
    simp only [P_X16_root, i_kil, i_icon, i_lcon, i_null, i_loadI, i_loadL, i_loadR, i_istore, i_lstore, i_astore, i_iinc, i_dup, i_dup2, i_pop, i_iadd, i_isub, i_imul, i_idiv, i_irem, i_ineg, i_iand, i_ior, i_ishl, i_ishr, i_lxor, i_ladd, i_lsub, i_lmul, i_ldiv, i_lrem, i_lneg, i_lshl, i_lcmp, i_i2l, i_l2i, i_i2b, i_i2s, i_ifeq, i_ifne, i_iflt, i_ifge, i_ifgt, i_ifle, i_cmpeq, i_cmpne, i_cmplt, i_cmpge, i_cmpgt, i_cmple, i_acmpeq, i_acmpne, i_ifnull, i_ifnonnull, i_getI, i_getR, i_putI, i_putZ, i_putR, i_ald, i_ldL, i_ldR, i_ast, i_stL, i_stR, i_alen, i_new, i_newa, i_iret, i_zret, i_lret, i_aret, i_vret, i_raise, i_throw, i_recv, i_objinit, i_tsw3, lget, lset, lput1, lput2, lkil, ltrim, largs, isL, takev, dropv, nthv, pushO, catv, gd, true_and, and_true, Option.some.injEq, Prod.mk.injEq, exists_eq_left', if_true, if_false, reduceCtorEq, Bool.false_eq_true, lcmp_ge, lcmp_lt, lcmp_le, lcmp_gt, lcmp_eq, true_or, or_true, not_true_eq_false, not_false_eq_true, false_implies, true_implies, List.length_cons, List.length_nil]
    refine ⟨fun w => ?_, fun w => ?_⟩
    · exact two 7 _ (by decide) K (rR_q (by omega) (.inr ⟨by rcases h2 with h2 | h2; omega; exact h2, rfl, rfl⟩))
    · exact two (glN x) _ (by omega) K (rR_f (by omega) rfl)
  refine wp_in ?_
  simp only [P_X16_root, i_kil, i_icon, i_lcon, i_null, i_loadI, i_loadL, i_loadR, i_istore, i_lstore, i_astore, i_iinc, i_dup, i_dup2, i_pop, i_iadd, i_isub, i_imul, i_idiv, i_irem, i_ineg, i_iand, i_ior, i_ishl, i_ishr, i_lxor, i_ladd, i_lsub, i_lmul, i_ldiv, i_lrem, i_lneg, i_lshl, i_lcmp, i_i2l, i_l2i, i_i2b, i_i2s, i_ifeq, i_ifne, i_iflt, i_ifge, i_ifgt, i_ifle, i_cmpeq, i_cmpne, i_cmplt, i_cmpge, i_cmpgt, i_cmple, i_acmpeq, i_acmpne, i_ifnull, i_ifnonnull, i_getI, i_getR, i_putI, i_putZ, i_putR, i_ald, i_ldL, i_ldR, i_ast, i_stL, i_stR, i_alen, i_new, i_newa, i_iret, i_zret, i_lret, i_aret, i_vret, i_raise, i_throw, i_recv, i_objinit, i_tsw3, lget, lset, lput1, lput2, lkil, ltrim, largs, isL, takev, dropv, nthv, pushO, catv, gd, true_and, and_true, Option.some.injEq, Prod.mk.injEq, exists_eq_left', if_true, if_false, reduceCtorEq, Bool.false_eq_true, lcmp_ge, lcmp_lt, lcmp_le, lcmp_gt, lcmp_eq, true_or, or_true, not_true_eq_false, not_false_eq_true, false_implies, true_implies, List.length_cons, List.length_nil, o]
  repeat (first | refine ⟨in_small (by omega) (by omega), ?_⟩ | (show (_ → _) ∧ (_ → _); first | refine ⟨by omega, fun _ => ?_⟩ | refine ⟨fun _ => ?_, by omega⟩) | refine ⟨by omega, ?_⟩ | refine ⟨⟨_, rfl, by assumption⟩, ?_⟩ | refine ⟨okT_I _, ?_⟩ | refine call0 (gd_of rfl) ?_)
  refine sp_goal o ?_
  simp only [P_X16_root, i_kil, i_icon, i_lcon, i_null, i_loadI, i_loadL, i_loadR, i_istore, i_lstore, i_astore, i_iinc, i_dup, i_dup2, i_pop, i_iadd, i_isub, i_imul, i_idiv, i_irem, i_ineg, i_iand, i_ior, i_ishl, i_ishr, i_lxor, i_ladd, i_lsub, i_lmul, i_ldiv, i_lrem, i_lneg, i_lshl, i_lcmp, i_i2l, i_l2i, i_i2b, i_i2s, i_ifeq, i_ifne, i_iflt, i_ifge, i_ifgt, i_ifle, i_cmpeq, i_cmpne, i_cmplt, i_cmpge, i_cmpgt, i_cmple, i_acmpeq, i_acmpne, i_ifnull, i_ifnonnull, i_getI, i_getR, i_putI, i_putZ, i_putR, i_ald, i_ldL, i_ldR, i_ast, i_stL, i_stR, i_alen, i_new, i_newa, i_iret, i_zret, i_lret, i_aret, i_vret, i_raise, i_throw, i_recv, i_objinit, i_tsw3, lget, lset, lput1, lput2, lkil, ltrim, largs, isL, takev, dropv, nthv, pushO, catv, gd, true_and, and_true, Option.some.injEq, Prod.mk.injEq, exists_eq_left', if_true, if_false, reduceCtorEq, Bool.false_eq_true, lcmp_ge, lcmp_lt, lcmp_le, lcmp_gt, lcmp_eq, true_or, or_true, not_true_eq_false, not_false_eq_true, false_implies, true_implies, List.length_cons, List.length_nil, o, a1, a2, f1, f2, t1, t2, t4, t5]
  rcases hro : sRo s with _ | ⟨q, L⟩
  · rw [if_pos hro] at q77
    refine ⟨fun w => one (.inl (by omega)), fun w => ⟨fun _ => one (.inr fun q L z => by rw [hro] at z; exact nomatch z), fun z => absurd q77 z⟩⟩
  · rw [if_neg (by rw [hro]; exact fun z => nomatch z)] at q77
    obtain ⟨⟨l1, l2, l3⟩, hL⟩ := qs q L hro
    rw [l1]
    refine ⟨fun w => one (.inl (by omega)), fun w => ⟨fun z => by omega, fun _ => ⟨fun z => one (.inr fun q' L' y => by omega), fun z => ⟨fun z2 => ?_, fun z2 => one (.inr fun q' L' y => ?_)⟩⟩⟩⟩
    · obtain ⟨p, hp, hp16⟩ := gl_in (by omega : glN x = 0)
      obtain ⟨j, hj⟩ : ∃ j : Nat, k = j := ⟨k.toNat, by omega⟩
      subst hp; subst hj
      obtain ⟨⟨hh, ww⟩, hLj⟩ : ∃ y, L[j]? = some y := ⟨L[j]'(by omega), List.getElem?_eq_getElem (by omega)⟩
      obtain ⟨y1, y2⟩ := l3 j _ hLj
      have hroW := hW.2.2.2.2.2.2.2.1 _ hro
      have hLne : L ≠ [] := fun e => by rw [e] at hLj; exact nomatch hLj
      obtain ⟨sm, aa, m1, m2, m3⟩ := hL hLne
      obtain ⟨w4, w5, w6, w7⟩ : hh ≤ 389 ∧ 0 ≤ ww ∧ ww < ((2 ^ hh : Nat) : Int) ∧ nR (zp q.1 (q.2 + 1)) hh ww = 1 := by
        rcases hroW with z | ⟨z1, z2, z3⟩
        · exact absurd z hLne
        · exact z3 hh ww (List.mem_of_getElem? hLj)
      obtain ⟨fr1, fr2⟩ := f3 p hp16
      obtain ⟨tr1, tr2⟩ := t3 j (by omega)
      have fr3 := fr2.1
      repeat (first | refine ⟨in_small (by omega) (by omega), ?_⟩ | (show (_ → _) ∧ (_ → _); first | refine ⟨by omega, fun _ => ?_⟩ | refine ⟨fun _ => ?_, by omega⟩) | refine ⟨by omega, ?_⟩ | refine ⟨⟨_, rfl, by assumption⟩, ?_⟩ | refine ⟨okT_I _, ?_⟩ | refine call0 (gd_of rfl) ?_)
      simp only [fr1, tr1]
      repeat (first | refine ⟨in_small (by omega) (by omega), ?_⟩ | (show (_ → _) ∧ (_ → _); first | refine ⟨by omega, fun _ => ?_⟩ | refine ⟨fun _ => ?_, by omega⟩) | refine ⟨by omega, ?_⟩ | refine ⟨⟨_, rfl, by assumption⟩, ?_⟩ | refine ⟨okT_I _, ?_⟩ | refine call0 (gd_of rfl) ?_)
      have hb := mlw_b w5 w6 (by omega)
      refine sp_X17_copy fr2 tr2 (y1.cgr fun c i hc => pmu_ne (by omega)) (Int.lt_of_lt_of_le hb pw17) (Int.lt_of_lt_of_le hb pw17) (by decide) fun D2 u1 u2 => ?_
      have z74 : D2 (M + 11295) (j : Int) = hh := by rw [u1 _ _ (by omega) (by omega), pmu_ne (by omega)]; exact y2
      have z76 : pmu (pmu D2 (M + 76) (p : Int) hh) (M + 23) p 0 M 76 = aa := by rw [pmu_ne (by omega), pmu_ne (by omega), u1 _ _ (by omega) (by omega), pmu_ne (by omega)]; exact m2
      simp only [P_X16_root, i_kil, i_icon, i_lcon, i_null, i_loadI, i_loadL, i_loadR, i_istore, i_lstore, i_astore, i_iinc, i_dup, i_dup2, i_pop, i_iadd, i_isub, i_imul, i_idiv, i_irem, i_ineg, i_iand, i_ior, i_ishl, i_ishr, i_lxor, i_ladd, i_lsub, i_lmul, i_ldiv, i_lrem, i_lneg, i_lshl, i_lcmp, i_i2l, i_l2i, i_i2b, i_i2s, i_ifeq, i_ifne, i_iflt, i_ifge, i_ifgt, i_ifle, i_cmpeq, i_cmpne, i_cmplt, i_cmpge, i_cmpgt, i_cmple, i_acmpeq, i_acmpne, i_ifnull, i_ifnonnull, i_getI, i_getR, i_putI, i_putZ, i_putR, i_ald, i_ldL, i_ldR, i_ast, i_stL, i_stR, i_alen, i_new, i_newa, i_iret, i_zret, i_lret, i_aret, i_vret, i_raise, i_throw, i_recv, i_objinit, i_tsw3, lget, lset, lput1, lput2, lkil, ltrim, largs, isL, takev, dropv, nthv, pushO, catv, gd, true_and, and_true, Option.some.injEq, Prod.mk.injEq, exists_eq_left', if_true, if_false, reduceCtorEq, Bool.false_eq_true, lcmp_ge, lcmp_lt, lcmp_le, lcmp_gt, lcmp_eq, true_or, or_true, not_true_eq_false, not_false_eq_true, false_implies, true_implies, List.length_cons, List.length_nil, o, g1, g2, t4, t5, b1, b2, e1, e2]
      repeat (first | refine ⟨in_small (by omega) (by omega), ?_⟩ | (show (_ → _) ∧ (_ → _); first | refine ⟨by omega, fun _ => ?_⟩ | refine ⟨fun _ => ?_, by omega⟩) | refine ⟨by omega, ?_⟩ | refine ⟨⟨_, rfl, by assumption⟩, ?_⟩ | refine ⟨okT_I _, ?_⟩ | refine call0 (gd_of rfl) ?_)
      rw [z74]
      repeat (first | refine ⟨in_small (by omega) (by omega), ?_⟩ | (show (_ → _) ∧ (_ → _); first | refine ⟨by omega, fun _ => ?_⟩ | refine ⟨fun _ => ?_, by omega⟩) | refine ⟨by omega, ?_⟩ | refine ⟨⟨_, rfl, by assumption⟩, ?_⟩ | refine ⟨okT_I _, ?_⟩ | refine call0 (gd_of rfl) ?_)
      rw [z76]
      let D3 := pmu (pmu (pmu D2 (M + 76) (p : Int) hh) (M + 23) p 0) (M + 42) p aa
      have k3 : ∀ c i, ((c ≠ M + 21 ∧ c ≠ M + 76 ∧ c ≠ M + 23 ∧ c ≠ M + 42) ∨ i ≠ (p : Int)) → c ≠ M + 44 + 2 * p → c ≠ M + 44 + 2 * p + 1 → D3 c i = D c i := fun c i h1 h2 h3 => by
        show pmu _ _ _ _ c i = _
        rw [pmu_ne (by omega), pmu_ne (by omega), pmu_ne (by omega), u1 c i h2 h3, pmu_ne (by omega)]
      have loop : ∀ (L' i : Nat) (D4 : Dat), i + L' = 9 → (∀ c z, c ≠ M + 26 + p → D4 c z = D3 c z) → (∀ z : Nat, z < i → D4 (M + 26 + p) z = sm z) → Wp P_X16_root E 3 [some (aR M), none, some (aI (p : Int)), none, some (aI (i : Int))] [] B S D4 := by
        intro L'
        induction L' with
        | zero =>
          intro i D4 hi h7 h8
          have : i = 9 := by omega
          subst this
          refine wp_in ?_
          simp only [P_X16_root, i_kil, i_icon, i_lcon, i_null, i_loadI, i_loadL, i_loadR, i_istore, i_lstore, i_astore, i_iinc, i_dup, i_dup2, i_pop, i_iadd, i_isub, i_imul, i_idiv, i_irem, i_ineg, i_iand, i_ior, i_ishl, i_ishr, i_lxor, i_ladd, i_lsub, i_lmul, i_ldiv, i_lrem, i_lneg, i_lshl, i_lcmp, i_i2l, i_l2i, i_i2b, i_i2s, i_ifeq, i_ifne, i_iflt, i_ifge, i_ifgt, i_ifle, i_cmpeq, i_cmpne, i_cmplt, i_cmpge, i_cmpgt, i_cmple, i_acmpeq, i_acmpne, i_ifnull, i_ifnonnull, i_getI, i_getR, i_putI, i_putZ, i_putR, i_ald, i_ldL, i_ldR, i_ast, i_stL, i_stR, i_alen, i_new, i_newa, i_iret, i_zret, i_lret, i_aret, i_vret, i_raise, i_throw, i_recv, i_objinit, i_tsw3, lget, lset, lput1, lput2, lkil, ltrim, largs, isL, takev, dropv, nthv, pushO, catv, gd, true_and, and_true, Option.some.injEq, Prod.mk.injEq, exists_eq_left', if_true, if_false, reduceCtorEq, Bool.false_eq_true, lcmp_ge, lcmp_lt, lcmp_le, lcmp_gt, lcmp_eq, true_or, or_true, not_true_eq_false, not_false_eq_true, false_implies, true_implies, List.length_cons, List.length_nil]
          refine ⟨fun _ => ?_, fun w => absurd w (by decide)⟩
          refine K D4 _ _ (rR_q (by omega) (.inl ⟨q, L, hh, ww, hro, z, hLj, rfl, rfl⟩)) (hI.place hW (by omega) (fun c i h1 h2 => ?_) ⟨?_, ?_, ?_, ?_, sm, aa, m1, ?_, h8⟩ (hI.sm.cgr fun c i h => ?_)) fun c i hc => ?_
          · unfold pPl at h2
            rw [h7 c i (by omega), k3 c i (by omega) (by omega) (by omega)]
          · rw [h7 _ _ (by omega)]
            show pmu _ _ _ _ _ _ = _
            rw [pmu_ne (by omega), pmu_ne (by omega), pmu_ne (by omega)]
            show D2 (M + 21) (p : Int) = 3
            rw [u1 _ _ (by omega) (by omega), pmu_eq]
          · rw [h7 _ _ (by omega)]
            show pmu _ _ _ _ _ _ = _
            rw [pmu_ne (by omega)]
            show pmu _ _ _ _ (M + 23) (p : Int) = 0
            rw [pmu_eq]
          · rw [h7 _ _ (by omega)]
            show pmu _ _ _ _ _ _ = _
            rw [pmu_ne (by omega), pmu_ne (by omega)]
            show pmu _ _ _ _ (M + 76) (p : Int) = _
            rw [pmu_eq]
          · refine u2.cgr fun c i hc => ?_
            show D4 c i = _
            rw [h7 c i (by
              have hc : c = M + 44 + 2 * p ∨ c = M + 44 + 2 * p + 1 := hc
              omega)]
            show pmu _ _ _ _ _ _ = _
            have hc : c = M + 44 + 2 * p ∨ c = M + 44 + 2 * p + 1 := hc
            rw [pmu_ne (by omega), pmu_ne (by omega), pmu_ne (by omega)]
          · rw [h7 _ _ (by omega)]
            show pmu _ _ _ _ (M + 42) (p : Int) = _
            rw [pmu_eq]
          · unfold pSm at h
            rw [h7 c i (by omega), k3 c i (by omega) (by omega) (by omega)]
          · rw [h7 c i (by omega), k3 c i (by omega) (by omega) (by omega)]
        | succ L' ih =>
          intro i D4 hi h7 h8
          obtain ⟨ir1, ir2⟩ := i3 p hp16
          refine wp_in ?_
          simp only [P_X16_root, i_kil, i_icon, i_lcon, i_null, i_loadI, i_loadL, i_loadR, i_istore, i_lstore, i_astore, i_iinc, i_dup, i_dup2, i_pop, i_iadd, i_isub, i_imul, i_idiv, i_irem, i_ineg, i_iand, i_ior, i_ishl, i_ishr, i_lxor, i_ladd, i_lsub, i_lmul, i_ldiv, i_lrem, i_lneg, i_lshl, i_lcmp, i_i2l, i_l2i, i_i2b, i_i2s, i_ifeq, i_ifne, i_iflt, i_ifge, i_ifgt, i_ifle, i_cmpeq, i_cmpne, i_cmplt, i_cmpge, i_cmpgt, i_cmple, i_acmpeq, i_acmpne, i_ifnull, i_ifnonnull, i_getI, i_getR, i_putI, i_putZ, i_putR, i_ald, i_ldL, i_ldR, i_ast, i_stL, i_stR, i_alen, i_new, i_newa, i_iret, i_zret, i_lret, i_aret, i_vret, i_raise, i_throw, i_recv, i_objinit, i_tsw3, lget, lset, lput1, lput2, lkil, ltrim, largs, isL, takev, dropv, nthv, pushO, catv, gd, true_and, and_true, Option.some.injEq, Prod.mk.injEq, exists_eq_left', if_true, if_false, reduceCtorEq, Bool.false_eq_true, lcmp_ge, lcmp_lt, lcmp_le, lcmp_gt, lcmp_eq, true_or, or_true, not_true_eq_false, not_false_eq_true, false_implies, true_implies, List.length_cons, List.length_nil, o, i1, i2, t6, t7]
          refine ⟨fun w => by omega, fun _ => ?_⟩
          repeat (first | refine ⟨in_small (by omega) (by omega), ?_⟩ | (show (_ → _) ∧ (_ → _); first | refine ⟨by omega, fun _ => ?_⟩ | refine ⟨fun _ => ?_, by omega⟩) | refine ⟨by omega, ?_⟩ | refine ⟨⟨_, rfl, by assumption⟩, ?_⟩ | refine ⟨okT_I _, ?_⟩ | refine call0 (gd_of rfl) ?_)
          simp only [ir1]
          simp only [P_X16_root, i_kil, i_icon, i_lcon, i_null, i_loadI, i_loadL, i_loadR, i_istore, i_lstore, i_astore, i_iinc, i_dup, i_dup2, i_pop, i_iadd, i_isub, i_imul, i_idiv, i_irem, i_ineg, i_iand, i_ior, i_ishl, i_ishr, i_lxor, i_ladd, i_lsub, i_lmul, i_ldiv, i_lrem, i_lneg, i_lshl, i_lcmp, i_i2l, i_l2i, i_i2b, i_i2s, i_ifeq, i_ifne, i_iflt, i_ifge, i_ifgt, i_ifle, i_cmpeq, i_cmpne, i_cmplt, i_cmpge, i_cmpgt, i_cmple, i_acmpeq, i_acmpne, i_ifnull, i_ifnonnull, i_getI, i_getR, i_putI, i_putZ, i_putR, i_ald, i_ldL, i_ldR, i_ast, i_stL, i_stR, i_alen, i_new, i_newa, i_iret, i_zret, i_lret, i_aret, i_vret, i_raise, i_throw, i_recv, i_objinit, i_tsw3, lget, lset, lput1, lput2, lkil, ltrim, largs, isL, takev, dropv, nthv, pushO, catv, gd, true_and, and_true, Option.some.injEq, Prod.mk.injEq, exists_eq_left', if_true, if_false, reduceCtorEq, Bool.false_eq_true, lcmp_ge, lcmp_lt, lcmp_le, lcmp_gt, lcmp_eq, true_or, or_true, not_true_eq_false, not_false_eq_true, false_implies, true_implies, List.length_cons, List.length_nil, ir2, t7]
          repeat (first | refine ⟨in_small (by omega) (by omega), ?_⟩ | (show (_ → _) ∧ (_ → _); first | refine ⟨by omega, fun _ => ?_⟩ | refine ⟨fun _ => ?_, by omega⟩) | refine ⟨by omega, ?_⟩ | refine ⟨⟨_, rfl, by assumption⟩, ?_⟩ | refine ⟨okT_I _, ?_⟩ | refine call0 (gd_of rfl) ?_)
          have ev : D4 (M + 11296) (i : Int) = sm i := by
            rw [h7 _ _ (by omega), k3 _ _ (by omega) (by omega) (by omega)]
            exact m3 i (by omega)
          rw [ev]
          refine ih (i + 1) _ (by omega) (fun c z hc => ?_) fun z hz => ?_
          · rw [pmu_ne (by omega)]; exact h7 c z hc
          · rcases Nat.decEq z i with w | w
            · rw [pmu_ne (by omega)]; exact h8 z (by omega)
            · subst w; exact pmu_eq
      exact loop 9 0 D3 rfl (fun _ _ _ => rfl) fun z hz => absurd hz (Nat.not_lt_zero _)
    · rw [hro] at y
      cases y
      omega
end MRT
