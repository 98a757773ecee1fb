/-! the model's calls: ideal, term -/
-- needs: ec.mmem
set_option maxRecDepth 100000
set_option linter.unusedVariables false
section MID
variable {M N : Nat} {S : Stat} {s : Cst}
set_option maxHeartbeats 4000000 in
theorem mo_ideal {E : Ex} {B : Nat × Nat} {D : Dat} {x : Int} (hI : moI S D M s) (hW : crW N s) (hN : N < 1000) (K : mK E B S D M (oIdeal x s)) : Wp P_X16_ideal E 0 [some (aR M), some (aI x)] [] B S D := by
  have o := hI.1.o
  obtain ⟨c1, c2, c3⟩ := hI.1.h13
  obtain ⟨-, -, -, -, -, -, -, ⟨a1, a2⟩, ⟨b1, b2⟩, ⟨f1, f2⟩⟩ := hI.1.mt.1
  obtain ⟨i4, i31, id⟩ := hI.2.2.2.2.1
  have hle := lkN_le s x 1
  refine wp_in ?_
  simp only [P_X16_ideal, i_kil, i_icon, i_lcon, i_null, i_loadI, i_loadL, i_loadR, i_istore, i_lstore, i_astore, i_iinc, i_dup, i_dup2, i_pop, i_iadd, i_isub, i_imul, i_idiv, i_irem, i_ineg, i_iand, i_ior, i_ishl, i_ishr, i_lxor, i_ladd, i_lsub, i_lmul, i_ldiv, i_lrem, i_lneg, i_lshl, i_lcmp, i_i2l, i_l2i, i_i2b, i_i2s, i_ifeq, i_ifne, i_iflt, i_ifge, i_ifgt, i_ifle, i_cmpeq, i_cmpne, i_cmplt, i_cmpge, i_cmpgt, i_cmple, i_acmpeq, i_acmpne, i_ifnull, i_ifnonnull, i_getI, i_getR, i_putI, i_putZ, i_putR, i_ald, i_ldL, i_ldR, i_ast, i_stL, i_stR, i_alen, i_new, i_newa, i_iret, i_zret, i_lret, i_aret, i_vret, i_raise, i_throw, i_recv, i_objinit, i_tsw3, lget, lset, lput1, lput2, lkil, ltrim, largs, isL, takev, dropv, nthv, pushO, catv, gd, true_and, and_true, Option.some.injEq, Prod.mk.injEq, exists_eq_left', if_true, if_false, reduceCtorEq, Bool.false_eq_true, lcmp_ge, lcmp_lt, lcmp_le, lcmp_gt, lcmp_eq, true_or, or_true, not_true_eq_false, not_false_eq_true, false_implies, true_implies, List.length_cons, List.length_nil, o]
  repeat (first | refine ⟨in_small (by omega) (by omega), ?_⟩ | (show (_ → _) ∧ (_ → _); first | refine ⟨by omega, fun _ => ?_⟩ | refine ⟨fun _ => ?_, by omega⟩) | refine ⟨by omega, ?_⟩ | refine ⟨⟨_, rfl, by assumption⟩, ?_⟩ | refine ⟨okT_I _, ?_⟩ | refine call0 (gd_of rfl) ?_)
  refine mo_look (k := 1) hI rfl ?_
  simp only [P_X16_ideal, i_kil, i_icon, i_lcon, i_null, i_loadI, i_loadL, i_loadR, i_istore, i_lstore, i_astore, i_iinc, i_dup, i_dup2, i_pop, i_iadd, i_isub, i_imul, i_idiv, i_irem, i_ineg, i_iand, i_ior, i_ishl, i_ishr, i_lxor, i_ladd, i_lsub, i_lmul, i_ldiv, i_lrem, i_lneg, i_lshl, i_lcmp, i_i2l, i_l2i, i_i2b, i_i2s, i_ifeq, i_ifne, i_iflt, i_ifge, i_ifgt, i_ifle, i_cmpeq, i_cmpne, i_cmplt, i_cmpge, i_cmpgt, i_cmple, i_acmpeq, i_acmpne, i_ifnull, i_ifnonnull, i_getI, i_getR, i_putI, i_putZ, i_putR, i_ald, i_ldL, i_ldR, i_ast, i_stL, i_stR, i_alen, i_new, i_newa, i_iret, i_zret, i_lret, i_aret, i_vret, i_raise, i_throw, i_recv, i_objinit, i_tsw3, lget, lset, lput1, lput2, lkil, ltrim, largs, isL, takev, dropv, nthv, pushO, catv, gd, true_and, and_true, Option.some.injEq, Prod.mk.injEq, exists_eq_left', if_true, if_false, reduceCtorEq, Bool.false_eq_true, lcmp_ge, lcmp_lt, lcmp_le, lcmp_gt, lcmp_eq, true_or, or_true, not_true_eq_false, not_false_eq_true, false_implies, true_implies, List.length_cons, List.length_nil, o, c1, c2]
  refine ⟨fun w => ?_, fun w => ?_⟩
  · have h0 : lkN s x 1 = 0 := by omega
    obtain ⟨p, φ, hp, hp16, ht⟩ := lk1 h0
    subst hp
    obtain ⟨p1, p2, p3, p4⟩ := hI.poly hp16 ht
    have hpw := p1.w
    obtain ⟨n, e, hn⟩ := p1
    have hcn := hn.cnt
    have hc : D (M + 12195 + 244 * p) 0 = (n : Int) := hn.2.1
    have g1 := p3.2.1
    have g2 := p3.2.2.1
    have g3 := p3.2.2.2.1
    obtain ⟨g4, g5⟩ := p3.2.2.2.2.1
    have one : n ≠ 0 → ¬ (pcnt φ 455 ≤ 12 ∧ degI φ 455 ≤ 4 ∧ isPln φ 99 ∧ (sId s).1 < 4) → Wp P_X16_ideal E 1 [some (aR M)] [] B S D := fun hz h => by
      refine wp_in ?_
      simp only [P_X16_ideal, i_kil, i_icon, i_lcon, i_null, i_loadI, i_loadL, i_loadR, i_istore, i_lstore, i_astore, i_iinc, i_dup, i_dup2, i_pop, i_iadd, i_isub, i_imul, i_idiv, i_irem, i_ineg, i_iand, i_ior, i_ishl, i_ishr, i_lxor, i_ladd, i_lsub, i_lmul, i_ldiv, i_lrem, i_lneg, i_lshl, i_lcmp, i_i2l, i_l2i, i_i2b, i_i2s, i_ifeq, i_ifne, i_iflt, i_ifge, i_ifgt, i_ifle, i_cmpeq, i_cmpne, i_cmplt, i_cmpge, i_cmpgt, i_cmple, i_acmpeq, i_acmpne, i_ifnull, i_ifnonnull, i_getI, i_getR, i_putI, i_putZ, i_putR, i_ald, i_ldL, i_ldR, i_ast, i_stL, i_stR, i_alen, i_new, i_newa, i_iret, i_zret, i_lret, i_aret, i_vret, i_raise, i_throw, i_recv, i_objinit, i_tsw3, lget, lset, lput1, lput2, lkil, ltrim, largs, isL, takev, dropv, nthv, pushO, catv, gd, true_and, and_true, Option.some.injEq, Prod.mk.injEq, exists_eq_left', if_true, if_false, reduceCtorEq, Bool.false_eq_true, lcmp_ge, lcmp_lt, lcmp_le, lcmp_gt, lcmp_eq, true_or, or_true, not_true_eq_false, not_false_eq_true, false_implies, true_implies, List.length_cons, List.length_nil, o]
      repeat (first | refine ⟨in_small (by omega) (by omega), ?_⟩ | (show (_ → _) ∧ (_ → _); first | refine ⟨by omega, fun _ => ?_⟩ | refine ⟨fun _ => ?_, by omega⟩) | refine ⟨by omega, ?_⟩ | refine ⟨⟨_, rfl, by assumption⟩, ?_⟩ | refine ⟨okT_I _, ?_⟩ | refine call0 (gd_of rfl) ?_)
      refine mo_ans hI hW hN (k := 6) (by decide) rfl fun D' h1 h2 => ?_
      simp only [P_X16_ideal, i_kil, i_icon, i_lcon, i_null, i_loadI, i_loadL, i_loadR, i_istore, i_lstore, i_astore, i_iinc, i_dup, i_dup2, i_pop, i_iadd, i_isub, i_imul, i_idiv, i_irem, i_ineg, i_iand, i_ior, i_ishl, i_ishr, i_lxor, i_ladd, i_lsub, i_lmul, i_ldiv, i_lrem, i_lneg, i_lshl, i_lcmp, i_i2l, i_l2i, i_i2b, i_i2s, i_ifeq, i_ifne, i_iflt, i_ifge, i_ifgt, i_ifle, i_cmpeq, i_cmpne, i_cmplt, i_cmpge, i_cmpgt, i_cmple, i_acmpeq, i_acmpne, i_ifnull, i_ifnonnull, i_getI, i_getR, i_putI, i_putZ, i_putR, i_ald, i_ldL, i_ldR, i_ast, i_stL, i_stR, i_alen, i_new, i_newa, i_iret, i_zret, i_lret, i_aret, i_vret, i_raise, i_throw, i_recv, i_objinit, i_tsw3, lget, lset, lput1, lput2, lkil, ltrim, largs, isL, takev, dropv, nthv, pushO, catv, gd, true_and, and_true, Option.some.injEq, Prod.mk.injEq, exists_eq_left', if_true, if_false, reduceCtorEq, Bool.false_eq_true, lcmp_ge, lcmp_lt, lcmp_le, lcmp_gt, lcmp_eq, true_or, or_true, not_true_eq_false, not_false_eq_true, false_implies, true_implies, List.length_cons, List.length_nil]
      exact K D' _ _ (rR_q h0 ⟨φ, ht, .inr (.inl ⟨by omega, h, rfl, rfl⟩)⟩) h1 h2
    repeat (first | refine ⟨in_small (by omega) (by omega), ?_⟩ | (show (_ → _) ∧ (_ → _); first | refine ⟨by omega, fun _ => ?_⟩ | refine ⟨fun _ => ?_, by omega⟩) | refine ⟨by omega, ?_⟩ | refine ⟨⟨_, rfl, by assumption⟩, ?_⟩ | refine ⟨okT_I _, ?_⟩ | refine call0 (gd_of rfl) ?_)
    simp only [p2]
    simp only [P_X16_ideal, i_kil, i_icon, i_lcon, i_null, i_loadI, i_loadL, i_loadR, i_istore, i_lstore, i_astore, i_iinc, i_dup, i_dup2, i_pop, i_iadd, i_isub, i_imul, i_idiv, i_irem, i_ineg, i_iand, i_ior, i_ishl, i_ishr, i_lxor, i_ladd, i_lsub, i_lmul, i_ldiv, i_lrem, i_lneg, i_lshl, i_lcmp, i_i2l, i_l2i, i_i2b, i_i2s, i_ifeq, i_ifne, i_iflt, i_ifge, i_ifgt, i_ifle, i_cmpeq, i_cmpne, i_cmplt, i_cmpge, i_cmpgt, i_cmple, i_acmpeq, i_acmpne, i_ifnull, i_ifnonnull, i_getI, i_getR, i_putI, i_putZ, i_putR, i_ald, i_ldL, i_ldR, i_ast, i_stL, i_stR, i_alen, i_new, i_newa, i_iret, i_zret, i_lret, i_aret, i_vret, i_raise, i_throw, i_recv, i_objinit, i_tsw3, lget, lset, lput1, lput2, lkil, ltrim, largs, isL, takev, dropv, nthv, pushO, catv, gd, true_and, and_true, Option.some.injEq, Prod.mk.injEq, exists_eq_left', if_true, if_false, reduceCtorEq, Bool.false_eq_true, lcmp_ge, lcmp_lt, lcmp_le, lcmp_gt, lcmp_eq, true_or, or_true, not_true_eq_false, not_false_eq_true, false_implies, true_implies, List.length_cons, List.length_nil, p4, hc]
    refine ⟨fun hz => ?_, fun hz => ?_⟩
    · refine ⟨fun q => one (by omega) fun y => by omega, fun q => ?_⟩
      repeat (first | refine ⟨in_small (by omega) (by omega), ?_⟩ | (show (_ → _) ∧ (_ → _); first | refine ⟨by omega, fun _ => ?_⟩ | refine ⟨fun _ => ?_, by omega⟩) | refine ⟨by omega, ?_⟩ | refine ⟨⟨_, rfl, by assumption⟩, ?_⟩ | refine ⟨okT_I _, ?_⟩ | refine call0 (gd_of rfl) ?_)
      refine sp_X18_degree p3 hn fun dd d1 d2 => ?_
      rw [d2 (by omega)]
      simp only [P_X16_ideal, i_kil, i_icon, i_lcon, i_null, i_loadI, i_loadL, i_loadR, i_istore, i_lstore, i_astore, i_iinc, i_dup, i_dup2, i_pop, i_iadd, i_isub, i_imul, i_idiv, i_irem, i_ineg, i_iand, i_ior, i_ishl, i_ishr, i_lxor, i_ladd, i_lsub, i_lmul, i_ldiv, i_lrem, i_lneg, i_lshl, i_lcmp, i_i2l, i_l2i, i_i2b, i_i2s, i_ifeq, i_ifne, i_iflt, i_ifge, i_ifgt, i_ifle, i_cmpeq, i_cmpne, i_cmplt, i_cmpge, i_cmpgt, i_cmple, i_acmpeq, i_acmpne, i_ifnull, i_ifnonnull, i_getI, i_getR, i_putI, i_putZ, i_putR, i_ald, i_ldL, i_ldR, i_ast, i_stL, i_stR, i_alen, i_new, i_newa, i_iret, i_zret, i_lret, i_aret, i_vret, i_raise, i_throw, i_recv, i_objinit, i_tsw3, lget, lset, lput1, lput2, lkil, ltrim, largs, isL, takev, dropv, nthv, pushO, catv, gd, true_and, and_true, Option.some.injEq, Prod.mk.injEq, exists_eq_left', if_true, if_false, reduceCtorEq, Bool.false_eq_true, lcmp_ge, lcmp_lt, lcmp_le, lcmp_gt, lcmp_eq, true_or, or_true, not_true_eq_false, not_false_eq_true, false_implies, true_implies, List.length_cons, List.length_nil]
      refine ⟨fun q2 => one (by omega) fun y => by omega, fun q2 => ?_⟩
      repeat (first | refine ⟨in_small (by omega) (by omega), ?_⟩ | (show (_ → _) ∧ (_ → _); first | refine ⟨by omega, fun _ => ?_⟩ | refine ⟨fun _ => ?_, by omega⟩) | refine ⟨by omega, ?_⟩ | refine ⟨⟨_, rfl, by assumption⟩, ?_⟩ | refine ⟨okT_I _, ?_⟩ | refine call0 (gd_of rfl) ?_)
      refine sp_X18_isPlain p3 ⟨n, e, hn⟩ (by decide) fun v v1 v2 => ?_
      simp only [P_X16_ideal, i_kil, i_icon, i_lcon, i_null, i_loadI, i_loadL, i_loadR, i_istore, i_lstore, i_astore, i_iinc, i_dup, i_dup2, i_pop, i_iadd, i_isub, i_imul, i_idiv, i_irem, i_ineg, i_iand, i_ior, i_ishl, i_ishr, i_lxor, i_ladd, i_lsub, i_lmul, i_ldiv, i_lrem, i_lneg, i_lshl, i_lcmp, i_i2l, i_l2i, i_i2b, i_i2s, i_ifeq, i_ifne, i_iflt, i_ifge, i_ifgt, i_ifle, i_cmpeq, i_cmpne, i_cmplt, i_cmpge, i_cmpgt, i_cmple, i_acmpeq, i_acmpne, i_ifnull, i_ifnonnull, i_getI, i_getR, i_putI, i_putZ, i_putR, i_ald, i_ldL, i_ldR, i_ast, i_stL, i_stR, i_alen, i_new, i_newa, i_iret, i_zret, i_lret, i_aret, i_vret, i_raise, i_throw, i_recv, i_objinit, i_tsw3, lget, lset, lput1, lput2, lkil, ltrim, largs, isL, takev, dropv, nthv, pushO, catv, gd, true_and, and_true, Option.some.injEq, Prod.mk.injEq, exists_eq_left', if_true, if_false, reduceCtorEq, Bool.false_eq_true, lcmp_ge, lcmp_lt, lcmp_le, lcmp_gt, lcmp_eq, true_or, or_true, not_true_eq_false, not_false_eq_true, false_implies, true_implies, List.length_cons, List.length_nil, o, i31, a1, a2, p4, hc]
      refine ⟨fun q3 => one (by omega) fun y => by have := v2.mpr y.2.2.1; omega, fun q3 => ⟨fun q4 => ?_, fun q4 => one (by omega) fun y => by omega⟩⟩
      have hpl := v2.mp (by omega)
      have hm : (sId s).1 < 4 := by omega
      repeat (first | refine ⟨in_small (by omega) (by omega), ?_⟩ | (show (_ → _) ∧ (_ → _); first | refine ⟨by omega, fun _ => ?_⟩ | refine ⟨fun _ => ?_, by omega⟩) | refine ⟨by omega, ?_⟩ | refine ⟨⟨_, rfl, by assumption⟩, ?_⟩ | refine ⟨okT_I _, ?_⟩ | refine call0 (gd_of rfl) ?_)
      let m := (sId s).1
      have hmd : m = (sId s).1 := rfl
      have two : ∀ (L k : Nat) (D1 : Dat), k + L = n → (∀ a i, (a ≠ M + 4218 ∨ i ≠ (m : Int)) → (a ≠ M + 4219 ∧ a ≠ M + 4220 ∨ i < 12 * (m : Int)) → D1 a i = D a i) → D1 (M + 4218) (m : Int) = (n : Int) → (∀ j : Nat, j < k → D1 (M + 4219) (12 * (m : Int) + j) = tcode (e j) ∧ D1 (M + 4220) (12 * (m : Int) + j) = (φ (e j)).num) → Wp P_X16_ideal E 2 [some (aR M), none, none, some (aR (M + 12195 + 244 * p)), some (aI (k : Int))] [] B S D1 := by
        intro L
        induction L with
        | zero =>
          intro k D1 hk e1 e2 e3
          have : k = n := by omega
          subst this
          have hc' : D1 (M + 12195 + 244 * p) 0 = (k : Int) := by rw [e1 _ _ (by omega) (by omega)]; exact hc
          have i31' : D1 M 31 = ((sId s).1 : Int) := by rw [e1 _ _ (by omega) (by omega)]; exact i31
          refine wp_in ?_
          simp only [P_X16_ideal, i_kil, i_icon, i_lcon, i_null, i_loadI, i_loadL, i_loadR, i_istore, i_lstore, i_astore, i_iinc, i_dup, i_dup2, i_pop, i_iadd, i_isub, i_imul, i_idiv, i_irem, i_ineg, i_iand, i_ior, i_ishl, i_ishr, i_lxor, i_ladd, i_lsub, i_lmul, i_ldiv, i_lrem, i_lneg, i_lshl, i_lcmp, i_i2l, i_l2i, i_i2b, i_i2s, i_ifeq, i_ifne, i_iflt, i_ifge, i_ifgt, i_ifle, i_cmpeq, i_cmpne, i_cmplt, i_cmpge, i_cmpgt, i_cmple, i_acmpeq, i_acmpne, i_ifnull, i_ifnonnull, i_getI, i_getR, i_putI, i_putZ, i_putR, i_ald, i_ldL, i_ldR, i_ast, i_stL, i_stR, i_alen, i_new, i_newa, i_iret, i_zret, i_lret, i_aret, i_vret, i_raise, i_throw, i_recv, i_objinit, i_tsw3, lget, lset, lput1, lput2, lkil, ltrim, largs, isL, takev, dropv, nthv, pushO, catv, gd, true_and, and_true, Option.some.injEq, Prod.mk.injEq, exists_eq_left', if_true, if_false, reduceCtorEq, Bool.false_eq_true, lcmp_ge, lcmp_lt, lcmp_le, lcmp_gt, lcmp_eq, true_or, or_true, not_true_eq_false, not_false_eq_true, false_implies, true_implies, List.length_cons, List.length_nil, o, p4, hc', i31']
          repeat (first | refine ⟨in_small (by omega) (by omega), ?_⟩ | (show (_ → _) ∧ (_ → _); first | refine ⟨by omega, fun _ => ?_⟩ | refine ⟨fun _ => ?_, by omega⟩) | refine ⟨by omega, ?_⟩ | refine ⟨⟨_, rfl, by assumption⟩, ?_⟩ | refine ⟨okT_I _, ?_⟩ | refine call0 (gd_of rfl) ?_)
          rw [pmu_eq]
          have k1 : ∀ a i, a ≠ M + 4218 → a ≠ M + 4219 → a ≠ M + 4220 → (a ≠ M ∨ i ≠ 31) → pmu D1 M 31 (((sId s).1 : Int) + 1) a i = D a i := fun a i h1 h2 h3 h4 => by rw [pmu_ne (by omega), e1 a i (by omega) (by omega)]
          refine K _ _ _ (rR_q h0 ⟨φ, ht, .inr (.inr ⟨by omega, by omega, by omega, hpl, hm, rfl, by omega⟩)⟩) (hI.setId hW (fun a i a1 a2 => k1 a i ?_ ?_ ?_ ?_) ⟨by show (sId s).1 + 1 ≤ 4; omega, by rw [pmu_eq]; show _ = (((sId s).1 + 1 : Nat) : Int); omega, fun j hj => ?_⟩ (hI.sm.cgr fun a i h => k1 a i ?_ ?_ ?_ ?_)) fun a i h => k1 a i (by omega) (by omega) (by omega) (by omega)
          · unfold pId at a2; omega
          · unfold pId at a2; omega
          · unfold pId at a2; omega
          · unfold pId at a2; omega
          · have hj' : j < (sId s).1 + 1 := hj
            show (∃ mk ek, midP _ M j (if j = (sId s).1 then fun t => (φ t).num else (sId s).2 j) mk ek) ∧ idW (if j = (sId s).1 then fun t => (φ t).num else (sId s).2 j) ∧ ∃ t, t < 455 ∧ (if j = (sId s).1 then fun t => (φ t).num else (sId s).2 j) t ≠ 0
            rcases Nat.decEq j (sId s).1 with q | q
            · simp only [if_neg q]
              obtain ⟨⟨mk, ek, y1, y2, y3, y4⟩, y5⟩ := id j (by omega)
              refine ⟨⟨mk, ek, y1, by rw [pmu_ne (by omega), e1 _ _ (by omega) (by omega)]; exact y2, fun u hu => ?_, y4⟩, y5⟩
              obtain ⟨z1, z2, z3, z4⟩ := y3 u hu
              exact ⟨z1, by rw [pmu_ne (by omega), e1 _ _ (by omega) (by omega)]; exact z2, by rw [pmu_ne (by omega), e1 _ _ (by omega) (by omega)]; exact z3, z4⟩
            · simp only [if_pos q]
              subst q
              have hnz : ∀ u, u < k → (φ (e u)).num ≠ 0 := fun u hu y => (hn.2.2.1 u hu).2.2.2 (Rat.num_eq_zero.mp y)
              refine ⟨⟨k, e, by omega, by rw [pmu_ne (by omega)]; exact e2, fun u hu => ⟨(hn.2.2.1 u hu).1, by rw [pmu_ne (by omega)]; exact (e3 u hu).1, by rw [pmu_ne (by omega)]; exact (e3 u hu).2, hnz u hu⟩, fun u v huv hv y => ?_, fun t ht2 hall => ?_⟩, ⟨fun t ht2 => (hpl t ht2).2, fun t ht2 hne => ?_⟩, e 0, (hn.2.2.1 0 (by omega)).1, hnz 0 (by omega)⟩
              · have := hn.2.2.2.1 u v huv hv
                omega
              · show (φ t).num = 0
                rw [hn.2.2.2.2.1 t ht2 hall]; rfl
              · have hne' : φ t ≠ 0 := fun y => hne (by show (φ t).num = 0; rw [y]; rfl)
                rcases degI_law (φ := φ) 455 with ⟨y1, y2⟩ | ⟨y1, y2⟩
                · exact absurd (y2 t ht2) hne'
                · have := y2 t ht2 hne'
                  omega
          · unfold pSm at h; omega
          · unfold pSm at h; omega
          · unfold pSm at h; omega
          · unfold pSm at h; omega
        | succ L ih =>
          intro k D1 hk e1 e2 e3
          have hc' : D1 (M + 12195 + 244 * p) 0 = (n : Int) := by rw [e1 _ _ (by omega) (by omega)]; exact hc
          have i31' : D1 M 31 = (m : Int) := by rw [e1 _ _ (by omega) (by omega)]; exact i31
          obtain ⟨y1, y2, y3, y4⟩ := hn.2.2.1 k (by omega)
          have y2' : D1 (M + 12195 + 244 * p + 1) (k : Int) = tcode (e k) := by rw [e1 _ _ (by omega) (by omega)]; exact y2
          obtain ⟨z1, z2⟩ := g5 k (by omega)
          have z3 := z2.1
          refine wp_in ?_
          simp only [P_X16_ideal, i_kil, i_icon, i_lcon, i_null, i_loadI, i_loadL, i_loadR, i_istore, i_lstore, i_astore, i_iinc, i_dup, i_dup2, i_pop, i_iadd, i_isub, i_imul, i_idiv, i_irem, i_ineg, i_iand, i_ior, i_ishl, i_ishr, i_lxor, i_ladd, i_lsub, i_lmul, i_ldiv, i_lrem, i_lneg, i_lshl, i_lcmp, i_i2l, i_l2i, i_i2b, i_i2s, i_ifeq, i_ifne, i_iflt, i_ifge, i_ifgt, i_ifle, i_cmpeq, i_cmpne, i_cmplt, i_cmpge, i_cmpgt, i_cmple, i_acmpeq, i_acmpne, i_ifnull, i_ifnonnull, i_getI, i_getR, i_putI, i_putZ, i_putR, i_ald, i_ldL, i_ldR, i_ast, i_stL, i_stR, i_alen, i_new, i_newa, i_iret, i_zret, i_lret, i_aret, i_vret, i_raise, i_throw, i_recv, i_objinit, i_tsw3, lget, lset, lput1, lput2, lkil, ltrim, largs, isL, takev, dropv, nthv, pushO, catv, gd, true_and, and_true, Option.some.injEq, Prod.mk.injEq, exists_eq_left', if_true, if_false, reduceCtorEq, Bool.false_eq_true, lcmp_ge, lcmp_lt, lcmp_le, lcmp_gt, lcmp_eq, true_or, or_true, not_true_eq_false, not_false_eq_true, false_implies, true_implies, List.length_cons, List.length_nil, o, p4, hc', i31', b1, b2, f1, f2, g1, g2, g3, g4]
          refine ⟨fun q => by omega, fun _ => ?_⟩
          repeat (first | refine ⟨in_small (by omega) (by omega), ?_⟩ | (show (_ → _) ∧ (_ → _); first | refine ⟨by omega, fun _ => ?_⟩ | refine ⟨fun _ => ?_, by omega⟩) | refine ⟨by omega, ?_⟩ | refine ⟨⟨_, rfl, by assumption⟩, ?_⟩ | refine ⟨okT_I _, ?_⟩ | refine call0 (gd_of rfl) ?_)
          rw [y2']
          repeat (first | refine ⟨in_small (by omega) (by omega), ?_⟩ | (show (_ → _) ∧ (_ → _); first | refine ⟨by omega, fun _ => ?_⟩ | refine ⟨fun _ => ?_, by omega⟩) | refine ⟨by omega, ?_⟩ | refine ⟨⟨_, rfl, by assumption⟩, ?_⟩ | refine ⟨okT_I _, ?_⟩ | refine call0 (gd_of rfl) ?_)
          have i31'' : pmu D1 (M + 4219) (12 * (m : Int) + k) (tcode (e k)) M 31 = (m : Int) := by rw [pmu_ne (by omega)]; exact i31'
          rw [i31'']
          simp only [z1]
          repeat (first | refine ⟨in_small (by omega) (by omega), ?_⟩ | (show (_ → _) ∧ (_ → _); first | refine ⟨by omega, fun _ => ?_⟩ | refine ⟨fun _ => ?_, by omega⟩) | refine ⟨by omega, ?_⟩ | refine ⟨⟨_, rfl, by assumption⟩, ?_⟩ | refine ⟨okT_I _, ?_⟩ | refine call0 (gd_of rfl) ?_)
          have h99 := (hpl (e k) y1).2
          refine sp_X17_plain z2 (z := (φ (e k)).num) (y3.1.cgr fun a i ha => by rw [pmu_ne (by omega), e1 _ _ (by omega) (by omega)]) (by omega) (by omega) (by omega) (z99_14 (by omega)) ?_
          simp only [P_X16_ideal, i_kil, i_icon, i_lcon, i_null, i_loadI, i_loadL, i_loadR, i_istore, i_lstore, i_astore, i_iinc, i_dup, i_dup2, i_pop, i_iadd, i_isub, i_imul, i_idiv, i_irem, i_ineg, i_iand, i_ior, i_ishl, i_ishr, i_lxor, i_ladd, i_lsub, i_lmul, i_ldiv, i_lrem, i_lneg, i_lshl, i_lcmp, i_i2l, i_l2i, i_i2b, i_i2s, i_ifeq, i_ifne, i_iflt, i_ifge, i_ifgt, i_ifle, i_cmpeq, i_cmpne, i_cmplt, i_cmpge, i_cmpgt, i_cmple, i_acmpeq, i_acmpne, i_ifnull, i_ifnonnull, i_getI, i_getR, i_putI, i_putZ, i_putR, i_ald, i_ldL, i_ldR, i_ast, i_stL, i_stR, i_alen, i_new, i_newa, i_iret, i_zret, i_lret, i_aret, i_vret, i_raise, i_throw, i_recv, i_objinit, i_tsw3, lget, lset, lput1, lput2, lkil, ltrim, largs, isL, takev, dropv, nthv, pushO, catv, gd, true_and, and_true, Option.some.injEq, Prod.mk.injEq, exists_eq_left', if_true, if_false, reduceCtorEq, Bool.false_eq_true, lcmp_ge, lcmp_lt, lcmp_le, lcmp_gt, lcmp_eq, true_or, or_true, not_true_eq_false, not_false_eq_true, false_implies, true_implies, List.length_cons, List.length_nil, f2]
          repeat (first | refine ⟨in_small (by omega) (by omega), ?_⟩ | (show (_ → _) ∧ (_ → _); first | refine ⟨by omega, fun _ => ?_⟩ | refine ⟨fun _ => ?_, by omega⟩) | refine ⟨by omega, ?_⟩ | refine ⟨⟨_, rfl, by assumption⟩, ?_⟩ | refine ⟨okT_I _, ?_⟩ | refine call0 (gd_of rfl) ?_)
          refine ih (k + 1) _ (by omega) (fun a i a1 a2 => ?_) ?_ fun j hj => ?_
          · rw [pmu_ne (by omega), pmu_ne (by omega), e1 a i a1 a2]
          · rw [pmu_ne (by omega), pmu_ne (by omega)]; exact e2
          · rcases Nat.decEq j k with q | q
            · rw [pmu_ne (by omega), pmu_ne (by omega), pmu_ne (by omega), pmu_ne (by omega)]
              exact e3 j (by omega)
            · subst q
              rw [pmu_ne (by omega), pmu_eq, pmu_eq]
              exact ⟨rfl, rfl⟩
      refine two n 0 _ (by omega) (fun a i a1 a2 => pmu_ne (by omega)) pmu_eq fun j hj => absurd hj (Nat.not_lt_zero _)
    · repeat (first | refine ⟨in_small (by omega) (by omega), ?_⟩ | (show (_ → _) ∧ (_ → _); first | refine ⟨by omega, fun _ => ?_⟩ | refine ⟨fun _ => ?_, by omega⟩) | refine ⟨by omega, ?_⟩ | refine ⟨⟨_, rfl, by assumption⟩, ?_⟩ | refine ⟨okT_I _, ?_⟩ | refine call0 (gd_of rfl) ?_)
      refine mo_ans hI hW hN (k := 5) (by decide) rfl fun D' h1 h2 => ?_
      simp only [P_X16_ideal, i_kil, i_icon, i_lcon, i_null, i_loadI, i_loadL, i_loadR, i_istore, i_lstore, i_astore, i_iinc, i_dup, i_dup2, i_pop, i_iadd, i_isub, i_imul, i_idiv, i_irem, i_ineg, i_iand, i_ior, i_ishl, i_ishr, i_lxor, i_ladd, i_lsub, i_lmul, i_ldiv, i_lrem, i_lneg, i_lshl, i_lcmp, i_i2l, i_l2i, i_i2b, i_i2s, i_ifeq, i_ifne, i_iflt, i_ifge, i_ifgt, i_ifle, i_cmpeq, i_cmpne, i_cmplt, i_cmpge, i_cmpgt, i_cmple, i_acmpeq, i_acmpne, i_ifnull, i_ifnonnull, i_getI, i_getR, i_putI, i_putZ, i_putR, i_ald, i_ldL, i_ldR, i_ast, i_stL, i_stR, i_alen, i_new, i_newa, i_iret, i_zret, i_lret, i_aret, i_vret, i_raise, i_throw, i_recv, i_objinit, i_tsw3, lget, lset, lput1, lput2, lkil, ltrim, largs, isL, takev, dropv, nthv, pushO, catv, gd, true_and, and_true, Option.some.injEq, Prod.mk.injEq, exists_eq_left', if_true, if_false, reduceCtorEq, Bool.false_eq_true, lcmp_ge, lcmp_lt, lcmp_le, lcmp_gt, lcmp_eq, true_or, or_true, not_true_eq_false, not_false_eq_true, false_implies, true_implies, List.length_cons, List.length_nil]
      exact K D' _ _ (rR_q h0 ⟨φ, ht, .inl ⟨by omega, rfl, rfl⟩⟩) h1 h2
  · repeat (first | refine ⟨in_small (by omega) (by omega), ?_⟩ | (show (_ → _) ∧ (_ → _); first | refine ⟨by omega, fun _ => ?_⟩ | refine ⟨fun _ => ?_, by omega⟩) | refine ⟨by omega, ?_⟩ | refine ⟨⟨_, rfl, by assumption⟩, ?_⟩ | refine ⟨okT_I _, ?_⟩ | refine call0 (gd_of rfl) ?_)
    refine mo_ans hI hW hN (k := lkN s x 1) (by omega) rfl fun D' h1 h2 => ?_
    simp only [P_X16_ideal, i_kil, i_icon, i_lcon, i_null, i_loadI, i_loadL, i_loadR, i_istore, i_lstore, i_astore, i_iinc, i_dup, i_dup2, i_pop, i_iadd, i_isub, i_imul, i_idiv, i_irem, i_ineg, i_iand, i_ior, i_ishl, i_ishr, i_lxor, i_ladd, i_lsub, i_lmul, i_ldiv, i_lrem, i_lneg, i_lshl, i_lcmp, i_i2l, i_l2i, i_i2b, i_i2s, i_ifeq, i_ifne, i_iflt, i_ifge, i_ifgt, i_ifle, i_cmpeq, i_cmpne, i_cmplt, i_cmpge, i_cmpgt, i_cmple, i_acmpeq, i_acmpne, i_ifnull, i_ifnonnull, i_getI, i_getR, i_putI, i_putZ, i_putR, i_ald, i_ldL, i_ldR, i_ast, i_stL, i_stR, i_alen, i_new, i_newa, i_iret, i_zret, i_lret, i_aret, i_vret, i_raise, i_throw, i_recv, i_objinit, i_tsw3, lget, lset, lput1, lput2, lkil, ltrim, largs, isL, takev, dropv, nthv, pushO, catv, gd, true_and, and_true, Option.some.injEq, Prod.mk.injEq, exists_eq_left', if_true, if_false, reduceCtorEq, Bool.false_eq_true, lcmp_ge, lcmp_lt, lcmp_le, lcmp_gt, lcmp_eq, true_or, or_true, not_true_eq_false, not_false_eq_true, false_implies, true_implies, List.length_cons, List.length_nil]
    exact K D' _ _ (rR_f (by omega) rfl) h1 h2
end MID
