/-! the model's calls: narrow -/
-- needs: eg.mroot
set_option maxRecDepth 100000
set_option linter.unusedVariables false
section MNA
variable {M N : Nat} {S : Stat} {s : Cst}
theorem nR_half1 {p : pf} (hN : gdN (nR p)) {h : Nat} {w : Int} (h0 : 0 ≤ w) (h1 : w < ((2 ^ h : Nat) : Int)) (hn : nR p h w = 1) : 0 < nR p (h + 1) (2 * w) ↔ nR p (h + 1) (2 * w) = 1 := by
  have a := nR_half p h w
  have e : ((2 ^ (h + 1) : Nat) : Int) = 2 * ((2 ^ h : Nat) : Int) := by rw [Nat.pow_succ]; omega
  have b := hN.1 (h + 1) (2 * w) (by omega) (by rw [e]; omega)
  have c := hN.1 (h + 1) (2 * w + 1) (by omega) (by rw [e]; omega)
  omega
set_option maxHeartbeats 4000000 in
theorem mo_narrow {E : Ex} {B : Nat × Nat} {D : Dat} {x : Int} (hI : moI S D M s) (hW : crW N s) (hN : N < 1000) (K : mK E B S D M (oNarrow x s)) : Wp P_X16_narrow E 0 [some (aR M), some (aI x)] [] B S D := by
  have o := hI.1.o
  obtain ⟨b1, b2⟩ := hI.1.h14
  obtain ⟨e1, e2⟩ := hI.1.h17
  obtain ⟨f1, f2, f3⟩ := hI.1.h18
  obtain ⟨g1, g2⟩ := hI.1.h19
  obtain ⟨-, hmt, -, -, -, -, i1, i2, i3⟩ := hI.1.sg
  have hmr := hI.1.mr
  have hle := lkN_le s x 3
  have two : ∀ (f : Nat) (R : Cst → Int → Prop), 1 ≤ f ∧ f ≤ 7 → mK E B S D M R → R (uFn s f) (-(f : Int)) → Wp P_X16_narrow E 2 [] [.inl (-(f : Int)), .inr (.inr (some M))] B S D := fun f R h1 hK h2 => by
    refine wp_in ?_
    simp only [P_X16_narrow, i_kil, i_icon, i_lcon, i_null, i_loadI, i_loadL, i_loadR, i_istore, i_lstore, i_astore, i_iinc, i_dup, i_dup2, i_pop, i_iadd, i_isub, i_imul, i_idiv, i_irem, i_ineg, i_iand, i_ior, i_ishl, i_ishr, i_lxor, i_ladd, i_lsub, i_lmul, i_ldiv, i_lrem, i_lneg, i_lshl, i_lcmp, i_i2l, i_l2i, i_i2b, i_i2s, i_ifeq, i_ifne, i_iflt, i_ifge, i_ifgt, i_ifle, i_cmpeq, i_cmpne, i_cmplt, i_cmpge, i_cmpgt, i_cmple, i_acmpeq, i_acmpne, i_ifnull, i_ifnonnull, i_getI, i_getR, i_putI, i_putZ, i_putR, i_ald, i_ldL, i_ldR, i_ast, i_stL, i_stR, i_alen, i_new, i_newa, i_iret, i_zret, i_lret, i_aret, i_vret, i_raise, i_throw, i_recv, i_objinit, i_tsw3, lget, lset, lput1, lput2, lkil, ltrim, largs, isL, takev, dropv, nthv, pushO, catv, gd, true_and, and_true, Option.some.injEq, Prod.mk.injEq, exists_eq_left', if_true, if_false, reduceCtorEq, Bool.false_eq_true, lcmp_ge, lcmp_lt, lcmp_le, lcmp_gt, lcmp_eq, true_or, or_true, not_true_eq_false, not_false_eq_true, false_implies, true_implies, List.length_cons, List.length_nil, o]
    repeat (first | refine ⟨in_small (by omega) (by omega), ?_⟩ | (show (_ → _) ∧ (_ → _); first | refine ⟨by omega, fun _ => ?_⟩ | refine ⟨fun _ => ?_, by omega⟩) | refine ⟨by omega, ?_⟩ | refine ⟨⟨_, rfl, by assumption⟩, ?_⟩ | refine ⟨okT_I _, ?_⟩ | refine call0 (gd_of rfl) ?_)
    refine mo_ans hI hW hN h1 rfl fun D' h3 h4 => ?_
    simp only [P_X16_narrow, i_kil, i_icon, i_lcon, i_null, i_loadI, i_loadL, i_loadR, i_istore, i_lstore, i_astore, i_iinc, i_dup, i_dup2, i_pop, i_iadd, i_isub, i_imul, i_idiv, i_irem, i_ineg, i_iand, i_ior, i_ishl, i_ishr, i_lxor, i_ladd, i_lsub, i_lmul, i_ldiv, i_lrem, i_lneg, i_lshl, i_lcmp, i_i2l, i_l2i, i_i2b, i_i2s, i_ifeq, i_ifne, i_iflt, i_ifge, i_ifgt, i_ifle, i_cmpeq, i_cmpne, i_cmplt, i_cmpge, i_cmpgt, i_cmple, i_acmpeq, i_acmpne, i_ifnull, i_ifnonnull, i_getI, i_getR, i_putI, i_putZ, i_putR, i_ald, i_ldL, i_ldR, i_ast, i_stL, i_stR, i_alen, i_new, i_newa, i_iret, i_zret, i_lret, i_aret, i_vret, i_raise, i_throw, i_recv, i_objinit, i_tsw3, lget, lset, lput1, lput2, lkil, ltrim, largs, isL, takev, dropv, nthv, pushO, catv, gd, true_and, and_true, Option.some.injEq, Prod.mk.injEq, exists_eq_left', if_true, if_false, reduceCtorEq, Bool.false_eq_true, lcmp_ge, lcmp_lt, lcmp_le, lcmp_gt, lcmp_eq, true_or, or_true, not_true_eq_false, not_false_eq_true, false_implies, true_implies, List.length_cons, List.length_nil]
    exact hK D' _ _ h2 h3 h4
  refine wp_in ?_
  simp only [P_X16_narrow, i_kil, i_icon, i_lcon, i_null, i_loadI, i_loadL, i_loadR, i_istore, i_lstore, i_astore, i_iinc, i_dup, i_dup2, i_pop, i_iadd, i_isub, i_imul, i_idiv, i_irem, i_ineg, i_iand, i_ior, i_ishl, i_ishr, i_lxor, i_ladd, i_lsub, i_lmul, i_ldiv, i_lrem, i_lneg, i_lshl, i_lcmp, i_i2l, i_l2i, i_i2b, i_i2s, i_ifeq, i_ifne, i_iflt, i_ifge, i_ifgt, i_ifle, i_cmpeq, i_cmpne, i_cmplt, i_cmpge, i_cmpgt, i_cmple, i_acmpeq, i_acmpne, i_ifnull, i_ifnonnull, i_getI, i_getR, i_putI, i_putZ, i_putR, i_ald, i_ldL, i_ldR, i_ast, i_stL, i_stR, i_alen, i_new, i_newa, i_iret, i_zret, i_lret, i_aret, i_vret, i_raise, i_throw, i_recv, i_objinit, i_tsw3, lget, lset, lput1, lput2, lkil, ltrim, largs, isL, takev, dropv, nthv, pushO, catv, gd, true_and, and_true, Option.some.injEq, Prod.mk.injEq, exists_eq_left', if_true, if_false, reduceCtorEq, Bool.false_eq_true, lcmp_ge, lcmp_lt, lcmp_le, lcmp_gt, lcmp_eq, true_or, or_true, not_true_eq_false, not_false_eq_true, false_implies, true_implies, List.length_cons, List.length_nil, o]
  repeat (first | refine ⟨in_small (by omega) (by omega), ?_⟩ | (show (_ → _) ∧ (_ → _); first | refine ⟨by omega, fun _ => ?_⟩ | refine ⟨fun _ => ?_, by omega⟩) | refine ⟨by omega, ?_⟩ | refine ⟨⟨_, rfl, by assumption⟩, ?_⟩ | refine ⟨okT_I _, ?_⟩ | refine call0 (gd_of rfl) ?_)
  refine mo_look (k := 3) hI rfl ?_
  simp only [P_X16_narrow, i_kil, i_icon, i_lcon, i_null, i_loadI, i_loadL, i_loadR, i_istore, i_lstore, i_astore, i_iinc, i_dup, i_dup2, i_pop, i_iadd, i_isub, i_imul, i_idiv, i_irem, i_ineg, i_iand, i_ior, i_ishl, i_ishr, i_lxor, i_ladd, i_lsub, i_lmul, i_ldiv, i_lrem, i_lneg, i_lshl, i_lcmp, i_i2l, i_l2i, i_i2b, i_i2s, i_ifeq, i_ifne, i_iflt, i_ifge, i_ifgt, i_ifle, i_cmpeq, i_cmpne, i_cmplt, i_cmpge, i_cmpgt, i_cmple, i_acmpeq, i_acmpne, i_ifnull, i_ifnonnull, i_getI, i_getR, i_putI, i_putZ, i_putR, i_ald, i_ldL, i_ldR, i_ast, i_stL, i_stR, i_alen, i_new, i_newa, i_iret, i_zret, i_lret, i_aret, i_vret, i_raise, i_throw, i_recv, i_objinit, i_tsw3, lget, lset, lput1, lput2, lkil, ltrim, largs, isL, takev, dropv, nthv, pushO, catv, gd, true_and, and_true, Option.some.injEq, Prod.mk.injEq, exists_eq_left', if_true, if_false, reduceCtorEq, Bool.false_eq_true, lcmp_ge, lcmp_lt, lcmp_le, lcmp_gt, lcmp_eq, true_or, or_true, not_true_eq_false, not_false_eq_true, false_implies, true_implies, List.length_cons, List.length_nil, o, b1, b2]
  by_cases h0 : lkN s x 3 = 0
  · obtain ⟨p, ⟨q, h, w, n⟩, hp, hp16, ht⟩ := lk3 h0
    subst hp
    have hm := hI.2.1 p hp16
    have hwt := hW.1 p hp16
    rw [ht] at hm hwt
    obtain ⟨m1, m2, m3, m4, sm, a, m5, m6, m7⟩ := hm
    obtain ⟨w4, w5, w6, w7, w8, w9⟩ := hwt
    have m2 : D (M + 23) (p : Int) = (n : Int) := m2
    have m3 : D (M + 76) (p : Int) = (h : Int) := m3
    have m4 : wD 2 1 D (M + 44 + 2 * p) (mlw h w) := m4
    have w5 : 0 ≤ w := w5
    have w6 : w < ((2 ^ h : Nat) : Int) := w6
    have w7 : nR (zp q.1 (q.2 + 1)) h w = 1 := w7
    have w8 : h ≤ 389 + n := w8
    have w9 : n ≤ 60 := w9
    refine ⟨fun z => by omega, fun _ => ?_⟩
    repeat (first | refine ⟨in_small (by omega) (by omega), ?_⟩ | (show (_ → _) ∧ (_ → _); first | refine ⟨by omega, fun _ => ?_⟩ | refine ⟨fun _ => ?_, by omega⟩) | refine ⟨by omega, ?_⟩ | refine ⟨⟨_, rfl, by assumption⟩, ?_⟩ | refine ⟨okT_I _, ?_⟩ | refine call0 (gd_of rfl) ?_)
    rw [m2]
    refine ⟨fun z => ?_, fun z => ?_⟩
    · obtain ⟨ir1, ir2⟩ := i3 p hp16
      obtain ⟨fr1, fr2⟩ := f3 p hp16
      have hq8 := w4.2.1
      obtain ⟨s1, s2, s3, s4, s5, s6, s7⟩ := m5
      simp only [P_X16_narrow, i_kil, i_icon, i_lcon, i_null, i_loadI, i_loadL, i_loadR, i_istore, i_lstore, i_astore, i_iinc, i_dup, i_dup2, i_pop, i_iadd, i_isub, i_imul, i_idiv, i_irem, i_ineg, i_iand, i_ior, i_ishl, i_ishr, i_lxor, i_ladd, i_lsub, i_lmul, i_ldiv, i_lrem, i_lneg, i_lshl, i_lcmp, i_i2l, i_l2i, i_i2b, i_i2s, i_ifeq, i_ifne, i_iflt, i_ifge, i_ifgt, i_ifle, i_cmpeq, i_cmpne, i_cmplt, i_cmpge, i_cmpgt, i_cmple, i_acmpeq, i_acmpne, i_ifnull, i_ifnonnull, i_getI, i_getR, i_putI, i_putZ, i_putR, i_ald, i_ldL, i_ldR, i_ast, i_stL, i_stR, i_alen, i_new, i_newa, i_iret, i_zret, i_lret, i_aret, i_vret, i_raise, i_throw, i_recv, i_objinit, i_tsw3, lget, lset, lput1, lput2, lkil, ltrim, largs, isL, takev, dropv, nthv, pushO, catv, gd, true_and, and_true, Option.some.injEq, Prod.mk.injEq, exists_eq_left', if_true, if_false, reduceCtorEq, Bool.false_eq_true, lcmp_ge, lcmp_lt, lcmp_le, lcmp_gt, lcmp_eq, true_or, or_true, not_true_eq_false, not_false_eq_true, false_implies, true_implies, List.length_cons, List.length_nil, o, i1, i2, e1, e2]
      repeat (first | refine ⟨in_small (by omega) (by omega), ?_⟩ | (show (_ → _) ∧ (_ → _); first | refine ⟨by omega, fun _ => ?_⟩ | refine ⟨fun _ => ?_, by omega⟩) | refine ⟨by omega, ?_⟩ | refine ⟨⟨_, rfl, by assumption⟩, ?_⟩ | refine ⟨okT_I _, ?_⟩ | refine call0 (gd_of rfl) ?_)
      rw [ir1, m6]
      refine sp_X16_plainChain (La := M + 26 + p) (nL := 9) (d := a) (f := sm) hmr.1 ir2 (by omega) (by omega) (by omega) rfl (by omega) s1 (fun k hk => m7 k (by omega)) (fun k hk => Nat.le_trans (s6 k hk) (by decide)) s3 fun D1 F nn mm u1 u2 u3 u4 => ?_
      have hB := mB_of (M := M) (q := q) ⟨s1, s2, s3, s4, s5, s6, s7⟩ hq8 u2 u4
      have k1 : ∀ c i, (c < M ∨ M + 16 < c) → (c < M + 10781 ∨ M + 10788 < c) → (c < M + 10796 ∨ M + 11277 < c) → D1 c i = D c i := u1.1
      have z76 : D1 (M + 76) (p : Int) = (h : Int) := by rw [k1 _ _ (by omega) (by omega) (by omega)]; exact m3
      simp only [P_X16_narrow, i_kil, i_icon, i_lcon, i_null, i_loadI, i_loadL, i_loadR, i_istore, i_lstore, i_astore, i_iinc, i_dup, i_dup2, i_pop, i_iadd, i_isub, i_imul, i_idiv, i_irem, i_ineg, i_iand, i_ior, i_ishl, i_ishr, i_lxor, i_ladd, i_lsub, i_lmul, i_ldiv, i_lrem, i_lneg, i_lshl, i_lcmp, i_i2l, i_l2i, i_i2b, i_i2s, i_ifeq, i_ifne, i_iflt, i_ifge, i_ifgt, i_ifle, i_cmpeq, i_cmpne, i_cmplt, i_cmpge, i_cmpgt, i_cmple, i_acmpeq, i_acmpne, i_ifnull, i_ifnonnull, i_getI, i_getR, i_putI, i_putZ, i_putR, i_ald, i_ldL, i_ldR, i_ast, i_stL, i_stR, i_alen, i_new, i_newa, i_iret, i_zret, i_lret, i_aret, i_vret, i_raise, i_throw, i_recv, i_objinit, i_tsw3, lget, lset, lput1, lput2, lkil, ltrim, largs, isL, takev, dropv, nthv, pushO, catv, gd, true_and, and_true, Option.some.injEq, Prod.mk.injEq, exists_eq_left', if_true, if_false, reduceCtorEq, Bool.false_eq_true, lcmp_ge, lcmp_lt, lcmp_le, lcmp_gt, lcmp_eq, true_or, or_true, not_true_eq_false, not_false_eq_true, false_implies, true_implies, List.length_cons, List.length_nil, o, f1, f2, g1, g2]
      repeat (first | refine ⟨in_small (by omega) (by omega), ?_⟩ | (show (_ → _) ∧ (_ → _); first | refine ⟨by omega, fun _ => ?_⟩ | refine ⟨fun _ => ?_, by omega⟩) | refine ⟨by omega, ?_⟩ | refine ⟨⟨_, rfl, by assumption⟩, ?_⟩ | refine ⟨okT_I _, ?_⟩ | refine call0 (gd_of rfl) ?_)
      rw [fr1, z76]
      refine sp_X16_halve (p := zp q.1 (q.2 + 1)) hmr hmt fr2 (by decide) (by decide) (by omega) (by omega) (by omega) (by omega) (m4.cgr fun c i hc => by
        have hc : c = M + 44 + 2 * p ∨ c = M + 44 + 2 * p + 1 := hc
        exact k1 c i (by omega) (by omega) (by omega)) w5 w6 (by omega) rfl hB fun D2 v1 v2 v3 => ?_
      have k2 : ∀ c i, ¬ sK M c → (c = M → i ≠ 70 ∧ i ≠ 84) → c ≠ M + 44 + 2 * p → c ≠ M + 44 + 2 * p + 1 → D2 c i = D c i := fun c i h1 h2 h3 h4 => by
        unfold sK at h1
        rw [v1 c i (by omega) (by omega) (by omega) (by omega) (by omega) (by omega) (by omega) h3 h4]
        rcases Nat.decEq c M with e | e
        · exact k1 c i (by omega) (by omega) (by omega)
        · subst e; exact u1.2 i (h2 rfl).1
      have z76' : D2 (M + 76) (p : Int) = (h : Int) := by rw [k2 _ _ (by unfold sK; omega) (by omega) (by omega) (by omega)]; exact m3
      have z23' : pmu D2 (M + 76) (p : Int) ((h : Int) + 1) (M + 23) (p : Int) = (n : Int) := by rw [pmu_ne (by omega), k2 _ _ (by unfold sK; omega) (by omega) (by omega) (by omega)]; exact m2
      simp only [P_X16_narrow, i_kil, i_icon, i_lcon, i_null, i_loadI, i_loadL, i_loadR, i_istore, i_lstore, i_astore, i_iinc, i_dup, i_dup2, i_pop, i_iadd, i_isub, i_imul, i_idiv, i_irem, i_ineg, i_iand, i_ior, i_ishl, i_ishr, i_lxor, i_ladd, i_lsub, i_lmul, i_ldiv, i_lrem, i_lneg, i_lshl, i_lcmp, i_i2l, i_l2i, i_i2b, i_i2s, i_ifeq, i_ifne, i_iflt, i_ifge, i_ifgt, i_ifle, i_cmpeq, i_cmpne, i_cmplt, i_cmpge, i_cmpgt, i_cmple, i_acmpeq, i_acmpne, i_ifnull, i_ifnonnull, i_getI, i_getR, i_putI, i_putZ, i_putR, i_ald, i_ldL, i_ldR, i_ast, i_stL, i_stR, i_alen, i_new, i_newa, i_iret, i_zret, i_lret, i_aret, i_vret, i_raise, i_throw, i_recv, i_objinit, i_tsw3, lget, lset, lput1, lput2, lkil, ltrim, largs, isL, takev, dropv, nthv, pushO, catv, gd, true_and, and_true, Option.some.injEq, Prod.mk.injEq, exists_eq_left', if_true, if_false, reduceCtorEq, Bool.false_eq_true, lcmp_ge, lcmp_lt, lcmp_le, lcmp_gt, lcmp_eq, true_or, or_true, not_true_eq_false, not_false_eq_true, false_implies, true_implies, List.length_cons, List.length_nil, o, g1, g2, b1, b2]
      repeat (first | refine ⟨in_small (by omega) (by omega), ?_⟩ | (show (_ → _) ∧ (_ → _); first | refine ⟨by omega, fun _ => ?_⟩ | refine ⟨fun _ => ?_, by omega⟩) | refine ⟨by omega, ?_⟩ | refine ⟨⟨_, rfl, by assumption⟩, ?_⟩ | refine ⟨okT_I _, ?_⟩ | refine call0 (gd_of rfl) ?_)
      rw [z76']
      repeat (first | refine ⟨in_small (by omega) (by omega), ?_⟩ | (show (_ → _) ∧ (_ → _); first | refine ⟨by omega, fun _ => ?_⟩ | refine ⟨fun _ => ?_, by omega⟩) | refine ⟨by omega, ?_⟩ | refine ⟨⟨_, rfl, by assumption⟩, ?_⟩ | refine ⟨okT_I _, ?_⟩ | refine call0 (gd_of rfl) ?_)
      rw [z23']
      have hiff := nR_half1 w4.2.2.2.2.2 w5 w6 w7
      have hbit : (if 0 < nR (zp q.1 (q.2 + 1)) (h + 1) (2 * w) then (0 : Int) else 1) = if nR (zp q.1 (q.2 + 1)) (h + 1) (2 * w) = 1 then 0 else 1 := by
        by_cases hz : 0 < nR (zp q.1 (q.2 + 1)) (h + 1) (2 * w)
        · rw [if_pos hz, if_pos (hiff.mp hz)]
        · rw [if_neg hz, if_neg fun y => hz (hiff.mpr y)]
      have hval : (if 0 < nR (zp q.1 (q.2 + 1)) (h + 1) (2 * w) then 2 * w else 2 * w + 1) = 2 * w + (if nR (zp q.1 (q.2 + 1)) (h + 1) (2 * w) = 1 then 0 else 1) := by
        by_cases hz : 0 < nR (zp q.1 (q.2 + 1)) (h + 1) (2 * w)
        · rw [if_pos hz, if_pos (hiff.mp hz)]; omega
        · rw [if_neg hz, if_neg fun y => hz (hiff.mpr y)]
      rw [hval] at v3
      rw [hbit]
      refine K _ _ _ (rR_q h0 ⟨q, h, w, n, ht, .inr ⟨by omega, rfl, rfl⟩⟩) (hI.place hW (by omega) (fun c i h1 h2 => ?_) ⟨?_, ?_, ?_, ?_, sm, a, ⟨s1, s2, s3, s4, s5, s6, s7⟩, ?_, fun k hk => ?_⟩ (hI.sm.cgr fun c i hc => ?_)) fun c i hc => ?_
      · unfold pPl at h2
        unfold pK at h1
        rw [pmu_ne (by omega), pmu_ne (by omega), k2 c i (by unfold sK; omega) (by omega) (by omega) (by omega)]
      · rw [pmu_ne (by omega), pmu_ne (by omega), k2 _ _ (by unfold sK; omega) (by omega) (by omega) (by omega)]; exact m1
      · show pmu (pmu D2 (M + 76) (p : Int) ((h : Int) + 1)) (M + 23) (p : Int) ((n : Int) + 1) (M + 23) (p : Int) = ((n + 1 : Nat) : Int)
        rw [pmu_eq]; omega
      · show pmu (pmu D2 (M + 76) (p : Int) ((h : Int) + 1)) (M + 23) (p : Int) ((n : Int) + 1) (M + 76) (p : Int) = ((h + 1 : Nat) : Int)
        rw [pmu_ne (by omega), pmu_eq]; omega
      · refine v3.cgr fun c i hc => ?_
        have hc : c = M + 44 + 2 * p ∨ c = M + 44 + 2 * p + 1 := hc
        rw [pmu_ne (by omega), pmu_ne (by omega)]
      · rw [pmu_ne (by omega), pmu_ne (by omega), k2 _ _ (by unfold sK; omega) (by omega) (by omega) (by omega)]; exact m6
      · rw [pmu_ne (by omega), pmu_ne (by omega)]
        show D2 (M + 26 + p) k = _
        rw [k2 _ _ (by unfold sK; omega) (by omega) (by omega) (by omega)]; exact m7 k hk
      · unfold pSm at hc
        rw [pmu_ne (by omega), pmu_ne (by omega)]
        rw [v1 c i (by omega) (by omega) (by omega) (by omega) (by omega) (by omega) (by omega) (by omega) (by omega)]
        exact k1 c i (by omega) (by omega) (by omega)
      · rw [pmu_ne (by omega), pmu_ne (by omega), k2 c i (by unfold sK; omega) (by omega) (by omega) (by omega)]
    · refine wp_in ?_
      simp only [P_X16_narrow, i_kil, i_icon, i_lcon, i_null, i_loadI, i_loadL, i_loadR, i_istore, i_lstore, i_astore, i_iinc, i_dup, i_dup2, i_pop, i_iadd, i_isub, i_imul, i_idiv, i_irem, i_ineg, i_iand, i_ior, i_ishl, i_ishr, i_lxor, i_ladd, i_lsub, i_lmul, i_ldiv, i_lrem, i_lneg, i_lshl, i_lcmp, i_i2l, i_l2i, i_i2b, i_i2s, i_ifeq, i_ifne, i_iflt, i_ifge, i_ifgt, i_ifle, i_cmpeq, i_cmpne, i_cmplt, i_cmpge, i_cmpgt, i_cmple, i_acmpeq, i_acmpne, i_ifnull, i_ifnonnull, i_getI, i_getR, i_putI, i_putZ, i_putR, i_ald, i_ldL, i_ldR, i_ast, i_stL, i_stR, i_alen, i_new, i_newa, i_iret, i_zret, i_lret, i_aret, i_vret, i_raise, i_throw, i_recv, i_objinit, i_tsw3, lget, lset, lput1, lput2, lkil, ltrim, largs, isL, takev, dropv, nthv, pushO, catv, gd, true_and, and_true, Option.some.injEq, Prod.mk.injEq, exists_eq_left', if_true, if_false, reduceCtorEq, Bool.false_eq_true, lcmp_ge, lcmp_lt, lcmp_le, lcmp_gt, lcmp_eq, true_or, or_true, not_true_eq_false, not_false_eq_true, false_implies, true_implies, List.length_cons, List.length_nil]
      refine ⟨fun _ => two 6 _ (by decide) K (rR_q h0 ⟨q, h, w, n, ht, .inl ⟨by omega, rfl, rfl⟩⟩), fun z => by omega⟩
  · refine ⟨fun w => ?_, fun w => by omega⟩
    refine wp_in ?_
    simp only [P_X16_narrow, i_kil, i_icon, i_lcon, i_null, i_loadI, i_loadL, i_loadR, i_istore, i_lstore, i_astore, i_iinc, i_dup, i_dup2, i_pop, i_iadd, i_isub, i_imul, i_idiv, i_irem, i_ineg, i_iand, i_ior, i_ishl, i_ishr, i_lxor, i_ladd, i_lsub, i_lmul, i_ldiv, i_lrem, i_lneg, i_lshl, i_lcmp, i_i2l, i_l2i, i_i2b, i_i2s, i_ifeq, i_ifne, i_iflt, i_ifge, i_ifgt, i_ifle, i_cmpeq, i_cmpne, i_cmplt, i_cmpge, i_cmpgt, i_cmple, i_acmpeq, i_acmpne, i_ifnull, i_ifnonnull, i_getI, i_getR, i_putI, i_putZ, i_putR, i_ald, i_ldL, i_ldR, i_ast, i_stL, i_stR, i_alen, i_new, i_newa, i_iret, i_zret, i_lret, i_aret, i_vret, i_raise, i_throw, i_recv, i_objinit, i_tsw3, lget, lset, lput1, lput2, lkil, ltrim, largs, isL, takev, dropv, nthv, pushO, catv, gd, true_and, and_true, Option.some.injEq, Prod.mk.injEq, exists_eq_left', if_true, if_false, reduceCtorEq, Bool.false_eq_true, lcmp_ge, lcmp_lt, lcmp_le, lcmp_gt, lcmp_eq, true_or, or_true, not_true_eq_false, not_false_eq_true, false_implies, true_implies, List.length_cons, List.length_nil]
    refine ⟨fun w => by omega, fun _ => two (lkN s x 3) _ (by omega) K (rR_f h0 rfl)⟩
end MNA
