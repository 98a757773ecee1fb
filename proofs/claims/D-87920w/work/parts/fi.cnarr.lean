/-! the component's calls: narrow -/
-- needs: ff.cops9
set_option maxRecDepth 100000
set_option linter.unusedVariables false
section CNA
variable {S S' : Stat} {D D' : Dat} {C mn w N : Nat} {s : Cst} {lz : Nat → Option Nat} {own : Nat → Nat}
set_option maxHeartbeats 4000000 in
theorem co_narrow {E : Ex} {B : Nat × Nat} {x : Int} (h : coJ S D C s lz own mn w) (hW : crW N s) (hN : N < 1000) (hB : 1000 ≤ B.1 ∧ 80000 ≤ B.2) (K : cK E S D C mn (oNarrow x s)) : Wp P_X0_narrow E 0 [some (aR C), some (aI x)] [] B S D := by
  have o := h.fx.o
  have hf := h.fx.fl
  have hrt := h.fx.rt
  have hC := h.lzz.1
  have c7 : S.2.1 C 7 = some (C + 225) := hrt.2.2.2.1
  have chs : chS S (C + 225) (C + 22) := hrt.2.2.2.2.1
  have ch8 := chs.2.1
  obtain ⟨φm, hφm⟩ := h.sc.1
  have err : ∀ (kk : Nat) (B' : Nat × Nat) (S1 : Stat) (D1 : Dat) (lz1 : Nat → Option Nat) (own1 : Nat → Nat) (w1 : Nat), 1 ≤ kk ∧ kk ≤ 7 → coJ S1 D1 C s lz1 own1 mn w1 → cFr S D S1 D1 C → oNarrow x s (uFn s kk) (-(kk : Int)) → Wp P_X0_narrow E 2 [some (aR C)] [.inr (.inr (some (C + 727 + kk)))] B' S1 D1 := fun kk B' S1 D1 lz1 own1 w1 e1 e2 e3 e4 => by
    have o := e2.fx.o
    refine wp_in ?_
    simp only [P_X0_narrow, i_kil, i_icon, i_lcon, i_null, i_loadI, i_loadL, i_loadR, i_istore, i_lstore, i_astore, i_iinc, i_dup, i_dup2, i_pop, i_iadd, i_isub, i_imul, i_idiv, i_irem, i_ineg, i_iand, i_ior, i_ishl, i_ishr, i_lxor, i_ladd, i_lsub, i_lmul, i_ldiv, i_lrem, i_lneg, i_lshl, i_lcmp, i_i2l, i_l2i, i_i2b, i_i2s, i_ifeq, i_ifne, i_iflt, i_ifge, i_ifgt, i_ifle, i_cmpeq, i_cmpne, i_cmplt, i_cmpge, i_cmpgt, i_cmple, i_acmpeq, i_acmpne, i_ifnull, i_ifnonnull, i_getI, i_getR, i_putI, i_putZ, i_putR, i_ald, i_ldL, i_ldR, i_ast, i_stL, i_stR, i_alen, i_new, i_newa, i_iret, i_zret, i_lret, i_aret, i_vret, i_raise, i_throw, i_recv, i_objinit, i_tsw3, lget, lset, lput1, lput2, lkil, ltrim, largs, isL, takev, dropv, nthv, pushO, catv, gd, true_and, and_true, Option.some.injEq, Prod.mk.injEq, exists_eq_left', if_true, if_false, reduceCtorEq, Bool.false_eq_true, lcmp_ge, lcmp_lt, lcmp_le, lcmp_gt, lcmp_eq, true_or, or_true, not_true_eq_false, not_false_eq_true, false_implies, true_implies, List.length_cons, List.length_nil, o]
    repeat (first | refine ⟨in_small (by omega) (by omega), ?_⟩ | (show (_ → _) ∧ (_ → _); first | refine ⟨by omega, fun _ => ?_⟩ | refine ⟨fun _ => ?_, by omega⟩) | refine ⟨by omega, ?_⟩ | refine ⟨⟨_, rfl, by assumption⟩, ?_⟩ | refine ⟨okT_I _, ?_⟩ | refine call0 (gd_of rfl) ?_)
    refine co_fin e2 hW hN e1 fun D2 e5 e6 => ?_
    simp only [P_X0_narrow, i_kil, i_icon, i_lcon, i_null, i_loadI, i_loadL, i_loadR, i_istore, i_lstore, i_astore, i_iinc, i_dup, i_dup2, i_pop, i_iadd, i_isub, i_imul, i_idiv, i_irem, i_ineg, i_iand, i_ior, i_ishl, i_ishr, i_lxor, i_ladd, i_lsub, i_lmul, i_ldiv, i_lrem, i_lneg, i_lshl, i_lcmp, i_i2l, i_l2i, i_i2b, i_i2s, i_ifeq, i_ifne, i_iflt, i_ifge, i_ifgt, i_ifle, i_cmpeq, i_cmpne, i_cmplt, i_cmpge, i_cmpgt, i_cmple, i_acmpeq, i_acmpne, i_ifnull, i_ifnonnull, i_getI, i_getR, i_putI, i_putZ, i_putR, i_ald, i_ldL, i_ldR, i_ast, i_stL, i_stR, i_alen, i_new, i_newa, i_iret, i_zret, i_lret, i_aret, i_vret, i_raise, i_throw, i_recv, i_objinit, i_tsw3, lget, lset, lput1, lput2, lkil, ltrim, largs, isL, takev, dropv, nthv, pushO, catv, gd, true_and, and_true, Option.some.injEq, Prod.mk.injEq, exists_eq_left', if_true, if_false, reduceCtorEq, Bool.false_eq_true, lcmp_ge, lcmp_lt, lcmp_le, lcmp_gt, lcmp_eq, true_or, or_true, not_true_eq_false, not_false_eq_true, false_implies, true_implies, List.length_cons, List.length_nil]
    exact K _ _ _ _ _ e4 ⟨lz1, own1, w1, e5⟩ (e3.tr e6)
  have nx : ∀ n, S.2.2 ≤ n → coJ (S.1, S.2.1, n) D C s lz own mn w ∧ cFr S D (S.1, S.2.1, n) D C := fun n hn => ⟨h.keep hW (cSr.nx hn) (fun _ _ _ => rfl) h.sc, (cSr.nx hn).fr h.lzz.1 fun _ _ _ _ => rfl⟩
  refine wp_in ?_
  simp only [P_X0_narrow, i_kil, i_icon, i_lcon, i_null, i_loadI, i_loadL, i_loadR, i_istore, i_lstore, i_astore, i_iinc, i_dup, i_dup2, i_pop, i_iadd, i_isub, i_imul, i_idiv, i_irem, i_ineg, i_iand, i_ior, i_ishl, i_ishr, i_lxor, i_ladd, i_lsub, i_lmul, i_ldiv, i_lrem, i_lneg, i_lshl, i_lcmp, i_i2l, i_l2i, i_i2b, i_i2s, i_ifeq, i_ifne, i_iflt, i_ifge, i_ifgt, i_ifle, i_cmpeq, i_cmpne, i_cmplt, i_cmpge, i_cmpgt, i_cmple, i_acmpeq, i_acmpne, i_ifnull, i_ifnonnull, i_getI, i_getR, i_putI, i_putZ, i_putR, i_ald, i_ldL, i_ldR, i_ast, i_stL, i_stR, i_alen, i_new, i_newa, i_iret, i_zret, i_lret, i_aret, i_vret, i_raise, i_throw, i_recv, i_objinit, i_tsw3, lget, lset, lput1, lput2, lkil, ltrim, largs, isL, takev, dropv, nthv, pushO, catv, gd, true_and, and_true, Option.some.injEq, Prod.mk.injEq, exists_eq_left', if_true, if_false, reduceCtorEq, Bool.false_eq_true, lcmp_ge, lcmp_lt, lcmp_le, lcmp_gt, lcmp_eq, true_or, or_true, not_true_eq_false, not_false_eq_true, false_implies, true_implies, List.length_cons, List.length_nil, o]
  refine ⟨⟨_, rfl, o⟩, callB 7 1200 (by omega) (gd_of rfl) ?_⟩
  refine real_at h hW (by decide) (fun p a r hp hp16 ht hw ha hD hS hac hl B1 => ?_) fun hx B1 n hn => ?_
  · obtain ⟨⟨f, d⟩, hh, ww, n⟩ := r
    obtain ⟨⟨y1, y2, y3, y4, y5, y6⟩, y7, y8, y9, y10, y11⟩ := hw
    have y1 : 1 ≤ d := y1
    have y2 : d ≤ 8 := y2
    have y3 : f d ≠ 0 := y3
    have y5 : ∀ k, (f k).natAbs ≤ 99 := y5
    have y6 : gdN (nR (zp f (d + 1))) := y6
    have y7 : 0 ≤ ww := y7
    have y8 : ww < ((2 ^ hh : Nat) : Int) := y8
    have y9 : nR (zp f (d + 1)) hh ww = 1 := y9
    have y10 : hh ≤ 389 + n := y10
    have y11 : n ≤ 60 := y11
    have hD : reD D a f d hh n ww := hD
    subst hp
    have a13 := hS.1
    have hz := h.lzz.2 (16 + p) a ha
    have hl4 : lsz (16 + p) = 4 := by unfold lsz; rw [if_pos (by omega)]
    obtain ⟨z1, z2, z3, z4, z5⟩ := hD
    have one : ∀ (B' : Nat × Nat) (v : Int), (v = 1 ∧ n < 60 ∨ v = 0 ∧ ¬ n < 60) → Wp P_X0_narrow E 1 [some (aR C), none, some (aR a)] [.inl v, .inr (.inr (some C))] B' S D := fun B' v hv => by
      refine wp_in ?_
      simp only [P_X0_narrow, i_kil, i_icon, i_lcon, i_null, i_loadI, i_loadL, i_loadR, i_istore, i_lstore, i_astore, i_iinc, i_dup, i_dup2, i_pop, i_iadd, i_isub, i_imul, i_idiv, i_irem, i_ineg, i_iand, i_ior, i_ishl, i_ishr, i_lxor, i_ladd, i_lsub, i_lmul, i_ldiv, i_lrem, i_lneg, i_lshl, i_lcmp, i_i2l, i_l2i, i_i2b, i_i2s, i_ifeq, i_ifne, i_iflt, i_ifge, i_ifgt, i_ifle, i_cmpeq, i_cmpne, i_cmplt, i_cmpge, i_cmpgt, i_cmple, i_acmpeq, i_acmpne, i_ifnull, i_ifnonnull, i_getI, i_getR, i_putI, i_putZ, i_putR, i_ald, i_ldL, i_ldR, i_ast, i_stL, i_stR, i_alen, i_new, i_newa, i_iret, i_zret, i_lret, i_aret, i_vret, i_raise, i_throw, i_recv, i_objinit, i_tsw3, lget, lset, lput1, lput2, lkil, ltrim, largs, isL, takev, dropv, nthv, pushO, catv, gd, true_and, and_true, Option.some.injEq, Prod.mk.injEq, exists_eq_left', if_true, if_false, reduceCtorEq, Bool.false_eq_true, lcmp_ge, lcmp_lt, lcmp_le, lcmp_gt, lcmp_eq, true_or, or_true, not_true_eq_false, not_false_eq_true, false_implies, true_implies, List.length_cons, List.length_nil, o]
      repeat (first | refine ⟨in_small (by omega) (by omega), ?_⟩ | (show (_ → _) ∧ (_ → _); first | refine ⟨by omega, fun _ => ?_⟩ | refine ⟨fun _ => ?_, by omega⟩) | refine ⟨by omega, ?_⟩ | refine ⟨⟨_, rfl, by assumption⟩, ?_⟩ | refine ⟨okT_I _, ?_⟩ | refine call0 (gd_of rfl) ?_)
      refine need_at (k := 6) hf (by decide) (by decide) rfl (fun q => ?_) fun q => ?_
      · have hk : n < 60 := by
          rcases hv with hv | hv
          · exact hv.2
          · exact absurd hv.1 q
        have a0 := hS.2.1
        simp only [P_X0_narrow, i_kil, i_icon, i_lcon, i_null, i_loadI, i_loadL, i_loadR, i_istore, i_lstore, i_astore, i_iinc, i_dup, i_dup2, i_pop, i_iadd, i_isub, i_imul, i_idiv, i_irem, i_ineg, i_iand, i_ior, i_ishl, i_ishr, i_lxor, i_ladd, i_lsub, i_lmul, i_ldiv, i_lrem, i_lneg, i_lshl, i_lcmp, i_i2l, i_l2i, i_i2b, i_i2s, i_ifeq, i_ifne, i_iflt, i_ifge, i_ifgt, i_ifle, i_cmpeq, i_cmpne, i_cmplt, i_cmpge, i_cmpgt, i_cmple, i_acmpeq, i_acmpne, i_ifnull, i_ifnonnull, i_getI, i_getR, i_putI, i_putZ, i_putR, i_ald, i_ldL, i_ldR, i_ast, i_stL, i_stR, i_alen, i_new, i_newa, i_iret, i_zret, i_lret, i_aret, i_vret, i_raise, i_throw, i_recv, i_objinit, i_tsw3, lget, lset, lput1, lput2, lkil, ltrim, largs, isL, takev, dropv, nthv, pushO, catv, gd, true_and, and_true, Option.some.injEq, Prod.mk.injEq, exists_eq_left', if_true, if_false, reduceCtorEq, Bool.false_eq_true, lcmp_ge, lcmp_lt, lcmp_le, lcmp_gt, lcmp_eq, true_or, or_true, not_true_eq_false, not_false_eq_true, false_implies, true_implies, List.length_cons, List.length_nil, o, c7, a13, a0, z2]
        repeat (first | refine ⟨in_small (by omega) (by omega), ?_⟩ | (show (_ → _) ∧ (_ → _); first | refine ⟨by omega, fun _ => ?_⟩ | refine ⟨fun _ => ?_, by omega⟩) | refine ⟨by omega, ?_⟩ | refine ⟨⟨_, rfl, by assumption⟩, ?_⟩ | refine ⟨okT_I _, ?_⟩ | refine call0 (gd_of rfl) ?_)
        refine sp_X8_begin (f := f) chs hS.2.2.1 (by omega) y2 y1 (fun k hk => z1 k (by omega)) (fun k hk => y5 k) y3 fun D1 e1 e2 => ?_
        have k1 : ∀ c i, (c < C + 225 ∨ C + 444 < c) → (c ≤ C + 22 ∨ C + 32 < c) → D1 c i = D c i := fun c i h1 h2 => e1 c i (by omega) (by omega)
        have hD1 : reD D1 a f d hh n ww := (show reD D a f d hh n ww from ⟨z1, z2, z3, z4, z5⟩).congr fun c i h1 h2 => k1 c i (by omega) (by omega)
        simp only [P_X0_narrow, i_kil, i_icon, i_lcon, i_null, i_loadI, i_loadL, i_loadR, i_istore, i_lstore, i_astore, i_iinc, i_dup, i_dup2, i_pop, i_iadd, i_isub, i_imul, i_idiv, i_irem, i_ineg, i_iand, i_ior, i_ishl, i_ishr, i_lxor, i_ladd, i_lsub, i_lmul, i_ldiv, i_lrem, i_lneg, i_lshl, i_lcmp, i_i2l, i_l2i, i_i2b, i_i2s, i_ifeq, i_ifne, i_iflt, i_ifge, i_ifgt, i_ifle, i_cmpeq, i_cmpne, i_cmplt, i_cmpge, i_cmpgt, i_cmple, i_acmpeq, i_acmpne, i_ifnull, i_ifnonnull, i_getI, i_getR, i_putI, i_putZ, i_putR, i_ald, i_ldL, i_ldR, i_ast, i_stL, i_stR, i_alen, i_new, i_newa, i_iret, i_zret, i_lret, i_aret, i_vret, i_raise, i_throw, i_recv, i_objinit, i_tsw3, lget, lset, lput1, lput2, lkil, ltrim, largs, isL, takev, dropv, nthv, pushO, catv, gd, true_and, and_true, Option.some.injEq, Prod.mk.injEq, exists_eq_left', if_true, if_false, reduceCtorEq, Bool.false_eq_true, lcmp_ge, lcmp_lt, lcmp_le, lcmp_gt, lcmp_eq, true_or, or_true, not_true_eq_false, not_false_eq_true, false_implies, true_implies, List.length_cons, List.length_nil, o]
        repeat (first | refine ⟨in_small (by omega) (by omega), ?_⟩ | (show (_ → _) ∧ (_ → _); first | refine ⟨by omega, fun _ => ?_⟩ | refine ⟨fun _ => ?_, by omega⟩) | refine ⟨by omega, ?_⟩ | refine ⟨⟨_, rfl, by assumption⟩, ?_⟩ | refine ⟨okT_I _, ?_⟩ | refine call0 (gd_of rfl) ?_)
        refine sp_X0_halfOf (p := zp f (d + 1)) hrt hS (by omega) (by omega) y7 y8 hD1 e2 fun D2 e3 e4 => ?_
        have k2 : ∀ c i, ¬ wK C c → D2 c i = D c i := fun c i hc => by
          unfold wK at hc
          rw [e3 c i (by omega) (by omega) (by omega), k1 c i (by omega) (by omega)]
        obtain ⟨j2, F2⟩ := h.wk hW k2 ⟨φm, hφm.cgr fun c i hc => by rw [e3 c i (by omega) (by omega) (by omega), k1 c i (by omega) (by omega)]⟩
        have hD2 : reD D2 a f d hh n ww := (show reD D a f d hh n ww from ⟨z1, z2, z3, z4, z5⟩).congr fun c i h1 h2 => k2 c i (by unfold wK; omega)
        obtain ⟨v1, v2, v3, v4, v5⟩ := hD2
        have hbit : (if nR (zp f (d + 1)) (hh + 1) (2 * ww) = 1 then (0 : Int) else 1) = 0 ∨ (if nR (zp f (d + 1)) (hh + 1) (2 * ww) = 1 then (0 : Int) else 1) = 1 := by split <;> omega
        generalize hbb : (if nR (zp f (d + 1)) (hh + 1) (2 * ww) = 1 then (0 : Int) else 1) = bb at hbit
        simp only [P_X0_narrow, i_kil, i_icon, i_lcon, i_null, i_loadI, i_loadL, i_loadR, i_istore, i_lstore, i_astore, i_iinc, i_dup, i_dup2, i_pop, i_iadd, i_isub, i_imul, i_idiv, i_irem, i_ineg, i_iand, i_ior, i_ishl, i_ishr, i_lxor, i_ladd, i_lsub, i_lmul, i_ldiv, i_lrem, i_lneg, i_lshl, i_lcmp, i_i2l, i_l2i, i_i2b, i_i2s, i_ifeq, i_ifne, i_iflt, i_ifge, i_ifgt, i_ifle, i_cmpeq, i_cmpne, i_cmplt, i_cmpge, i_cmpgt, i_cmple, i_acmpeq, i_acmpne, i_ifnull, i_ifnonnull, i_getI, i_getR, i_putI, i_putZ, i_putR, i_ald, i_ldL, i_ldR, i_ast, i_stL, i_stR, i_alen, i_new, i_newa, i_iret, i_zret, i_lret, i_aret, i_vret, i_raise, i_throw, i_recv, i_objinit, i_tsw3, lget, lset, lput1, lput2, lkil, ltrim, largs, isL, takev, dropv, nthv, pushO, catv, gd, true_and, and_true, Option.some.injEq, Prod.mk.injEq, exists_eq_left', if_true, if_false, reduceCtorEq, Bool.false_eq_true, lcmp_ge, lcmp_lt, lcmp_le, lcmp_gt, lcmp_eq, true_or, or_true, not_true_eq_false, not_false_eq_true, false_implies, true_implies, List.length_cons, List.length_nil, a13]
        repeat (first | refine ⟨in_small (by omega) (by omega), ?_⟩ | (show (_ → _) ∧ (_ → _); first | refine ⟨by omega, fun _ => ?_⟩ | refine ⟨fun _ => ?_, by omega⟩) | refine ⟨by omega, ?_⟩ | refine ⟨⟨_, rfl, by assumption⟩, ?_⟩ | refine ⟨okT_I _, ?_⟩ | refine call0 (gd_of rfl) ?_)
        refine sp_X13_half hS v3 v5 y7 y8 (by omega) hbit fun D3 e5 e6 e7 => ?_
        have v4' : D3 a 3 = (n : Int) := by rw [e5 a 3 (by omega) (by omega) (by omega)]; exact v4
        simp only [P_X0_narrow, i_kil, i_icon, i_lcon, i_null, i_loadI, i_loadL, i_loadR, i_istore, i_lstore, i_astore, i_iinc, i_dup, i_dup2, i_pop, i_iadd, i_isub, i_imul, i_idiv, i_irem, i_ineg, i_iand, i_ior, i_ishl, i_ishr, i_lxor, i_ladd, i_lsub, i_lmul, i_ldiv, i_lrem, i_lneg, i_lshl, i_lcmp, i_i2l, i_l2i, i_i2b, i_i2s, i_ifeq, i_ifne, i_iflt, i_ifge, i_ifgt, i_ifle, i_cmpeq, i_cmpne, i_cmplt, i_cmpge, i_cmpgt, i_cmple, i_acmpeq, i_acmpne, i_ifnull, i_ifnonnull, i_getI, i_getR, i_putI, i_putZ, i_putR, i_ald, i_ldL, i_ldR, i_ast, i_stL, i_stR, i_alen, i_new, i_newa, i_iret, i_zret, i_lret, i_aret, i_vret, i_raise, i_throw, i_recv, i_objinit, i_tsw3, lget, lset, lput1, lput2, lkil, ltrim, largs, isL, takev, dropv, nthv, pushO, catv, gd, true_and, and_true, Option.some.injEq, Prod.mk.injEq, exists_eq_left', if_true, if_false, reduceCtorEq, Bool.false_eq_true, lcmp_ge, lcmp_lt, lcmp_le, lcmp_gt, lcmp_eq, true_or, or_true, not_true_eq_false, not_false_eq_true, false_implies, true_implies, List.length_cons, List.length_nil, a13, v4']
        refine ⟨in_small (by omega) (by omega), ?_⟩
        let D4 := pmu D3 a 3 ((n : Int) + 1)
        have k4 : ∀ c i, (c < a ∨ a + 4 ≤ c) → D4 c i = D2 c i := fun c i hc => by
          show pmu _ _ _ _ c i = _
          rw [pmu_ne (by omega), e5 c i (by omega) (by omega) (by omega)]
        have hD4 : reD D4 a f d (hh + 1) (n + 1) (2 * ww + bb) := by
          refine ⟨fun k hk => ?_, ?_, ?_, ?_, e7.cgr fun c i hc => ?_⟩
          · show pmu _ _ _ _ _ _ = _
            rw [pmu_ne (by omega), e5 _ _ (by omega) (by omega) (by omega)]; exact v1 k hk
          · show pmu _ _ _ _ _ _ = _
            rw [pmu_ne (by omega), e5 _ _ (by omega) (by omega) (by omega)]; exact v2
          · show pmu _ _ _ _ _ _ = _
            rw [pmu_ne (by omega)]; exact e6
          · show pmu _ _ _ _ _ _ = _
            rw [pmu_eq]; omega
          · show pmu _ _ _ _ _ _ = _
            rw [pmu_ne (by omega)]
        have ethp : sTh (uTh s (p : Int) (some (.inr (.inr (.inl ((f, d), hh + 1, 2 * ww + bb, n + 1)))))) p = some (.inr (.inr (.inl ((f, d), hh + 1, 2 * ww + bb, n + 1)))) := by
          show (if (p : Int) = p then _ else _) = _
          rw [if_pos rfl]
        have etho : ∀ q, q ≠ p → sTh (uTh s (p : Int) (some (.inr (.inr (.inl ((f, d), hh + 1, 2 * ww + bb, n + 1)))))) q = sTh s q := fun q hq => by
          show (if (q : Int) = p then _ else _) = _
          rw [if_neg (by omega)]
        have j4 : coJ S D4 C (uTh s (p : Int) (some (.inr (.inr (.inl ((f, d), hh + 1, 2 * ww + bb, n + 1)))))) lz own mn w := j2.chLz (i := 16 + p) (t := sTh (uTh s (p : Int) (some (.inr (.inr (.inl ((f, d), hh + 1, 2 * ww + bb, n + 1))))))) ⟨hW.2.2.1.1, hW.2.2.2.2.1.1⟩ ha (fun c j hc => k4 c j (by omega)) (fun q hq h1 h2 => etho q (by omega)) (fun q hq => by
          rcases Nat.decEq q p with e | e
          · rw [etho q e]
          · subst e; rw [ethp, ht]; rfl) (fun q hq h1 => by
          rcases Nat.decEq q p with e | e
          · rw [etho q e]
            have : q = 16 + p := by omega
            omega
          · subst e; rw [ethp]; exact ⟨a, ha, hD4⟩) fun h1 => by omega
        have F4 : cFr S D S D4 C := F2.tr ⟨Nat.le_refl _, fun _ _ => rfl, fun c i c1 c2 => ⟨rfl, k4 c i (by omega)⟩⟩
        subst hbb
        exact K _ _ _ _ _ (rR_q hl ⟨(f, d), hh, ww, n, ht, .inr ⟨hk, rfl, rfl⟩⟩) ⟨lz, own, w, j4⟩ F4
      · have hk : ¬ n < 60 := by
          rcases hv with hv | hv
          · exact absurd (hv.1.symm.trans q) (by decide)
          · exact hv.2
        simp only [P_X0_narrow, i_kil, i_icon, i_lcon, i_null, i_loadI, i_loadL, i_loadR, i_istore, i_lstore, i_astore, i_iinc, i_dup, i_dup2, i_pop, i_iadd, i_isub, i_imul, i_idiv, i_irem, i_ineg, i_iand, i_ior, i_ishl, i_ishr, i_lxor, i_ladd, i_lsub, i_lmul, i_ldiv, i_lrem, i_lneg, i_lshl, i_lcmp, i_i2l, i_l2i, i_i2b, i_i2s, i_ifeq, i_ifne, i_iflt, i_ifge, i_ifgt, i_ifle, i_cmpeq, i_cmpne, i_cmplt, i_cmpge, i_cmpgt, i_cmple, i_acmpeq, i_acmpne, i_ifnull, i_ifnonnull, i_getI, i_getR, i_putI, i_putZ, i_putR, i_ald, i_ldL, i_ldR, i_ast, i_stL, i_stR, i_alen, i_new, i_newa, i_iret, i_zret, i_lret, i_aret, i_vret, i_raise, i_throw, i_recv, i_objinit, i_tsw3, lget, lset, lput1, lput2, lkil, ltrim, largs, isL, takev, dropv, nthv, pushO, catv, gd, true_and, and_true, Option.some.injEq, Prod.mk.injEq, exists_eq_left', if_true, if_false, reduceCtorEq, Bool.false_eq_true, lcmp_ge, lcmp_lt, lcmp_le, lcmp_gt, lcmp_eq, true_or, or_true, not_true_eq_false, not_false_eq_true, false_implies, true_implies, List.length_cons, List.length_nil]
        exact err 6 _ _ _ _ _ _ (by decide) h cFr.rfl (rR_q hl ⟨(f, d), hh, ww, n, ht, .inl ⟨hk, rfl, rfl⟩⟩)
    simp only [P_X0_narrow, i_kil, i_icon, i_lcon, i_null, i_loadI, i_loadL, i_loadR, i_istore, i_lstore, i_astore, i_iinc, i_dup, i_dup2, i_pop, i_iadd, i_isub, i_imul, i_idiv, i_irem, i_ineg, i_iand, i_ior, i_ishl, i_ishr, i_lxor, i_ladd, i_lsub, i_lmul, i_ldiv, i_lrem, i_lneg, i_lshl, i_lcmp, i_i2l, i_l2i, i_i2b, i_i2s, i_ifeq, i_ifne, i_iflt, i_ifge, i_ifgt, i_ifle, i_cmpeq, i_cmpne, i_cmplt, i_cmpge, i_cmpgt, i_cmple, i_acmpeq, i_acmpne, i_ifnull, i_ifnonnull, i_getI, i_getR, i_putI, i_putZ, i_putR, i_ald, i_ldL, i_ldR, i_ast, i_stL, i_stR, i_alen, i_new, i_newa, i_iret, i_zret, i_lret, i_aret, i_vret, i_raise, i_throw, i_recv, i_objinit, i_tsw3, lget, lset, lput1, lput2, lkil, ltrim, largs, isL, takev, dropv, nthv, pushO, catv, gd, true_and, and_true, Option.some.injEq, Prod.mk.injEq, exists_eq_left', if_true, if_false, reduceCtorEq, Bool.false_eq_true, lcmp_ge, lcmp_lt, lcmp_le, lcmp_gt, lcmp_eq, true_or, or_true, not_true_eq_false, not_false_eq_true, false_implies, true_implies, List.length_cons, List.length_nil, a13, z4]
    refine ⟨fun q => one _ _ (.inr ⟨rfl, by omega⟩), fun q => one _ _ (.inl ⟨rfl, by omega⟩)⟩
  · simp only [P_X0_narrow, i_kil, i_icon, i_lcon, i_null, i_loadI, i_loadL, i_loadR, i_istore, i_lstore, i_astore, i_iinc, i_dup, i_dup2, i_pop, i_iadd, i_isub, i_imul, i_idiv, i_irem, i_ineg, i_iand, i_ior, i_ishl, i_ishr, i_lxor, i_ladd, i_lsub, i_lmul, i_ldiv, i_lrem, i_lneg, i_lshl, i_lcmp, i_i2l, i_l2i, i_i2b, i_i2s, i_ifeq, i_ifne, i_iflt, i_ifge, i_ifgt, i_ifle, i_cmpeq, i_cmpne, i_cmplt, i_cmpge, i_cmpgt, i_cmple, i_acmpeq, i_acmpne, i_ifnull, i_ifnonnull, i_getI, i_getR, i_putI, i_putZ, i_putR, i_ald, i_ldL, i_ldR, i_ast, i_stL, i_stR, i_alen, i_new, i_newa, i_iret, i_zret, i_lret, i_aret, i_vret, i_raise, i_throw, i_recv, i_objinit, i_tsw3, lget, lset, lput1, lput2, lkil, ltrim, largs, isL, takev, dropv, nthv, pushO, catv, gd, true_and, and_true, Option.some.injEq, Prod.mk.injEq, exists_eq_left', if_true, if_false, reduceCtorEq, Bool.false_eq_true, lcmp_ge, lcmp_lt, lcmp_le, lcmp_gt, lcmp_eq, true_or, or_true, not_true_eq_false, not_false_eq_true, false_implies, true_implies, List.length_cons, List.length_nil]
    have := lkN_le s x 3
    exact err _ _ _ _ _ _ _ (by omega) (nx n hn).1 (nx n hn).2 (rR_f hx rfl)
end CNA
