/-! the component's calls: sign -/
-- needs: fu.croots
set_option maxRecDepth 100000
set_option linter.unusedVariables false
theorem zp_one (g : Nat → Int) (x : Rat) : zp g (0 + 1) x = ((g 0 : Int) : Rat) := by
  show (0 : Rat) + ((g 0 : Int) : Rat) * x ^ 0 = _
  rw [Rat.pow_zero]; grind
theorem sgr_intI (z : Int) : sgr (z : Rat) = if 0 < z then 1 else if z < 0 then -1 else 0 := by
  unfold sgr
  by_cases h : 0 < z
  · rw [if_pos h, if_pos (Rat.intCast_pos.mpr h)]
  · rw [if_neg h, if_neg (fun q => h (Rat.intCast_pos.mp q))]
    by_cases h2 : z < 0
    · rw [if_pos h2, if_pos (Rat.intCast_neg_iff.mpr h2)]
    · rw [if_neg h2, if_neg (fun q => h2 (Rat.intCast_neg_iff.mp q))]
theorem rpt_ltE (h : Nat) (w : Int) : rpt h w < rpt h (w + 1) := by
  have e2 := rpt_wide h w
  have := (pos_inv (r2_pos h)).1
  have : (0 : Rat) < 256 * (((2 ^ h : Nat) : Int) : Rat)⁻¹ := Rat.mul_pos (by decide) this
  grind
/-- a constant's sign -/
theorem sgC_const {p : pf} (hp : PP p) {g : Nat → Int} (hg : g 0 ≠ 0) {lo hi : Rat} (hl : lo < hi) (hv : vP p lo = vP p hi + 1) : sgC p (zp g (0 + 1)) lo hi (sgr ((g 0 : Int) : Rat)) := by
  have c0 : ((g 0 : Int) : Rat) ≠ 0 := fun w => hg (Rat.intCast_inj.mp (w.trans Rat.intCast_zero.symm))
  have hst : stc (fun _ _ => ((g 0 : Int) : Rat)) 1 := ⟨⟨Nat.le_refl _, fun i _ => PP.const _, fun i h1 h2 => by omega, _, c0, fun _ => rfl⟩, 1, by decide, fun h => by omega⟩
  have hsh : shr (fun _ => ((g 0 : Int) : Rat)) (zp g (0 + 1)) := shr.const c0 c0 (fun _ => rfl) (zp_one g)
  refine ⟨fun _ _ => ((g 0 : Int) : Rat), 1, zp g (0 + 1), hst, hsh, ⟨fun z => (((g 0 : Int) : Rat))⁻¹ * p z, fun _ => 1, fun _ => 0, fun _ => 1, PP.smul hp _, PP.const _, PP.const _, PP.const _, fun z => ?_, fun z => ?_, fun z => ?_⟩, .inr ⟨rfl, fun _ _ => ((g 0 : Int) : Rat), 1, lo, hi, hst, hsh, Rat.le_refl, hl, Rat.le_refl, hv, rfl, ?_⟩⟩
  · rw [zp_one]
    have := Rat.mul_inv_cancel _ c0
    have e : (((g 0 : Int) : Rat))⁻¹ * p z * ((g 0 : Int) : Rat) = p z * (((g 0 : Int) : Rat) * (((g 0 : Int) : Rat))⁻¹) := by grind
    rw [e, this]; grind
  · grind
  · grind
  · rw [zp_one]
section CSG
variable {S : Stat} {D : Dat} {C mn w N : Nat} {s : Cst} {lz : Nat → Option Nat} {own : Nat → Nat}
set_option maxHeartbeats 8000000 in
theorem co_sign {E : Ex} {B : Nat × Nat} {x y : Int} (h : coJ S D C s lz own mn w) (hW : crW N s) (hN : N < 1000) (hB : 1000 ≤ B.1 ∧ 80000 ≤ B.2) (K : cK E S D C mn (oSign sgC x y s)) : Wp P_X0_sign E 0 [some (aR C), some (aI x), some (aI y)] [] B S D := by
  have o := h.fx.o
  have hf := h.fx.fl
  have hrt := h.fx.rt
  have hC := h.lzz.1
  have hw1 := h.mv.1
  obtain ⟨T1, T2⟩ := h.fx.T
  obtain ⟨q91, q92⟩ := h.fx.q9
  obtain ⟨r1, r2, r3, r4, r5, r6, r7, r8, r9, r10, r11, r12, r13, r14, r15, r16, r17, r18, r19, r20, r21, r22, r23, r24⟩ := id hrt
  have ch1 := r5.2.1
  have ch2 := r7.2.1
  have v17 := r17.1
  obtain ⟨φm, hφm⟩ := h.sc.1
  have hfa : faS S C := ⟨hf.2.1, hf.2.2.1, fun k k1 k7 => hf.2.2.2.2.2 k k1 (by omega)⟩
  have err : ∀ (kk : Nat) (B' : Nat × Nat) (S1 : Stat) (D1 : Dat) (lz1 : Nat → Option Nat) (own1 : Nat → Nat) (w1 : Nat), 1 ≤ kk ∧ kk ≤ 7 → coJ S1 D1 C s lz1 own1 mn w1 → cFr S D S1 D1 C → oSign sgC x y s (uFn s kk) (-(kk : Int)) → Wp P_X0_sign E 3 [some (aR C)] [.inr (.inr (some (C + 727 + kk)))] B' S1 D1 := fun kk B' S1 D1 lz1 own1 w1 e1 e2 e3 e4 => by
    have o := e2.fx.o
    refine wp_in ?_
    simp only [P_X0_sign, i_kil, i_icon, i_lcon, i_null, i_loadI, i_loadL, i_loadR, i_istore, i_lstore, i_astore, i_iinc, i_dup, i_dup2, i_pop, i_iadd, i_isub, i_imul, i_idiv, i_irem, i_ineg, i_iand, i_ior, i_ishl, i_ishr, i_lxor, i_ladd, i_lsub, i_lmul, i_ldiv, i_lrem, i_lneg, i_lshl, i_lcmp, i_i2l, i_l2i, i_i2b, i_i2s, i_ifeq, i_ifne, i_iflt, i_ifge, i_ifgt, i_ifle, i_cmpeq, i_cmpne, i_cmplt, i_cmpge, i_cmpgt, i_cmple, i_acmpeq, i_acmpne, i_ifnull, i_ifnonnull, i_getI, i_getR, i_putI, i_putZ, i_putR, i_ald, i_ldL, i_ldR, i_ast, i_stL, i_stR, i_alen, i_new, i_newa, i_iret, i_zret, i_lret, i_aret, i_vret, i_raise, i_throw, i_recv, i_objinit, i_tsw3, lget, lset, lput1, lput2, lkil, ltrim, largs, isL, takev, dropv, nthv, pushO, catv, gd, true_and, and_true, Option.some.injEq, Prod.mk.injEq, exists_eq_left', if_true, if_false, reduceCtorEq, Bool.false_eq_true, lcmp_ge, lcmp_lt, lcmp_le, lcmp_gt, lcmp_eq, true_or, or_true, not_true_eq_false, not_false_eq_true, false_implies, true_implies, List.length_cons, List.length_nil, o]
    repeat (first | refine ⟨in_small (by omega) (by omega), ?_⟩ | (show (_ → _) ∧ (_ → _); first | refine ⟨by omega, fun _ => ?_⟩ | refine ⟨fun _ => ?_, by omega⟩) | refine ⟨by omega, ?_⟩ | refine ⟨⟨_, rfl, by assumption⟩, ?_⟩ | refine ⟨okT_I _, ?_⟩ | refine call0 (gd_of rfl) ?_)
    refine co_fin e2 hW hN e1 fun D2 e5 e6 => ?_
    simp only [P_X0_sign, i_kil, i_icon, i_lcon, i_null, i_loadI, i_loadL, i_loadR, i_istore, i_lstore, i_astore, i_iinc, i_dup, i_dup2, i_pop, i_iadd, i_isub, i_imul, i_idiv, i_irem, i_ineg, i_iand, i_ior, i_ishl, i_ishr, i_lxor, i_ladd, i_lsub, i_lmul, i_ldiv, i_lrem, i_lneg, i_lshl, i_lcmp, i_i2l, i_l2i, i_i2b, i_i2s, i_ifeq, i_ifne, i_iflt, i_ifge, i_ifgt, i_ifle, i_cmpeq, i_cmpne, i_cmplt, i_cmpge, i_cmpgt, i_cmple, i_acmpeq, i_acmpne, i_ifnull, i_ifnonnull, i_getI, i_getR, i_putI, i_putZ, i_putR, i_ald, i_ldL, i_ldR, i_ast, i_stL, i_stR, i_alen, i_new, i_newa, i_iret, i_zret, i_lret, i_aret, i_vret, i_raise, i_throw, i_recv, i_objinit, i_tsw3, lget, lset, lput1, lput2, lkil, ltrim, largs, isL, takev, dropv, nthv, pushO, catv, gd, true_and, and_true, Option.some.injEq, Prod.mk.injEq, exists_eq_left', if_true, if_false, reduceCtorEq, Bool.false_eq_true, lcmp_ge, lcmp_lt, lcmp_le, lcmp_gt, lcmp_eq, true_or, or_true, not_true_eq_false, not_false_eq_true, false_implies, true_implies, List.length_cons, List.length_nil]
    exact K _ _ _ _ _ e4 ⟨lz1, own1, w1, e5⟩ (e3.tr e6)
  have nx : ∀ n, S.2.2 ≤ n → coJ (S.1, S.2.1, n) D C s lz own mn w ∧ cFr S D (S.1, S.2.1, n) D C := fun n hn => ⟨h.keep hW (cSr.nx hn) (fun _ _ _ => rfl) h.sc, (cSr.nx hn).fr h.lzz.1 fun _ _ _ _ => rfl⟩
  refine wp_in ?_
  simp only [P_X0_sign, i_kil, i_icon, i_lcon, i_null, i_loadI, i_loadL, i_loadR, i_istore, i_lstore, i_astore, i_iinc, i_dup, i_dup2, i_pop, i_iadd, i_isub, i_imul, i_idiv, i_irem, i_ineg, i_iand, i_ior, i_ishl, i_ishr, i_lxor, i_ladd, i_lsub, i_lmul, i_ldiv, i_lrem, i_lneg, i_lshl, i_lcmp, i_i2l, i_l2i, i_i2b, i_i2s, i_ifeq, i_ifne, i_iflt, i_ifge, i_ifgt, i_ifle, i_cmpeq, i_cmpne, i_cmplt, i_cmpge, i_cmpgt, i_cmple, i_acmpeq, i_acmpne, i_ifnull, i_ifnonnull, i_getI, i_getR, i_putI, i_putZ, i_putR, i_ald, i_ldL, i_ldR, i_ast, i_stL, i_stR, i_alen, i_new, i_newa, i_iret, i_zret, i_lret, i_aret, i_vret, i_raise, i_throw, i_recv, i_objinit, i_tsw3, lget, lset, lput1, lput2, lkil, ltrim, largs, isL, takev, dropv, nthv, pushO, catv, gd, true_and, and_true, Option.some.injEq, Prod.mk.injEq, exists_eq_left', if_true, if_false, reduceCtorEq, Bool.false_eq_true, lcmp_ge, lcmp_lt, lcmp_le, lcmp_gt, lcmp_eq, true_or, or_true, not_true_eq_false, not_false_eq_true, false_implies, true_implies, List.length_cons, List.length_nil, o]
  refine ⟨⟨_, rfl, o⟩, callB 7 1200 (by omega) (gd_of rfl) ?_⟩
  refine poly_at h hW (by decide) (fun p a φ hp hp16 ht ha hD hS hac hl B1 => ?_) fun hx B1 n hn => ?_
  · simp only [P_X0_sign, i_kil, i_icon, i_lcon, i_null, i_loadI, i_loadL, i_loadR, i_istore, i_lstore, i_astore, i_iinc, i_dup, i_dup2, i_pop, i_iadd, i_isub, i_imul, i_idiv, i_irem, i_ineg, i_iand, i_ior, i_ishl, i_ishr, i_lxor, i_ladd, i_lsub, i_lmul, i_ldiv, i_lrem, i_lneg, i_lshl, i_lcmp, i_i2l, i_l2i, i_i2b, i_i2s, i_ifeq, i_ifne, i_iflt, i_ifge, i_ifgt, i_ifle, i_cmpeq, i_cmpne, i_cmplt, i_cmpge, i_cmpgt, i_cmple, i_acmpeq, i_acmpne, i_ifnull, i_ifnonnull, i_getI, i_getR, i_putI, i_putZ, i_putR, i_ald, i_ldL, i_ldR, i_ast, i_stL, i_stR, i_alen, i_new, i_newa, i_iret, i_zret, i_lret, i_aret, i_vret, i_raise, i_throw, i_recv, i_objinit, i_tsw3, lget, lset, lput1, lput2, lkil, ltrim, largs, isL, takev, dropv, nthv, pushO, catv, gd, true_and, and_true, Option.some.injEq, Prod.mk.injEq, exists_eq_left', if_true, if_false, reduceCtorEq, Bool.false_eq_true, lcmp_ge, lcmp_lt, lcmp_le, lcmp_gt, lcmp_eq, true_or, or_true, not_true_eq_false, not_false_eq_true, false_implies, true_implies, List.length_cons, List.length_nil, o]
    refine ⟨⟨_, rfl, o⟩, callB 7 1200 (by show 7 ≤ B.1 - 7 ∧ 1200 ≤ B.2 - 1200; omega) (gd_of rfl) ?_⟩
    refine real_at h hW (by decide) (fun q b r hq hq16 hu hrw hb hR hRS hbc hm B2 => ?_) fun hx B1 n hn => ?_
    · subst hp; subst hq
      have h00 : foN (lkN s p 1) (lkN s q 3) = 0 := foN_0.mpr ⟨hl, hm⟩
      obtain ⟨⟨f, d⟩, hh, ww, n⟩ := r
      obtain ⟨⟨y1, y2, y3, y4, y5, y6⟩, y7, y8, y9, y10, y11⟩ := hrw
      have y1 : 1 ≤ d := y1
      have y2 : d ≤ 8 := y2
      have y3 : f d ≠ 0 := y3
      have y5 : ∀ k, (f k).natAbs ≤ 99 := y5
      have y6 : gdN (nR (zp f (d + 1))) := y6
      have y7 : 0 ≤ ww := y7
      have y8 : ww < ((2 ^ hh : Nat) : Int) := y8
      have y9 : nR (zp f (d + 1)) hh ww = 1 := y9
      have y10 : hh ≤ 389 + n := y10
      have y11 : n ≤ 60 := y11
      have hR : reD D b f d hh n ww := hR
      have a5 := hS.1
      have b13 := hRS.1
      have b0 := hRS.2.1
      have b1 := hRS.2.2.1
      have hcn : D a 1 = (pcnt φ 455 : Nat) := hD.1.2
      have hdeg : D b 1 = (d : Int) := hR.2.1
      have hv1 : vP (zp f (d + 1)) (rpt hh ww) = vP (zp f (d + 1)) (rpt hh (ww + 1)) + 1 := by unfold nR at y9; omega
      have ilo : iB (rpt hh ww) := rpt_iB y7 (by omega)
      have ihi : iB (rpt hh (ww + 1)) := rpt_iB (by omega) (by omega)
      -- the answer
      have hQ : ∀ (s' : Cst) (v : Int), ((pcnt φ 455 = 0 ∧ s' = s ∧ v = 1) ∨ (pcnt φ 455 ≠ 0 ∧ ¬ uniP φ ∧ fR 6 s s' v) ∨ (pcnt φ 455 ≠ 0 ∧ uniP φ ∧ s' = s ∧ ∃ g dq τ, uniR φ g dq ∧ sgC (zp f (d + 1)) (zp g (dq + 1)) (rpt hh ww) (rpt hh (ww + 1)) τ ∧ v = 1 + τ)) → oSign sgC (p : Int) (q : Int) s s' v := fun s' v hh' => rR_q h00 ⟨φ, f, d, hh, ww, n, by rw [show ((p : Nat) : Int).toNat = p by omega]; exact ht, by rw [show ((q : Nat) : Int).toNat = q by omega]; exact hu, hh'⟩
      simp only [P_X0_sign, i_kil, i_icon, i_lcon, i_null, i_loadI, i_loadL, i_loadR, i_istore, i_lstore, i_astore, i_iinc, i_dup, i_dup2, i_pop, i_iadd, i_isub, i_imul, i_idiv, i_irem, i_ineg, i_iand, i_ior, i_ishl, i_ishr, i_lxor, i_ladd, i_lsub, i_lmul, i_ldiv, i_lrem, i_lneg, i_lshl, i_lcmp, i_i2l, i_l2i, i_i2b, i_i2s, i_ifeq, i_ifne, i_iflt, i_ifge, i_ifgt, i_ifle, i_cmpeq, i_cmpne, i_cmplt, i_cmpge, i_cmpgt, i_cmple, i_acmpeq, i_acmpne, i_ifnull, i_ifnonnull, i_getI, i_getR, i_putI, i_putZ, i_putR, i_ald, i_ldL, i_ldR, i_ast, i_stL, i_stR, i_alen, i_new, i_newa, i_iret, i_zret, i_lret, i_aret, i_vret, i_raise, i_throw, i_recv, i_objinit, i_tsw3, lget, lset, lput1, lput2, lkil, ltrim, largs, isL, takev, dropv, nthv, pushO, catv, gd, true_and, and_true, Option.some.injEq, Prod.mk.injEq, exists_eq_left', if_true, if_false, reduceCtorEq, Bool.false_eq_true, lcmp_ge, lcmp_lt, lcmp_le, lcmp_gt, lcmp_eq, true_or, or_true, not_true_eq_false, not_false_eq_true, false_implies, true_implies, List.length_cons, List.length_nil, o, a5, hcn]
      refine ⟨fun hne => ?_, fun hz => ?_⟩
      · have hk : pcnt φ 455 ≠ 0 := by omega
        have hex : ∃ t, t < 455 ∧ φ t ≠ 0 := Classical.byContradiction fun z => hk ((pcnt_z1 455).mpr fun t ht => Classical.byContradiction fun y => z ⟨t, ht, y⟩)
        simp only [P_X0_sign, i_kil, i_icon, i_lcon, i_null, i_loadI, i_loadL, i_loadR, i_istore, i_lstore, i_astore, i_iinc, i_dup, i_dup2, i_pop, i_iadd, i_isub, i_imul, i_idiv, i_irem, i_ineg, i_iand, i_ior, i_ishl, i_ishr, i_lxor, i_ladd, i_lsub, i_lmul, i_ldiv, i_lrem, i_lneg, i_lshl, i_lcmp, i_i2l, i_l2i, i_i2b, i_i2s, i_ifeq, i_ifne, i_iflt, i_ifge, i_ifgt, i_ifle, i_cmpeq, i_cmpne, i_cmplt, i_cmpge, i_cmpgt, i_cmple, i_acmpeq, i_acmpne, i_ifnull, i_ifnonnull, i_getI, i_getR, i_putI, i_putZ, i_putR, i_ald, i_ldL, i_ldR, i_ast, i_stL, i_stR, i_alen, i_new, i_newa, i_iret, i_zret, i_lret, i_aret, i_vret, i_raise, i_throw, i_recv, i_objinit, i_tsw3, lget, lset, lput1, lput2, lkil, ltrim, largs, isL, takev, dropv, nthv, pushO, catv, gd, true_and, and_true, Option.some.injEq, Prod.mk.injEq, exists_eq_left', if_true, if_false, reduceCtorEq, Bool.false_eq_true, lcmp_ge, lcmp_lt, lcmp_le, lcmp_gt, lcmp_eq, true_or, or_true, not_true_eq_false, not_false_eq_true, false_implies, true_implies, List.length_cons, List.length_nil, o, r23]
        repeat (first | refine ⟨in_small (by omega) (by omega), ?_⟩ | (show (_ → _) ∧ (_ → _); first | refine ⟨by omega, fun _ => ?_⟩ | refine ⟨fun _ => ?_, by omega⟩) | refine ⟨by omega, ?_⟩ | refine ⟨⟨_, rfl, by assumption⟩, ?_⟩ | refine ⟨okT_I _, ?_⟩ | refine call0 (gd_of rfl) ?_)
        refine sp_X0_single o hfa T1 q91 r24 hS hD.1 T2 h.cx.2.1 q92 (by omega) (by omega) (by omega) (by omega) (by omega) (fun D1 e1 e2 => ?_) fun D1 e1 e2 e3 => ?_
        · obtain ⟨j1, F1⟩ := h.wk hW (D' := D1) (fun c i hc => e2 c i (by unfold wK at hc; omega) (by unfold wK at hc; omega)) ⟨φm, hφm.cgr fun c i hc => e2 c i (by omega) (by omega)⟩
          simp only [P_X0_sign, i_kil, i_icon, i_lcon, i_null, i_loadI, i_loadL, i_loadR, i_istore, i_lstore, i_astore, i_iinc, i_dup, i_dup2, i_pop, i_iadd, i_isub, i_imul, i_idiv, i_irem, i_ineg, i_iand, i_ior, i_ishl, i_ishr, i_lxor, i_ladd, i_lsub, i_lmul, i_ldiv, i_lrem, i_lneg, i_lshl, i_lcmp, i_i2l, i_l2i, i_i2b, i_i2s, i_ifeq, i_ifne, i_iflt, i_ifge, i_ifgt, i_ifle, i_cmpeq, i_cmpne, i_cmplt, i_cmpge, i_cmpgt, i_cmple, i_acmpeq, i_acmpne, i_ifnull, i_ifnonnull, i_getI, i_getR, i_putI, i_putZ, i_putR, i_ald, i_ldL, i_ldR, i_ast, i_stL, i_stR, i_alen, i_new, i_newa, i_iret, i_zret, i_lret, i_aret, i_vret, i_raise, i_throw, i_recv, i_objinit, i_tsw3, lget, lset, lput1, lput2, lkil, ltrim, largs, isL, takev, dropv, nthv, pushO, catv, gd, true_and, and_true, Option.some.injEq, Prod.mk.injEq, exists_eq_left', if_true, if_false, reduceCtorEq, Bool.false_eq_true, lcmp_ge, lcmp_lt, lcmp_le, lcmp_gt, lcmp_eq, true_or, or_true, not_true_eq_false, not_false_eq_true, false_implies, true_implies, List.length_cons, List.length_nil]
          exact err 6 _ _ _ _ _ _ (by decide) j1 F1 (hQ _ _ (.inr (.inl ⟨hk, e1, rfl, rfl⟩)))
        · obtain ⟨dq, hd, hd8, huR⟩ := uni_sum e1 hex
          rw [hd]
          obtain ⟨g, hge⟩ : ∃ g : Nat → Int, g = fun k => usum φ k 455 := ⟨_, rfl⟩
          rw [← hge] at huR
          have hg99 : ∀ k, (g k).natAbs ≤ 99 := fun k => by rw [hge]; exact usum_99 e1 k
          have hgd := huR.lead hex
          have hgb := uniR.beyond huR
          have e3' : ∀ k : Nat, k < 9 → D1 (C + 717) k = if k ≤ dq then g k else 0 := fun k hk => by
            by_cases z : k ≤ dq
            · rw [if_pos z, hge]; exact e3 k hk
            · rw [if_neg z, ← hgb k (by omega), hge]; exact e3 k hk
          have k1 : ∀ c i, c ≠ C + 717 → (c < C + 666 ∨ C + 669 < c) → D1 c i = D c i := fun c i c1 c2 => e2 c i c1 (by omega)
          have fin : ∀ (B2 : Nat × Nat) (D2 : Dat) (τ : Int), csO C D1 D2 → sgC (zp f (d + 1)) (zp g (dq + 1)) (rpt hh ww) (rpt hh (ww + 1)) τ → E (.inl (some (.inl (1 + τ)))) B2 S D2 := fun B2 D2 τ g1 g2 => by
            obtain ⟨j1, F1⟩ := h.wk hW (D' := D2) (fun c i hc => by
              unfold wK at hc
              rw [g1 c i (by omega) (by omega) (by omega) (by omega) (by omega), k1 c i (by omega) (by omega)]) ⟨φm, hφm.cgr fun c i hc => by rw [g1 c i (by omega) (by omega) (by omega) (by omega) (by omega), k1 c i (by omega) (by omega)]⟩
            exact K _ _ _ _ _ (hQ _ _ (.inr (.inr ⟨hk, e1, rfl, g, dq, τ, huR, g2, rfl⟩))) ⟨lz, own, w, j1⟩ F1
          have hR1 : reD D1 b f d hh n ww := hR.congr fun c i c1 c2 => k1 c i (by omega) (by omega)
          have hdeg1 : D1 b 1 = (d : Int) := hR1.2.1
          simp only [P_X0_sign, i_kil, i_icon, i_lcon, i_null, i_loadI, i_loadL, i_loadR, i_istore, i_lstore, i_astore, i_iinc, i_dup, i_dup2, i_pop, i_iadd, i_isub, i_imul, i_idiv, i_irem, i_ineg, i_iand, i_ior, i_ishl, i_ishr, i_lxor, i_ladd, i_lsub, i_lmul, i_ldiv, i_lrem, i_lneg, i_lshl, i_lcmp, i_i2l, i_l2i, i_i2b, i_i2s, i_ifeq, i_ifne, i_iflt, i_ifge, i_ifgt, i_ifle, i_cmpeq, i_cmpne, i_cmplt, i_cmpge, i_cmpgt, i_cmple, i_acmpeq, i_acmpne, i_ifnull, i_ifnonnull, i_getI, i_getR, i_putI, i_putZ, i_putR, i_ald, i_ldL, i_ldR, i_ast, i_stL, i_stR, i_alen, i_new, i_newa, i_iret, i_zret, i_lret, i_aret, i_vret, i_raise, i_throw, i_recv, i_objinit, i_tsw3, lget, lset, lput1, lput2, lkil, ltrim, largs, isL, takev, dropv, nthv, pushO, catv, gd, true_and, and_true, Option.some.injEq, Prod.mk.injEq, exists_eq_left', if_true, if_false, reduceCtorEq, Bool.false_eq_true, lcmp_ge, lcmp_lt, lcmp_le, lcmp_gt, lcmp_eq, true_or, or_true, not_true_eq_false, not_false_eq_true, false_implies, true_implies, List.length_cons, List.length_nil, o, r6, r23, r24, b13, b0, hdeg1]
          refine ⟨fun hd0 => ?_, fun hd0 => ?_⟩
          · have hd1 : 1 ≤ dq := by omega
            repeat (first | refine ⟨in_small (by omega) (by omega), ?_⟩ | (show (_ → _) ∧ (_ → _); first | refine ⟨by omega, fun _ => ?_⟩ | refine ⟨fun _ => ?_, by omega⟩) | refine ⟨by omega, ?_⟩ | refine ⟨⟨_, rfl, by assumption⟩, ?_⟩ | refine ⟨okT_I _, ?_⟩ | refine call0 (gd_of rfl) ?_)
            refine sp_X8_common (fa := f) (fb := g) r7 b1 (by omega) r24 (by omega) y2 hd8 (fun k hk => hR1.1 k (by omega)) (fun k hk => by rw [e3' k (by omega), if_pos hk]) (fun k _ => y5 k) (fun k _ => hg99 k) y3 hgd fun D2 f2 g2 => ?_
            have k2 : ∀ c i, (c < C + 445 ∨ C + 664 < c) → (c ≤ C + 22 ∨ C + 32 < c) → D2 c i = D1 c i := fun c i c1 c2 => f2 c i (by omega) (by omega)
            have hR2 : reD D2 b f d hh n ww := hR1.congr fun c i c1 c2 => k2 c i (by omega) (by omega)
            obtain ⟨F, nn, mg, e, m1, m10, hcD, hcM, hcS, hcH, hcB⟩ := g2
            simp only [P_X0_sign, i_kil, i_icon, i_lcon, i_null, i_loadI, i_loadL, i_loadR, i_istore, i_lstore, i_astore, i_iinc, i_dup, i_dup2, i_pop, i_iadd, i_isub, i_imul, i_idiv, i_irem, i_ineg, i_iand, i_ior, i_ishl, i_ishr, i_lxor, i_ladd, i_lsub, i_lmul, i_ldiv, i_lrem, i_lneg, i_lshl, i_lcmp, i_i2l, i_l2i, i_i2b, i_i2s, i_ifeq, i_ifne, i_iflt, i_ifge, i_ifgt, i_ifle, i_cmpeq, i_cmpne, i_cmplt, i_cmpge, i_cmpgt, i_cmple, i_acmpeq, i_acmpne, i_ifnull, i_ifnonnull, i_getI, i_getR, i_putI, i_putZ, i_putR, i_ald, i_ldL, i_ldR, i_ast, i_stL, i_stR, i_alen, i_new, i_newa, i_iret, i_zret, i_lret, i_aret, i_vret, i_raise, i_throw, i_recv, i_objinit, i_tsw3, lget, lset, lput1, lput2, lkil, ltrim, largs, isL, takev, dropv, nthv, pushO, catv, gd, true_and, and_true, Option.some.injEq, Prod.mk.injEq, exists_eq_left', if_true, if_false, reduceCtorEq, Bool.false_eq_true, lcmp_ge, lcmp_lt, lcmp_le, lcmp_gt, lcmp_eq, true_or, or_true, not_true_eq_false, not_false_eq_true, false_implies, true_implies, List.length_cons, List.length_nil, o, r6]
            repeat (first | refine ⟨in_small (by omega) (by omega), ?_⟩ | (show (_ → _) ∧ (_ → _); first | refine ⟨by omega, fun _ => ?_⟩ | refine ⟨fun _ => ?_, by omega⟩) | refine ⟨by omega, ?_⟩ | refine ⟨⟨_, rfl, by assumption⟩, ?_⟩ | refine ⟨okT_I _, ?_⟩ | refine call0 (gd_of rfl) ?_)
            refine sp_X0_within hrt (.inr rfl) hRS (by omega) hcD hcM m10 hR2.2.2.1 hR2.2.2.2.2 y7 y8 (by omega) fun D3 f3 => ?_
            have hval : ∀ z, vch (fun i => zF F nn i z) mg = cnt (zF F nn) mg z := fun _ => rfl
            rw [hval, hval]
            have hmono := hcS.mono ilo ihi (Rat.le_of_lt (rpt_ltE hh ww))
            rw [hval, hval] at hmono
            have k3 : ∀ c i, (c < C + 445 ∨ C + 664 < c) → (c ≤ C + 22 ∨ C + 32 < c) → (c < C + 692 ∨ C + 697 < c) → D3 c i = D1 c i := fun c i c1 c2 c3 => by rw [f3 c i (by omega) c3, k2 c i c1 c2]
            have hR3 : reD D3 b f d hh n ww := hR1.congr fun c i c1 c2 => k3 c i (by omega) (by omega) (by omega)
            simp only [P_X0_sign, i_kil, i_icon, i_lcon, i_null, i_loadI, i_loadL, i_loadR, i_istore, i_lstore, i_astore, i_iinc, i_dup, i_dup2, i_pop, i_iadd, i_isub, i_imul, i_idiv, i_irem, i_ineg, i_iand, i_ior, i_ishl, i_ishr, i_lxor, i_ladd, i_lsub, i_lmul, i_ldiv, i_lrem, i_lneg, i_lshl, i_lcmp, i_i2l, i_l2i, i_i2b, i_i2s, i_ifeq, i_ifne, i_iflt, i_ifge, i_ifgt, i_ifle, i_cmpeq, i_cmpne, i_cmplt, i_cmpge, i_cmpgt, i_cmple, i_acmpeq, i_acmpne, i_ifnull, i_ifnonnull, i_getI, i_getR, i_putI, i_putZ, i_putR, i_ald, i_ldL, i_ldR, i_ast, i_stL, i_stR, i_alen, i_new, i_newa, i_iret, i_zret, i_lret, i_aret, i_vret, i_raise, i_throw, i_recv, i_objinit, i_tsw3, lget, lset, lput1, lput2, lkil, ltrim, largs, isL, takev, dropv, nthv, pushO, catv, gd, true_and, and_true, Option.some.injEq, Prod.mk.injEq, exists_eq_left', if_true, if_false, reduceCtorEq, Bool.false_eq_true, lcmp_ge, lcmp_lt, lcmp_le, lcmp_gt, lcmp_eq, true_or, or_true, not_true_eq_false, not_false_eq_true, false_implies, true_implies, List.length_cons, List.length_nil, o, r16]
            refine ⟨fun hle => ?_, fun hgt => ?_⟩
            · have hceq : cnt (zF F nn) mg (rpt hh ww) = cnt (zF F nn) mg (rpt hh (ww + 1)) := by omega
              have hwb : (ww.natAbs : Int) < 1000000000 ^ 32 := by
                have p1 : ((2 ^ hh : Nat) : Int) < 1000000000 ^ 16 := two_pw (by omega)
                have p2 : (1000000000 : Int) ^ 16 ≤ 1000000000 ^ 32 := pw_mono (by decide)
                omega
              repeat (first | refine ⟨in_small (by omega) (by omega), ?_⟩ | (show (_ → _) ∧ (_ → _); first | refine ⟨by omega, fun _ => ?_⟩ | refine ⟨fun _ => ?_, by omega⟩) | refine ⟨by omega, ?_⟩ | refine ⟨⟨_, rfl, by assumption⟩, ?_⟩ | refine ⟨okT_I _, ?_⟩ | refine call0 (gd_of rfl) ?_)
              refine sp_X13_be (q := b) r17 hRS (by omega) hR3 hwb fun D4 f4 g4 => ?_
              have hR4 : reD D4 b f d hh n ww := hR3.congr fun c i c1 c2 => f4 c i (by omega)
              have hdeg4 : D4 b 1 = (d : Int) := hR4.2.1
              simp only [P_X0_sign, i_kil, i_icon, i_lcon, i_null, i_loadI, i_loadL, i_loadR, i_istore, i_lstore, i_astore, i_iinc, i_dup, i_dup2, i_pop, i_iadd, i_isub, i_imul, i_idiv, i_irem, i_ineg, i_iand, i_ior, i_ishl, i_ishr, i_lxor, i_ladd, i_lsub, i_lmul, i_ldiv, i_lrem, i_lneg, i_lshl, i_lcmp, i_i2l, i_l2i, i_i2b, i_i2s, i_ifeq, i_ifne, i_iflt, i_ifge, i_ifgt, i_ifle, i_cmpeq, i_cmpne, i_cmplt, i_cmpge, i_cmpgt, i_cmple, i_acmpeq, i_acmpne, i_ifnull, i_ifnonnull, i_getI, i_getR, i_putI, i_putZ, i_putR, i_ald, i_ldL, i_ldR, i_ast, i_stL, i_stR, i_alen, i_new, i_newa, i_iret, i_zret, i_lret, i_aret, i_vret, i_raise, i_throw, i_recv, i_objinit, i_tsw3, lget, lset, lput1, lput2, lkil, ltrim, largs, isL, takev, dropv, nthv, pushO, catv, gd, true_and, and_true, Option.some.injEq, Prod.mk.injEq, exists_eq_left', if_true, if_false, reduceCtorEq, Bool.false_eq_true, lcmp_ge, lcmp_lt, lcmp_le, lcmp_gt, lcmp_eq, true_or, or_true, not_true_eq_false, not_false_eq_true, false_implies, true_implies, List.length_cons, List.length_nil, o, r4, b13, b0, hdeg4]
              repeat (first | refine ⟨in_small (by omega) (by omega), ?_⟩ | (show (_ → _) ∧ (_ → _); first | refine ⟨by omega, fun _ => ?_⟩ | refine ⟨fun _ => ?_, by omega⟩) | refine ⟨by omega, ?_⟩ | refine ⟨⟨_, rfl, by assumption⟩, ?_⟩ | refine ⟨okT_I _, ?_⟩ | refine call0 (gd_of rfl) ?_)
              refine sp_X8_begin (f := f) r5 b1 (by omega) y2 y1 (fun k hk => hR4.1 k (by omega)) (fun k _ => y5 k) y3 fun D5 f5 g5 => ?_
              simp only [P_X0_sign, i_kil, i_icon, i_lcon, i_null, i_loadI, i_loadL, i_loadR, i_istore, i_lstore, i_astore, i_iinc, i_dup, i_dup2, i_pop, i_iadd, i_isub, i_imul, i_idiv, i_irem, i_ineg, i_iand, i_ior, i_ishl, i_ishr, i_lxor, i_ladd, i_lsub, i_lmul, i_ldiv, i_lrem, i_lneg, i_lshl, i_lcmp, i_i2l, i_l2i, i_i2b, i_i2s, i_ifeq, i_ifne, i_iflt, i_ifge, i_ifgt, i_ifle, i_cmpeq, i_cmpne, i_cmplt, i_cmpge, i_cmpgt, i_cmple, i_acmpeq, i_acmpne, i_ifnull, i_ifnonnull, i_getI, i_getR, i_putI, i_putZ, i_putR, i_ald, i_ldL, i_ldR, i_ast, i_stL, i_stR, i_alen, i_new, i_newa, i_iret, i_zret, i_lret, i_aret, i_vret, i_raise, i_throw, i_recv, i_objinit, i_tsw3, lget, lset, lput1, lput2, lkil, ltrim, largs, isL, takev, dropv, nthv, pushO, catv, gd, true_and, and_true, Option.some.injEq, Prod.mk.injEq, exists_eq_left', if_true, if_false, reduceCtorEq, Bool.false_eq_true, lcmp_ge, lcmp_lt, lcmp_le, lcmp_gt, lcmp_eq, true_or, or_true, not_true_eq_false, not_false_eq_true, false_implies, true_implies, List.length_cons, List.length_nil, o, r6, r23]
              repeat (first | refine ⟨in_small (by omega) (by omega), ?_⟩ | (show (_ → _) ∧ (_ → _); first | refine ⟨by omega, fun _ => ?_⟩ | refine ⟨fun _ => ?_, by omega⟩) | refine ⟨by omega, ?_⟩ | refine ⟨⟨_, rfl, by assumption⟩, ?_⟩ | refine ⟨okT_I _, ?_⟩ | refine call0 (gd_of rfl) ?_)
              have k5 : ∀ c i, (c ≤ C + 22 ∨ C + 32 < c) → (c < C + 225 ∨ C + 664 < c) → (c < C + 692 ∨ C + 697 < c) → (c < C + 724 ∨ C + 727 < c) → D5 c i = D1 c i := fun c i c1 c2 c3 c4 => by rw [f5 c i (by omega) (by omega), f4 c i (by omega), k3 c i (by omega) c1 c3]
              have e5 : ∀ k : Nat, k < 9 → D5 (C + 717) k = if k ≤ dq then g k else 0 := fun k hk => by rw [k5 _ _ (by omega) (by omega) (by omega) (by omega)]; exact e3' k hk
              refine sp_X8_begin (f := g) r7 r24 (by omega) hd8 hd1 (fun k hk => by rw [e5 k (by omega), if_pos hk]) (fun k _ => hg99 k) hgd fun D6 f6 g6 => ?_
              simp only [P_X0_sign, i_kil, i_icon, i_lcon, i_null, i_loadI, i_loadL, i_loadR, i_istore, i_lstore, i_astore, i_iinc, i_dup, i_dup2, i_pop, i_iadd, i_isub, i_imul, i_idiv, i_irem, i_ineg, i_iand, i_ior, i_ishl, i_ishr, i_lxor, i_ladd, i_lsub, i_lmul, i_ldiv, i_lrem, i_lneg, i_lshl, i_lcmp, i_i2l, i_l2i, i_i2b, i_i2s, i_ifeq, i_ifne, i_iflt, i_ifge, i_ifgt, i_ifle, i_cmpeq, i_cmpne, i_cmplt, i_cmpge, i_cmpgt, i_cmple, i_acmpeq, i_acmpne, i_ifnull, i_ifnonnull, i_getI, i_getR, i_putI, i_putZ, i_putR, i_ald, i_ldL, i_ldR, i_ast, i_stL, i_stR, i_alen, i_new, i_newa, i_iret, i_zret, i_lret, i_aret, i_vret, i_raise, i_throw, i_recv, i_objinit, i_tsw3, lget, lset, lput1, lput2, lkil, ltrim, largs, isL, takev, dropv, nthv, pushO, catv, gd, true_and, and_true, Option.some.injEq, Prod.mk.injEq, exists_eq_left', if_true, if_false, reduceCtorEq, Bool.false_eq_true, lcmp_ge, lcmp_lt, lcmp_le, lcmp_gt, lcmp_eq, true_or, or_true, not_true_eq_false, not_false_eq_true, false_implies, true_implies, List.length_cons, List.length_nil]
              have k6 : csO C D1 D6 := fun c i c1 c2 c3 c4 c5 => by rw [f6 c i (by omega) (by omega)]; exact k5 c i c1 c2 c3 c5
              have hp6 : chB (zp f (d + 1)) D6 (C + 225) := g5.congr fun c i c1 c2 => f6 c i (by omega) (by omega)
              have hm6 : reD D6 (C + 724) f d hh n ww := (g4.congr fun c i c1 c2 => by rw [f6 c i (by omega) (by omega), f5 c i (by omega) (by omega)])
              have hst := csign_stop y2 y1 hd8 y3 hgd (fun k _ => y5 k) (fun k _ => hg99 k) hp6 g6 hcS hcH hcB ilo ihi hceq
              obtain ⟨Fq, nq, mq, b1q, b2q, b3q, b4q, b5q, b6q, b7q⟩ := g6.stc
              have eQ : ∀ z, vP (zp g (dq + 1)) z = cnt (zF Fq nq) mq z := fun z => vP_eq (b7q z)
              refine csign_loop (f := f) (g := g) (d := d) (dq := dq) (s := n) hrt y2 hd8 y6 hst.2 (fun k _ => hg99 k) (lo := rpt hh ww) (hi := rpt hh (ww + 1)) hst.1 D1 (fun D7 h7 w7 j1 j2 j3 j4 j5 j6 j7 => ?_) 389 hh ww D6 (by omega) (by omega) k6 y7 y8 Rat.le_refl Rat.le_refl y9 hm6 hp6 g6 fun k hk => by rw [f6 _ _ (by omega) (by omega)]; exact e5 k hk
              refine fin _ D7 _ j1 ⟨zF F nn, mg, e, hcS, hcH, hcB, .inr ⟨hceq, zF Fq nq, mq, rpt h7 w7, rpt h7 (w7 + 1), b5q, b6q, j4, rpt_ltE h7 w7, j5, ?_, ?_, rfl⟩⟩
              · unfold nR at j6; omega
              · unfold nR at j7
                rw [← eQ, ← eQ]; omega
            · have hsg : sgC (zp f (d + 1)) (zp g (dq + 1)) (rpt hh ww) (rpt hh (ww + 1)) 0 := ⟨zF F nn, mg, e, hcS, hcH, hcB, .inl ⟨by omega, rfl⟩⟩
              exact fin _ D3 0 (fun c i c1 c2 c3 c4 c5 => k3 c i (by omega) c1 c3) hsg
          · have hd0' : dq = 0 := by omega
            subst hd0'
            have e30 : D1 (C + 717) 0 = g 0 := e3' 0 (by decide)
            have hsg := sgC_const (zp_pp f (d + 1)) hgd (rpt_ltE hh ww) hv1
            rw [sgr_intI] at hsg
            have lab : ∀ (B' : Nat × Nat) (v : Int), v = 1 + (if 0 < g 0 then 1 else if g 0 < 0 then -1 else 0) → Wp P_X0_sign E 1 [] [.inl v] B' S D1 := fun B' v hv => by
              refine wp_in ?_
              simp only [P_X0_sign, i_kil, i_icon, i_lcon, i_null, i_loadI, i_loadL, i_loadR, i_istore, i_lstore, i_astore, i_iinc, i_dup, i_dup2, i_pop, i_iadd, i_isub, i_imul, i_idiv, i_irem, i_ineg, i_iand, i_ior, i_ishl, i_ishr, i_lxor, i_ladd, i_lsub, i_lmul, i_ldiv, i_lrem, i_lneg, i_lshl, i_lcmp, i_i2l, i_l2i, i_i2b, i_i2s, i_ifeq, i_ifne, i_iflt, i_ifge, i_ifgt, i_ifle, i_cmpeq, i_cmpne, i_cmplt, i_cmpge, i_cmpgt, i_cmple, i_acmpeq, i_acmpne, i_ifnull, i_ifnonnull, i_getI, i_getR, i_putI, i_putZ, i_putR, i_ald, i_ldL, i_ldR, i_ast, i_stL, i_stR, i_alen, i_new, i_newa, i_iret, i_zret, i_lret, i_aret, i_vret, i_raise, i_throw, i_recv, i_objinit, i_tsw3, lget, lset, lput1, lput2, lkil, ltrim, largs, isL, takev, dropv, nthv, pushO, catv, gd, true_and, and_true, Option.some.injEq, Prod.mk.injEq, exists_eq_left', if_true, if_false, reduceCtorEq, Bool.false_eq_true, lcmp_ge, lcmp_lt, lcmp_le, lcmp_gt, lcmp_eq, true_or, or_true, not_true_eq_false, not_false_eq_true, false_implies, true_implies, List.length_cons, List.length_nil]
              rw [hv]
              exact fin _ D1 _ (fun _ _ _ _ _ _ _ => rfl) hsg
            repeat (first | refine ⟨in_small (by omega) (by omega), ?_⟩ | (show (_ → _) ∧ (_ → _); first | refine ⟨by omega, fun _ => ?_⟩ | refine ⟨fun _ => ?_, by omega⟩) | refine ⟨by omega, ?_⟩ | refine ⟨⟨_, rfl, by assumption⟩, ?_⟩ | refine ⟨okT_I _, ?_⟩ | refine call0 (gd_of rfl) ?_)
            rw [e30]
            refine ⟨fun z => lab _ 2 ?_, fun z => lab _ 0 ?_⟩
            · rw [if_pos (by omega)]
              rfl
            · rw [if_neg (by omega), if_pos (by omega)]
              rfl
      · have hk : pcnt φ 455 = 0 := by omega
        exact K _ _ _ _ _ (hQ _ _ (.inl ⟨hk, rfl, rfl⟩)) ⟨lz, own, w, h⟩ cFr.rfl
    · simp only [P_X0_sign, i_kil, i_icon, i_lcon, i_null, i_loadI, i_loadL, i_loadR, i_istore, i_lstore, i_astore, i_iinc, i_dup, i_dup2, i_pop, i_iadd, i_isub, i_imul, i_idiv, i_irem, i_ineg, i_iand, i_ior, i_ishl, i_ishr, i_lxor, i_ladd, i_lsub, i_lmul, i_ldiv, i_lrem, i_lneg, i_lshl, i_lcmp, i_i2l, i_l2i, i_i2b, i_i2s, i_ifeq, i_ifne, i_iflt, i_ifge, i_ifgt, i_ifle, i_cmpeq, i_cmpne, i_cmplt, i_cmpge, i_cmpgt, i_cmple, i_acmpeq, i_acmpne, i_ifnull, i_ifnonnull, i_getI, i_getR, i_putI, i_putZ, i_putR, i_ald, i_ldL, i_ldR, i_ast, i_stL, i_stR, i_alen, i_new, i_newa, i_iret, i_zret, i_lret, i_aret, i_vret, i_raise, i_throw, i_recv, i_objinit, i_tsw3, lget, lset, lput1, lput2, lkil, ltrim, largs, isL, takev, dropv, nthv, pushO, catv, gd, true_and, and_true, Option.some.injEq, Prod.mk.injEq, exists_eq_left', if_true, if_false, reduceCtorEq, Bool.false_eq_true, lcmp_ge, lcmp_lt, lcmp_le, lcmp_gt, lcmp_eq, true_or, or_true, not_true_eq_false, not_false_eq_true, false_implies, true_implies, List.length_cons, List.length_nil]
      have := lkN_le s y 3
      refine err _ _ _ _ _ _ _ (by omega) (nx n hn).1 (nx n hn).2 (rR_f hx ?_)
      unfold foN
      rw [if_pos hl]
  · simp only [P_X0_sign, i_kil, i_icon, i_lcon, i_null, i_loadI, i_loadL, i_loadR, i_istore, i_lstore, i_astore, i_iinc, i_dup, i_dup2, i_pop, i_iadd, i_isub, i_imul, i_idiv, i_irem, i_ineg, i_iand, i_ior, i_ishl, i_ishr, i_lxor, i_ladd, i_lsub, i_lmul, i_ldiv, i_lrem, i_lneg, i_lshl, i_lcmp, i_i2l, i_l2i, i_i2b, i_i2s, i_ifeq, i_ifne, i_iflt, i_ifge, i_ifgt, i_ifle, i_cmpeq, i_cmpne, i_cmplt, i_cmpge, i_cmpgt, i_cmple, i_acmpeq, i_acmpne, i_ifnull, i_ifnonnull, i_getI, i_getR, i_putI, i_putZ, i_putR, i_ald, i_ldL, i_ldR, i_ast, i_stL, i_stR, i_alen, i_new, i_newa, i_iret, i_zret, i_lret, i_aret, i_vret, i_raise, i_throw, i_recv, i_objinit, i_tsw3, lget, lset, lput1, lput2, lkil, ltrim, largs, isL, takev, dropv, nthv, pushO, catv, gd, true_and, and_true, Option.some.injEq, Prod.mk.injEq, exists_eq_left', if_true, if_false, reduceCtorEq, Bool.false_eq_true, lcmp_ge, lcmp_lt, lcmp_le, lcmp_gt, lcmp_eq, true_or, or_true, not_true_eq_false, not_false_eq_true, false_implies, true_implies, List.length_cons, List.length_nil]
    have := lkN_le s x 1
    refine err _ _ _ _ _ _ _ (by omega) (nx n hn).1 (nx n hn).2 (rR_f hx ?_)
    unfold foN
    rw [if_neg hx]
end CSG
