/-! the model's calls: sign -/
-- needs: ei.mroots
set_option maxRecDepth 100000
set_option linter.unusedVariables false
section MSG
variable {M N : Nat} {S : Stat} {s : Cst}
theorem rpt_lt {h : Nat} {w : Int} : rpt h w < rpt h (w + 1) := by
  have e2 := rpt_wide h w
  have := (pos_inv (r2_pos h)).1
  have : (0 : Rat) < 256 * (((2 ^ h : Nat) : Int) : Rat)⁻¹ := Rat.mul_pos (by decide) this
  grind
/-- what the model's way leaves, as the certificate -/
theorem sgM_of {q : Rq} {sm g : Nat → Int} {a dq : Nat} (hq : rqW q) (hs : smW q sm a) {F : Nat → Nat → Int} {n : Nat → Nat} {m : Nat} (hG : chG sm (brow (zder sm) (a - 1)) a (a - 1) F n m) {h : Nat} {w : Int} {lo hi : Rat} (h0 : 0 ≤ w) (h1 : lo ≤ rpt h w) (h2 : rpt h (w + 1) ≤ hi) (h3 : nR (zp q.1 (q.2 + 1)) h w = 1) (h4 : zp sm (a + 1) (rpt h (w + 1)) = 0 ∨ zp sm (a + 1) (rpt h w) ≠ 0) {τ : Int} (h5 : (zp sm (a + 1) (rpt h (w + 1)) = 0 ∧ τ = sgr (zp g (dq + 1) (rpt h (w + 1)))) ∨ (zp sm (a + 1) (rpt h (w + 1)) ≠ 0 ∧ msEnd sm g a dq (rpt h w) (rpt h (w + 1)) τ)) : sgM (zp q.1 (q.2 + 1)) (zp g (dq + 1)) lo hi τ := by
  obtain ⟨s1, s2, s3, s4, s5, s6, s7⟩ := hs
  have hpc := mG_pc hG s1 s3
  refine ⟨zp sm (a + 1), zp (zder sm) a, zF F n, m, s5.stc hpc, ?_, s5.shr, zp_pp _ _, zder_DD, fun x => vP_eq ⟨_, _, n, m, s5, hpc, rfl⟩, rpt h w, rpt h (w + 1), h1, rpt_lt, h2, ?_, ?_⟩
  · unfold zF
    rw [hG.2.2.1, hG.2.2.2.2.1]
  · have e : nR (zp q.1 (q.2 + 1)) h w = vP (zp q.1 (q.2 + 1)) (rpt h w) - vP (zp q.1 (q.2 + 1)) (rpt h (w + 1)) := rfl
    omega
  · rcases h5 with ⟨e1, e2⟩ | ⟨e1, F', n', mt, l, μ, y⟩
    · exact .inl ⟨e1, e2⟩
    · exact .inr ⟨by rcases h4 with e | e; exact absurd e e1; exact e, e1, F', n', mt, l, μ, y⟩
set_option maxHeartbeats 4000000 in
theorem mo_sign {E : Ex} {B : Nat × Nat} {D : Dat} {x y : Int} (hI : moI S D M s) (hW : crW N s) (hN : N < 1000) (K : mK E B S D M (oSign sgM x y s)) : Wp P_X16_sign E 0 [some (aR M), some (aI x), some (aI y)] [] B S D := by
  have o := hI.1.o
  obtain ⟨c1, c2, c3⟩ := hI.1.h13
  obtain ⟨e1, e2⟩ := hI.1.h17
  obtain ⟨f1, f2, f3⟩ := hI.1.h18
  obtain ⟨g1, g2⟩ := hI.1.h19
  have hsg := hI.1.sg
  obtain ⟨-, hmt, n1, ⟨n2, n3⟩, v1, ⟨v2, v3⟩, i1, i2, i3⟩ := hI.1.sg
  obtain ⟨-, -, t1, t2, -, -⟩ := id hmt
  have hmr := hI.1.mr
  obtain ⟨hmh, hms, ⟨p83, p83'⟩, -⟩ := hI.1.mr
  have hle : foN (lkN s x 1) (lkN s y 3) ≤ 3 := foN_le (by have := lkN_le s x 1; omega) (by have := lkN_le s y 3; omega)
  refine wp_in ?_
  simp only [P_X16_sign, i_kil, i_icon, i_lcon, i_null, i_loadI, i_loadL, i_loadR, i_istore, i_lstore, i_astore, i_iinc, i_dup, i_dup2, i_pop, i_iadd, i_isub, i_imul, i_idiv, i_irem, i_ineg, i_iand, i_ior, i_ishl, i_ishr, i_lxor, i_ladd, i_lsub, i_lmul, i_ldiv, i_lrem, i_lneg, i_lshl, i_lcmp, i_i2l, i_l2i, i_i2b, i_i2s, i_ifeq, i_ifne, i_iflt, i_ifge, i_ifgt, i_ifle, i_cmpeq, i_cmpne, i_cmplt, i_cmpge, i_cmpgt, i_cmple, i_acmpeq, i_acmpne, i_ifnull, i_ifnonnull, i_getI, i_getR, i_putI, i_putZ, i_putR, i_ald, i_ldL, i_ldR, i_ast, i_stL, i_stR, i_alen, i_new, i_newa, i_iret, i_zret, i_lret, i_aret, i_vret, i_raise, i_throw, i_recv, i_objinit, i_tsw3, lget, lset, lput1, lput2, lkil, ltrim, largs, isL, takev, dropv, nthv, pushO, catv, gd, true_and, and_true, Option.some.injEq, Prod.mk.injEq, exists_eq_left', if_true, if_false, reduceCtorEq, Bool.false_eq_true, lcmp_ge, lcmp_lt, lcmp_le, lcmp_gt, lcmp_eq, true_or, or_true, not_true_eq_false, not_false_eq_true, false_implies, true_implies, List.length_cons, List.length_nil, o]
  repeat (first | refine ⟨in_small (by omega) (by omega), ?_⟩ | (show (_ → _) ∧ (_ → _); first | refine ⟨by omega, fun _ => ?_⟩ | refine ⟨fun _ => ?_, by omega⟩) | refine ⟨by omega, ?_⟩ | refine ⟨⟨_, rfl, by assumption⟩, ?_⟩ | refine ⟨okT_I _, ?_⟩ | refine call0 (gd_of rfl) ?_)
  refine mo_look (k := 1) hI rfl ?_
  simp only [P_X16_sign, i_kil, i_icon, i_lcon, i_null, i_loadI, i_loadL, i_loadR, i_istore, i_lstore, i_astore, i_iinc, i_dup, i_dup2, i_pop, i_iadd, i_isub, i_imul, i_idiv, i_irem, i_ineg, i_iand, i_ior, i_ishl, i_ishr, i_lxor, i_ladd, i_lsub, i_lmul, i_ldiv, i_lrem, i_lneg, i_lshl, i_lcmp, i_i2l, i_l2i, i_i2b, i_i2s, i_ifeq, i_ifne, i_iflt, i_ifge, i_ifgt, i_ifle, i_cmpeq, i_cmpne, i_cmplt, i_cmpge, i_cmpgt, i_cmple, i_acmpeq, i_acmpne, i_ifnull, i_ifnonnull, i_getI, i_getR, i_putI, i_putZ, i_putR, i_ald, i_ldL, i_ldR, i_ast, i_stL, i_stR, i_alen, i_new, i_newa, i_iret, i_zret, i_lret, i_aret, i_vret, i_raise, i_throw, i_recv, i_objinit, i_tsw3, lget, lset, lput1, lput2, lkil, ltrim, largs, isL, takev, dropv, nthv, pushO, catv, gd, true_and, and_true, Option.some.injEq, Prod.mk.injEq, exists_eq_left', if_true, if_false, reduceCtorEq, Bool.false_eq_true, lcmp_ge, lcmp_lt, lcmp_le, lcmp_gt, lcmp_eq, true_or, or_true, not_true_eq_false, not_false_eq_true, false_implies, true_implies, List.length_cons, List.length_nil]
  repeat (first | refine ⟨in_small (by omega) (by omega), ?_⟩ | (show (_ → _) ∧ (_ → _); first | refine ⟨by omega, fun _ => ?_⟩ | refine ⟨fun _ => ?_, by omega⟩) | refine ⟨by omega, ?_⟩ | refine ⟨⟨_, rfl, by assumption⟩, ?_⟩ | refine ⟨okT_I _, ?_⟩ | refine call0 (gd_of rfl) ?_)
  refine mo_look (k := 3) hI rfl ?_
  simp only [P_X16_sign, i_kil, i_icon, i_lcon, i_null, i_loadI, i_loadL, i_loadR, i_istore, i_lstore, i_astore, i_iinc, i_dup, i_dup2, i_pop, i_iadd, i_isub, i_imul, i_idiv, i_irem, i_ineg, i_iand, i_ior, i_ishl, i_ishr, i_lxor, i_ladd, i_lsub, i_lmul, i_ldiv, i_lrem, i_lneg, i_lshl, i_lcmp, i_i2l, i_l2i, i_i2b, i_i2s, i_ifeq, i_ifne, i_iflt, i_ifge, i_ifgt, i_ifle, i_cmpeq, i_cmpne, i_cmplt, i_cmpge, i_cmpgt, i_cmple, i_acmpeq, i_acmpne, i_ifnull, i_ifnonnull, i_getI, i_getR, i_putI, i_putZ, i_putR, i_ald, i_ldL, i_ldR, i_ast, i_stL, i_stR, i_alen, i_new, i_newa, i_iret, i_zret, i_lret, i_aret, i_vret, i_raise, i_throw, i_recv, i_objinit, i_tsw3, lget, lset, lput1, lput2, lkil, ltrim, largs, isL, takev, dropv, nthv, pushO, catv, gd, true_and, and_true, Option.some.injEq, Prod.mk.injEq, exists_eq_left', if_true, if_false, reduceCtorEq, Bool.false_eq_true, lcmp_ge, lcmp_lt, lcmp_le, lcmp_gt, lcmp_eq, true_or, or_true, not_true_eq_false, not_false_eq_true, false_implies, true_implies, List.length_cons, List.length_nil]
  repeat (first | refine ⟨in_small (by omega) (by omega), ?_⟩ | (show (_ → _) ∧ (_ → _); first | refine ⟨by omega, fun _ => ?_⟩ | refine ⟨fun _ => ?_, by omega⟩) | refine ⟨by omega, ?_⟩ | refine ⟨⟨_, rfl, by assumption⟩, ?_⟩ | refine ⟨okT_I _, ?_⟩ | refine call0 (gd_of rfl) ?_)
  refine sp_firstOf2 ?_
  simp only [P_X16_sign, i_kil, i_icon, i_lcon, i_null, i_loadI, i_loadL, i_loadR, i_istore, i_lstore, i_astore, i_iinc, i_dup, i_dup2, i_pop, i_iadd, i_isub, i_imul, i_idiv, i_irem, i_ineg, i_iand, i_ior, i_ishl, i_ishr, i_lxor, i_ladd, i_lsub, i_lmul, i_ldiv, i_lrem, i_lneg, i_lshl, i_lcmp, i_i2l, i_l2i, i_i2b, i_i2s, i_ifeq, i_ifne, i_iflt, i_ifge, i_ifgt, i_ifle, i_cmpeq, i_cmpne, i_cmplt, i_cmpge, i_cmpgt, i_cmple, i_acmpeq, i_acmpne, i_ifnull, i_ifnonnull, i_getI, i_getR, i_putI, i_putZ, i_putR, i_ald, i_ldL, i_ldR, i_ast, i_stL, i_stR, i_alen, i_new, i_newa, i_iret, i_zret, i_lret, i_aret, i_vret, i_raise, i_throw, i_recv, i_objinit, i_tsw3, lget, lset, lput1, lput2, lkil, ltrim, largs, isL, takev, dropv, nthv, pushO, catv, gd, true_and, and_true, Option.some.injEq, Prod.mk.injEq, exists_eq_left', if_true, if_false, reduceCtorEq, Bool.false_eq_true, lcmp_ge, lcmp_lt, lcmp_le, lcmp_gt, lcmp_eq, true_or, or_true, not_true_eq_false, not_false_eq_true, false_implies, true_implies, List.length_cons, List.length_nil, o, c1, c2]
  refine ⟨fun w0 => ?_, fun w0 => ?_⟩
  · have h00 : foN (lkN s x 1) (lkN s y 3) = 0 := by omega
    obtain ⟨h0, h0'⟩ := foN_0.mp h00
    obtain ⟨p, φ, hp, hp16, ht⟩ := lk1 h0
    obtain ⟨r, ⟨q, h, w, n'⟩, hr, hr16, hu⟩ := lk3 h0'
    subst hp; subst hr
    obtain ⟨p1, p2, p3, p4⟩ := hI.poly hp16 ht
    obtain ⟨n, e, hn⟩ := p1
    have hcn := hn.cnt
    have hc : D (M + 12195 + 244 * p) 0 = (n : Int) := hn.2.1
    repeat (first | refine ⟨in_small (by omega) (by omega), ?_⟩ | (show (_ → _) ∧ (_ → _); first | refine ⟨by omega, fun _ => ?_⟩ | refine ⟨fun _ => ?_, by omega⟩) | refine ⟨by omega, ?_⟩ | refine ⟨⟨_, rfl, by assumption⟩, ?_⟩ | refine ⟨okT_I _, ?_⟩ | refine call0 (gd_of rfl) ?_)
    simp only [p2]
    simp only [P_X16_sign, i_kil, i_icon, i_lcon, i_null, i_loadI, i_loadL, i_loadR, i_istore, i_lstore, i_astore, i_iinc, i_dup, i_dup2, i_pop, i_iadd, i_isub, i_imul, i_idiv, i_irem, i_ineg, i_iand, i_ior, i_ishl, i_ishr, i_lxor, i_ladd, i_lsub, i_lmul, i_ldiv, i_lrem, i_lneg, i_lshl, i_lcmp, i_i2l, i_l2i, i_i2b, i_i2s, i_ifeq, i_ifne, i_iflt, i_ifge, i_ifgt, i_ifle, i_cmpeq, i_cmpne, i_cmplt, i_cmpge, i_cmpgt, i_cmple, i_acmpeq, i_acmpne, i_ifnull, i_ifnonnull, i_getI, i_getR, i_putI, i_putZ, i_putR, i_ald, i_ldL, i_ldR, i_ast, i_stL, i_stR, i_alen, i_new, i_newa, i_iret, i_zret, i_lret, i_aret, i_vret, i_raise, i_throw, i_recv, i_objinit, i_tsw3, lget, lset, lput1, lput2, lkil, ltrim, largs, isL, takev, dropv, nthv, pushO, catv, gd, true_and, and_true, Option.some.injEq, Prod.mk.injEq, exists_eq_left', if_true, if_false, reduceCtorEq, Bool.false_eq_true, lcmp_ge, lcmp_lt, lcmp_le, lcmp_gt, lcmp_eq, true_or, or_true, not_true_eq_false, not_false_eq_true, false_implies, true_implies, List.length_cons, List.length_nil, p4, hc]
    refine ⟨fun hz => ?_, fun hz => ?_⟩
    · repeat (first | refine ⟨in_small (by omega) (by omega), ?_⟩ | (show (_ → _) ∧ (_ → _); first | refine ⟨by omega, fun _ => ?_⟩ | refine ⟨fun _ => ?_, by omega⟩) | refine ⟨by omega, ?_⟩ | refine ⟨⟨_, rfl, by assumption⟩, ?_⟩ | refine ⟨okT_I _, ?_⟩ | refine call0 (gd_of rfl) ?_)
      refine sp_X16_isUni o ⟨p83, p83'⟩ p3 hn (by omega) (by omega) (by omega) (fun D1 u1 u2 => ?_) fun D1 g dq u1 u2 u3 u4 u5 u6 u7 => ?_
      · simp only [P_X16_sign, i_kil, i_icon, i_lcon, i_null, i_loadI, i_loadL, i_loadR, i_istore, i_lstore, i_astore, i_iinc, i_dup, i_dup2, i_pop, i_iadd, i_isub, i_imul, i_idiv, i_irem, i_ineg, i_iand, i_ior, i_ishl, i_ishr, i_lxor, i_ladd, i_lsub, i_lmul, i_ldiv, i_lrem, i_lneg, i_lshl, i_lcmp, i_i2l, i_l2i, i_i2b, i_i2s, i_ifeq, i_ifne, i_iflt, i_ifge, i_ifgt, i_ifle, i_cmpeq, i_cmpne, i_cmplt, i_cmpge, i_cmpgt, i_cmple, i_acmpeq, i_acmpne, i_ifnull, i_ifnonnull, i_getI, i_getR, i_putI, i_putZ, i_putR, i_ald, i_ldL, i_ldR, i_ast, i_stL, i_stR, i_alen, i_new, i_newa, i_iret, i_zret, i_lret, i_aret, i_vret, i_raise, i_throw, i_recv, i_objinit, i_tsw3, lget, lset, lput1, lput2, lkil, ltrim, largs, isL, takev, dropv, nthv, pushO, catv, gd, true_and, and_true, Option.some.injEq, Prod.mk.injEq, exists_eq_left', if_true, if_false, reduceCtorEq, Bool.false_eq_true, lcmp_ge, lcmp_lt, lcmp_le, lcmp_gt, lcmp_eq, true_or, or_true, not_true_eq_false, not_false_eq_true, false_implies, true_implies, List.length_cons, List.length_nil, o]
        obtain ⟨hI1, F1⟩ := hI.scr (D' := D1) hW (fun c i h1 h2 => by
          unfold sK at h1
          rcases Nat.decEq c M with q | q
          · exact u2.1 c i (by omega) q
          · subst q; exact u2.2 i (h2 rfl).2) (hI.sm.cgr fun c i h => by unfold pSm at h; exact u2.1 c i (by omega) (by omega))
        repeat (first | refine ⟨in_small (by omega) (by omega), ?_⟩ | (show (_ → _) ∧ (_ → _); first | refine ⟨by omega, fun _ => ?_⟩ | refine ⟨fun _ => ?_, by omega⟩) | refine ⟨by omega, ?_⟩ | refine ⟨⟨_, rfl, by assumption⟩, ?_⟩ | refine ⟨okT_I _, ?_⟩ | refine call0 (gd_of rfl) ?_)
        refine mo_ans hI1 hW hN (k := 6) (by decide) rfl fun D' h1 h2 => ?_
        simp only [P_X16_sign, i_kil, i_icon, i_lcon, i_null, i_loadI, i_loadL, i_loadR, i_istore, i_lstore, i_astore, i_iinc, i_dup, i_dup2, i_pop, i_iadd, i_isub, i_imul, i_idiv, i_irem, i_ineg, i_iand, i_ior, i_ishl, i_ishr, i_lxor, i_ladd, i_lsub, i_lmul, i_ldiv, i_lrem, i_lneg, i_lshl, i_lcmp, i_i2l, i_l2i, i_i2b, i_i2s, i_ifeq, i_ifne, i_iflt, i_ifge, i_ifgt, i_ifle, i_cmpeq, i_cmpne, i_cmplt, i_cmpge, i_cmpgt, i_cmple, i_acmpeq, i_acmpne, i_ifnull, i_ifnonnull, i_getI, i_getR, i_putI, i_putZ, i_putR, i_ald, i_ldL, i_ldR, i_ast, i_stL, i_stR, i_alen, i_new, i_newa, i_iret, i_zret, i_lret, i_aret, i_vret, i_raise, i_throw, i_recv, i_objinit, i_tsw3, lget, lset, lput1, lput2, lkil, ltrim, largs, isL, takev, dropv, nthv, pushO, catv, gd, true_and, and_true, Option.some.injEq, Prod.mk.injEq, exists_eq_left', if_true, if_false, reduceCtorEq, Bool.false_eq_true, lcmp_ge, lcmp_lt, lcmp_le, lcmp_gt, lcmp_eq, true_or, or_true, not_true_eq_false, not_false_eq_true, false_implies, true_implies, List.length_cons, List.length_nil]
        exact K D' _ _ (rR_q h00 ⟨φ, q.1, q.2, h, w, n', ht, hu, .inr (.inl ⟨by omega, u1, rfl, rfl⟩)⟩) h1 (F1.tr h2)
      · have hm := hI.2.1 r hr16
        have hwt := hW.1 r hr16
        rw [hu] at hm hwt
        obtain ⟨m1, m2, m3, m4, sm, a, m5, m6, m7⟩ := hm
        obtain ⟨w4, w5, w6, w7, w8, w9⟩ := hwt
        have m3 : D (M + 76) (r : Int) = (h : Int) := m3
        have m4 : wD 2 1 D (M + 44 + 2 * r) (mlw h w) := m4
        have w5 : 0 ≤ w := w5
        have w6 : w < ((2 ^ h : Nat) : Int) := w6
        have w7 : nR (zp q.1 (q.2 + 1)) h w = 1 := w7
        have w8 : h ≤ 389 + n' := w8
        have w9 : n' ≤ 60 := w9
        have hm5 := m5
        obtain ⟨s1, s2, s3, s4, s5, s6, s7⟩ := m5
        have hq8 := w4.2.1
        have k1 : ∀ c i, c ≠ M + 11307 → (c ≠ M ∨ i ≠ 84) → D1 c i = D c i := fun c i h1 h2 => by
          rcases Nat.decEq c M with q | q
          · exact u6.1 c i h1 q
          · subst q; exact u6.2 i (by omega)
        have m6' : D1 (M + 42) (r : Int) = (a : Int) := by rw [k1 _ _ (by omega) (by omega)]; exact m6
        have sm47 : ∀ k, (sm k).natAbs ≤ 2 ^ 47 := fun k => by
          rcases Nat.lt_or_ge a k with z | z
          · rw [s4 k z]; decide
          · exact s6 k z
        have hg0 : ∀ k, dq < k → g k = 0 := u2.beyond
        obtain ⟨ir1, ir2⟩ := i3 r hr16
        obtain ⟨fr1, fr2⟩ := f3 r hr16
        have fr3 := fr2.1
        simp only [P_X16_sign, i_kil, i_icon, i_lcon, i_null, i_loadI, i_loadL, i_loadR, i_istore, i_lstore, i_astore, i_iinc, i_dup, i_dup2, i_pop, i_iadd, i_isub, i_imul, i_idiv, i_irem, i_ineg, i_iand, i_ior, i_ishl, i_ishr, i_lxor, i_ladd, i_lsub, i_lmul, i_ldiv, i_lrem, i_lneg, i_lshl, i_lcmp, i_i2l, i_l2i, i_i2b, i_i2s, i_ifeq, i_ifne, i_iflt, i_ifge, i_ifgt, i_ifle, i_cmpeq, i_cmpne, i_cmplt, i_cmpge, i_cmpgt, i_cmple, i_acmpeq, i_acmpne, i_ifnull, i_ifnonnull, i_getI, i_getR, i_putI, i_putZ, i_putR, i_ald, i_ldL, i_ldR, i_ast, i_stL, i_stR, i_alen, i_new, i_newa, i_iret, i_zret, i_lret, i_aret, i_vret, i_raise, i_throw, i_recv, i_objinit, i_tsw3, lget, lset, lput1, lput2, lkil, ltrim, largs, isL, takev, dropv, nthv, pushO, catv, gd, true_and, and_true, Option.some.injEq, Prod.mk.injEq, exists_eq_left', if_true, if_false, reduceCtorEq, Bool.false_eq_true, lcmp_ge, lcmp_lt, lcmp_le, lcmp_gt, lcmp_eq, true_or, or_true, not_true_eq_false, not_false_eq_true, false_implies, true_implies, List.length_cons, List.length_nil, o, e1, e2, m6']
        refine ⟨fun _ => ?_, fun z => absurd z (by decide)⟩
        repeat (first | refine ⟨in_small (by omega) (by omega), ?_⟩ | (show (_ → _) ∧ (_ → _); first | refine ⟨by omega, fun _ => ?_⟩ | refine ⟨fun _ => ?_, by omega⟩) | refine ⟨by omega, ?_⟩ | refine ⟨⟨_, rfl, by assumption⟩, ?_⟩ | refine ⟨okT_I _, ?_⟩ | refine call0 (gd_of rfl) ?_)
        have loop : ∀ (L i : Nat) (D2 : Dat), i + L = 9 → (∀ c z, (c < M + 12122 ∨ M + 12194 < c) → D2 c z = D1 c z) → (∀ k, k < i → wD 2 1 D2 (M + 12121 + 1 + 2 * k) (sm k)) → (∀ k, k < i → wD 2 1 D2 (M + 12158 + 1 + 2 * k) (g k)) → Wp P_X16_sign E 1 [some (aR M), none, some (aI (r : Int)), none, some (aI (a : Int)), some (aI (i : Int))] [] B S D2 := by
          intro L
          induction L with
          | zero =>
            intro i D2 hi h7 h8 h9
            have : i = 9 := by omega
            subst this
            refine wp_in ?_
            simp only [P_X16_sign, i_kil, i_icon, i_lcon, i_null, i_loadI, i_loadL, i_loadR, i_istore, i_lstore, i_astore, i_iinc, i_dup, i_dup2, i_pop, i_iadd, i_isub, i_imul, i_idiv, i_irem, i_ineg, i_iand, i_ior, i_ishl, i_ishr, i_lxor, i_ladd, i_lsub, i_lmul, i_ldiv, i_lrem, i_lneg, i_lshl, i_lcmp, i_i2l, i_l2i, i_i2b, i_i2s, i_ifeq, i_ifne, i_iflt, i_ifge, i_ifgt, i_ifle, i_cmpeq, i_cmpne, i_cmplt, i_cmpge, i_cmpgt, i_cmple, i_acmpeq, i_acmpne, i_ifnull, i_ifnonnull, i_getI, i_getR, i_putI, i_putZ, i_putR, i_ald, i_ldL, i_ldR, i_ast, i_stL, i_stR, i_alen, i_new, i_newa, i_iret, i_zret, i_lret, i_aret, i_vret, i_raise, i_throw, i_recv, i_objinit, i_tsw3, lget, lset, lput1, lput2, lkil, ltrim, largs, isL, takev, dropv, nthv, pushO, catv, gd, true_and, and_true, Option.some.injEq, Prod.mk.injEq, exists_eq_left', if_true, if_false, reduceCtorEq, Bool.false_eq_true, lcmp_ge, lcmp_lt, lcmp_le, lcmp_gt, lcmp_eq, true_or, or_true, not_true_eq_false, not_false_eq_true, false_implies, true_implies, List.length_cons, List.length_nil, o, t1, t2, f1, f2]
            refine ⟨fun _ => ?_, fun q => absurd q (by decide)⟩
            repeat (first | refine ⟨in_small (by omega) (by omega), ?_⟩ | (show (_ → _) ∧ (_ → _); first | refine ⟨by omega, fun _ => ?_⟩ | refine ⟨fun _ => ?_, by omega⟩) | refine ⟨by omega, ?_⟩ | refine ⟨⟨_, rfl, by assumption⟩, ?_⟩ | refine ⟨okT_I _, ?_⟩ | refine call0 (gd_of rfl) ?_)
            rw [fr1]
            have l17 := mlw_b w5 w6 (by omega : h ≤ 459)
            have q44 : wD 2 1 D2 (M + 44 + 2 * r) (mlw h w) := m4.cgr fun c i hc => by
              have hc : c = M + 44 + 2 * r ∨ c = M + 44 + 2 * r + 1 := hc
              rw [h7 c i (by omega), k1 c i (by omega) (by omega)]
            refine ⟨⟨_, rfl, t2.1⟩, call0 (gd_of rfl) ?_⟩
            refine sp_X17_copy t2 fr2 q44 (Int.lt_of_lt_of_le l17 pw17) (Int.lt_of_lt_of_le l17 pw17) (by decide) fun D3 a1 a2 => ?_
            have z76 : D3 (M + 76) (r : Int) = (h : Int) := by rw [a1 _ _ (by omega) (by omega), h7 _ _ (by omega), k1 _ _ (by omega) (by omega)]; exact m3
            simp only [P_X16_sign, i_kil, i_icon, i_lcon, i_null, i_loadI, i_loadL, i_loadR, i_istore, i_lstore, i_astore, i_iinc, i_dup, i_dup2, i_pop, i_iadd, i_isub, i_imul, i_idiv, i_irem, i_ineg, i_iand, i_ior, i_ishl, i_ishr, i_lxor, i_ladd, i_lsub, i_lmul, i_ldiv, i_lrem, i_lneg, i_lshl, i_lcmp, i_i2l, i_l2i, i_i2b, i_i2s, i_ifeq, i_ifne, i_iflt, i_ifge, i_ifgt, i_ifle, i_cmpeq, i_cmpne, i_cmplt, i_cmpge, i_cmpgt, i_cmple, i_acmpeq, i_acmpne, i_ifnull, i_ifnonnull, i_getI, i_getR, i_putI, i_putZ, i_putR, i_ald, i_ldL, i_ldR, i_ast, i_stL, i_stR, i_alen, i_new, i_newa, i_iret, i_zret, i_lret, i_aret, i_vret, i_raise, i_throw, i_recv, i_objinit, i_tsw3, lget, lset, lput1, lput2, lkil, ltrim, largs, isL, takev, dropv, nthv, pushO, catv, gd, true_and, and_true, Option.some.injEq, Prod.mk.injEq, exists_eq_left', if_true, if_false, reduceCtorEq, Bool.false_eq_true, lcmp_ge, lcmp_lt, lcmp_le, lcmp_gt, lcmp_eq, true_or, or_true, not_true_eq_false, not_false_eq_true, false_implies, true_implies, List.length_cons, List.length_nil, o, g1, g2, t1, z76]
            repeat (first | refine ⟨in_small (by omega) (by omega), ?_⟩ | (show (_ → _) ∧ (_ → _); first | refine ⟨by omega, fun _ => ?_⟩ | refine ⟨fun _ => ?_, by omega⟩) | refine ⟨by omega, ?_⟩ | refine ⟨⟨_, rfl, by assumption⟩, ?_⟩ | refine ⟨okT_I _, ?_⟩ | refine call0 (gd_of rfl) ?_)
            refine sp_X16_high hmr hmt t2 (by decide) (by decide) (by omega) a2 w5 w6 (by omega) fun D4 b1 b2 => ?_
            simp only [P_X16_sign, i_kil, i_icon, i_lcon, i_null, i_loadI, i_loadL, i_loadR, i_istore, i_lstore, i_astore, i_iinc, i_dup, i_dup2, i_pop, i_iadd, i_isub, i_imul, i_idiv, i_irem, i_ineg, i_iand, i_ior, i_ishl, i_ishr, i_lxor, i_ladd, i_lsub, i_lmul, i_ldiv, i_lrem, i_lneg, i_lshl, i_lcmp, i_i2l, i_l2i, i_i2b, i_i2s, i_ifeq, i_ifne, i_iflt, i_ifge, i_ifgt, i_ifle, i_cmpeq, i_cmpne, i_cmplt, i_cmpge, i_cmpgt, i_cmple, i_acmpeq, i_acmpne, i_ifnull, i_ifnonnull, i_getI, i_getR, i_putI, i_putZ, i_putR, i_ald, i_ldL, i_ldR, i_ast, i_stL, i_stR, i_alen, i_new, i_newa, i_iret, i_zret, i_lret, i_aret, i_vret, i_raise, i_throw, i_recv, i_objinit, i_tsw3, lget, lset, lput1, lput2, lkil, ltrim, largs, isL, takev, dropv, nthv, pushO, catv, gd, true_and, and_true, Option.some.injEq, Prod.mk.injEq, exists_eq_left', if_true, if_false, reduceCtorEq, Bool.false_eq_true, lcmp_ge, lcmp_lt, lcmp_le, lcmp_gt, lcmp_eq, true_or, or_true, not_true_eq_false, not_false_eq_true, false_implies, true_implies, List.length_cons, List.length_nil, o, i1, i2]
            repeat (first | refine ⟨in_small (by omega) (by omega), ?_⟩ | (show (_ → _) ∧ (_ → _); first | refine ⟨by omega, fun _ => ?_⟩ | refine ⟨fun _ => ?_, by omega⟩) | refine ⟨by omega, ?_⟩ | refine ⟨⟨_, rfl, by assumption⟩, ?_⟩ | refine ⟨okT_I _, ?_⟩ | refine call0 (gd_of rfl) ?_)
            rw [ir1]
            have k4 : ∀ c i, (c < M + 10793 ∨ M + 10794 < c) → (c < M + 12117 ∨ M + 12194 < c) → c ≠ M + 11307 → (c ≠ M ∨ i ≠ 84) → D4 c i = D c i := fun c i h1 h2 h3 h4 => by
              rw [b1 c i (by omega) (by omega) (by omega) (by omega), a1 c i (by omega) (by omega), h7 c i (by omega), k1 c i h3 h4]
            have k4n : ∀ c i, M + 12121 ≤ c → c ≤ M + 12194 → D4 c i = D2 c i := fun c i h1 h2 => by
              rw [b1 c i (by omega) (by omega) (by omega) (by omega), a1 c i (by omega) (by omega)]
            refine sp_X16_plainChain (La := M + 26 + r) (nL := 9) (d := a) (f := sm) hmh ir2 (by omega) (by omega) (by omega) rfl (by omega) s1 (fun k hk => by
              rw [k4 _ _ (by omega) (by omega) (by omega) (by omega)]; exact m7 k (by omega)) (fun k hk => Nat.le_trans (s6 k hk) (by decide)) s3 fun D5 F nn mm x1 x2 x3 x4 => ?_
            have hB := mB_of (M := M) (q := q) hm5 hq8 x2 x4
            have k5 : ∀ c i, (c < M ∨ M + 16 < c) → (c < M + 10781 ∨ M + 11277 < c) → D5 c i = D4 c i := fun c i h1 h2 => x1.1 c i h1 (by omega) (by omega)
            refine ms_loop (N := 390) (lo := rpt h w) (hi := rpt h (w + 1)) hsg w4.2.2.2.2.2 (by omega) s6 (fun h' w' y1 y2 y3 y4 => low_nz hq8 w4.1 w4.2.2.1 (fun k _ => w4.2.2.2.2.1 k) (mG_pc x4 s1 s3) s5 y1 y2 y3 y4) D5 (fun D6 h' w' y1 y2 y3 y4 y5 y6 y7 y8 y9 y10 => ?_) h w D5 (by omega) (by omega) (fun _ _ _ _ _ _ _ _ _ => rfl) w5 w6 Rat.le_refl Rat.le_refl w7 hB (fun k hk => (h8 k (by omega)).cgr fun c i hc => by
                have hc : c = M + 12121 + 1 + 2 * k ∨ c = M + 12121 + 1 + 2 * k + 1 := hc
                rw [k5 c i (by omega) (by omega), k4n c i (by omega) (by omega)]) (a2.cgr fun c i hc => by
                have hc : c = M + 12117 ∨ c = M + 12117 + 1 := hc
                rw [k5 c i (by omega) (by omega), b1 c i (by omega) (by omega) (by omega) (by omega)]) (b2.cgr fun c i hc => by
                have hc : c = M + 12119 ∨ c = M + 12119 + 1 := hc
                rw [k5 c i (by omega) (by omega)])
            have k6 : ∀ c i, (M + 16 < c ∧ c < M + 4221) ∨ (M + 4222 < c ∧ c < M + 10781) ∨ c = M + 11307 ∨ M + 12120 < c → D6 c i = D4 c i := fun c i hh => by
              rw [y1 c i (by omega) (by omega) (by omega) (by omega) (by omega) (by omega) (by omega), k5 c i (by omega) (by omega)]
            have hpl : plD D6 M g dq := ⟨by
              rw [y1 M 84 (by omega) (by omega) (by omega) (by omega) (by omega) (by omega) (by omega), x1.2 84 (by decide), b1 M 84 (by omega) (by omega) (by omega) (by omega), a1 M 84 (by omega) (by omega), h7 M 84 (by omega)]
              exact u7.1, fun k hk => by
              rw [k6 _ _ (by omega), b1 _ _ (by omega) (by omega) (by omega) (by omega), a1 _ _ (by omega) (by omega), h7 _ _ (by omega)]
              exact u7.2 k hk⟩
            refine ms_tail (q := r) hsg ⟨p83, p83'⟩ hr16 (by omega) s1 s3 s6 s7 u3 u4 (fun k _ => u5 k) (fun k hk => (h8 k (by omega)).cgr fun c i hc => by
                have hc : c = M + 12121 + 1 + 2 * k ∨ c = M + 12121 + 1 + 2 * k + 1 := hc
                rw [k6 c i (by omega), k4n c i (by omega) (by omega)]) (fun k hk => (h9 k (by omega)).cgr fun c i hc => by
                have hc : c = M + 12158 + 1 + 2 * k ∨ c = M + 12158 + 1 + 2 * k + 1 := hc
                rw [k6 c i (by omega), k4n c i (by omega) (by omega)]) (fun k hk => by
                rw [k6 _ _ (by omega), k4 _ _ (by omega) (by omega) (by omega) (by omega)]; exact m7 k (by omega)) hpl y3 y4 y2 y8 y9 fun D7 τ z1 z2 z3 => ?_
            have kf : ∀ c i, ¬ (M < c ∧ c ≤ M + 16) → (c < M + 4221 ∨ M + 4222 < c) → (c < M + 10781 ∨ (M + 11278 < c ∧ c < M + 11297) ∨ M + 11307 < c) → (c < M + 12111 ∨ M + 12194 < c) → c ≠ M + 1 → (c = M → i ≠ 70 ∧ i ≠ 84) → D7 c i = D c i := fun c i h1 h2 h3 h4 h5 h6 => by
              rcases Nat.decEq c M with e | e
              · rw [z1 c i (by omega) (by omega) (by omega) (by omega) (by omega) (by omega), y1 c i (by omega) (by omega) (by omega) (by omega) (by omega) (by omega) (by omega), k5 c i (by omega) (by omega), k4 c i (by omega) (by omega) (by omega) (by omega)]
              · subst e
                have h6 := h6 rfl
                rw [z2 i h6.1, y1 c i (by omega) (by omega) (by omega) (by omega) (by omega) (by omega) (by omega), x1.2 i h6.1, k4 c i (by omega) (by omega) (by omega) (by omega)]
            obtain ⟨hI7, F7⟩ := hI.scr (D' := D7) hW (fun c i h1 h2 => by
              unfold sK at h1
              exact kf c i (by omega) (by omega) (by omega) (by omega) (by omega) h2) (hI.sm.cgr fun c i hc => by
              unfold pSm at hc
              rw [z1 c i (by omega) (by omega) (by omega) (by omega) (by omega) (by omega), y1 c i (by omega) (by omega) (by omega) (by omega) (by omega) (by omega) (by omega), k5 c i (by omega) (by omega), k4 c i (by omega) (by omega) (by omega) (by omega)])
            exact K D7 _ _ (rR_q h00 ⟨φ, q.1, q.2, h, w, n', ht, hu, .inr (.inr ⟨by omega, u1, rfl, g, dq, τ, u2, sgM_of w4 hm5 x4 y3 y5 y6 y7 y10 z3, rfl⟩)⟩) hI7 F7
          | succ L ih =>
            intro i D2 hi h7 h8 h9
            refine wp_in ?_
            simp only [P_X16_sign, i_kil, i_icon, i_lcon, i_null, i_loadI, i_loadL, i_loadR, i_istore, i_lstore, i_astore, i_iinc, i_dup, i_dup2, i_pop, i_iadd, i_isub, i_imul, i_idiv, i_irem, i_ineg, i_iand, i_ior, i_ishl, i_ishr, i_lxor, i_ladd, i_lsub, i_lmul, i_ldiv, i_lrem, i_lneg, i_lshl, i_lcmp, i_i2l, i_l2i, i_i2b, i_i2s, i_ifeq, i_ifne, i_iflt, i_ifge, i_ifgt, i_ifle, i_cmpeq, i_cmpne, i_cmplt, i_cmpge, i_cmpgt, i_cmple, i_acmpeq, i_acmpne, i_ifnull, i_ifnonnull, i_getI, i_getR, i_putI, i_putZ, i_putR, i_ald, i_ldL, i_ldR, i_ast, i_stL, i_stR, i_alen, i_new, i_newa, i_iret, i_zret, i_lret, i_aret, i_vret, i_raise, i_throw, i_recv, i_objinit, i_tsw3, lget, lset, lput1, lput2, lkil, ltrim, largs, isL, takev, dropv, nthv, pushO, catv, gd, true_and, and_true, Option.some.injEq, Prod.mk.injEq, exists_eq_left', if_true, if_false, reduceCtorEq, Bool.false_eq_true, lcmp_ge, lcmp_lt, lcmp_le, lcmp_gt, lcmp_eq, true_or, or_true, not_true_eq_false, not_false_eq_true, false_implies, true_implies, List.length_cons, List.length_nil, o, n1, n2, i1, i2]
            refine ⟨fun q => by omega, fun _ => ?_⟩
            repeat (first | refine ⟨in_small (by omega) (by omega), ?_⟩ | (show (_ → _) ∧ (_ → _); first | refine ⟨by omega, fun _ => ?_⟩ | refine ⟨fun _ => ?_, by omega⟩) | refine ⟨by omega, ?_⟩ | refine ⟨⟨_, rfl, by assumption⟩, ?_⟩ | refine ⟨okT_I _, ?_⟩ | refine call0 (gd_of rfl) ?_)
            obtain ⟨n4, n5⟩ := n3 i (by omega)
            obtain ⟨v4, v5⟩ := v3 i (by omega)
            have n6 := n5.1
            have v6 := v5.1
            simp only [ir1, n4]
            simp only [P_X16_sign, i_kil, i_icon, i_lcon, i_null, i_loadI, i_loadL, i_loadR, i_istore, i_lstore, i_astore, i_iinc, i_dup, i_dup2, i_pop, i_iadd, i_isub, i_imul, i_idiv, i_irem, i_ineg, i_iand, i_ior, i_ishl, i_ishr, i_lxor, i_ladd, i_lsub, i_lmul, i_ldiv, i_lrem, i_lneg, i_lshl, i_lcmp, i_i2l, i_l2i, i_i2b, i_i2s, i_ifeq, i_ifne, i_iflt, i_ifge, i_ifgt, i_ifle, i_cmpeq, i_cmpne, i_cmplt, i_cmpge, i_cmpgt, i_cmple, i_acmpeq, i_acmpne, i_ifnull, i_ifnonnull, i_getI, i_getR, i_putI, i_putZ, i_putR, i_ald, i_ldL, i_ldR, i_ast, i_stL, i_stR, i_alen, i_new, i_newa, i_iret, i_zret, i_lret, i_aret, i_vret, i_raise, i_throw, i_recv, i_objinit, i_tsw3, lget, lset, lput1, lput2, lkil, ltrim, largs, isL, takev, dropv, nthv, pushO, catv, gd, true_and, and_true, Option.some.injEq, Prod.mk.injEq, exists_eq_left', if_true, if_false, reduceCtorEq, Bool.false_eq_true, lcmp_ge, lcmp_lt, lcmp_le, lcmp_gt, lcmp_eq, true_or, or_true, not_true_eq_false, not_false_eq_true, false_implies, true_implies, List.length_cons, List.length_nil, ir2]
            repeat (first | refine ⟨in_small (by omega) (by omega), ?_⟩ | (show (_ → _) ∧ (_ → _); first | refine ⟨by omega, fun _ => ?_⟩ | refine ⟨fun _ => ?_, by omega⟩) | refine ⟨by omega, ?_⟩ | refine ⟨⟨_, rfl, by assumption⟩, ?_⟩ | refine ⟨okT_I _, ?_⟩ | refine call0 (gd_of rfl) ?_)
            have es : D2 (M + 26 + r) (i : Int) = sm i := by
              rw [h7 _ _ (by omega), k1 _ _ (by omega) (by omega)]; exact m7 i (by omega)
            rw [es]
            have b47 := sm47 i
            refine sp_X17_set n5 (by decide) (by decide) (by omega) fun D3 a1 a2 => ?_
            simp only [P_X16_sign, i_kil, i_icon, i_lcon, i_null, i_loadI, i_loadL, i_loadR, i_istore, i_lstore, i_astore, i_iinc, i_dup, i_dup2, i_pop, i_iadd, i_isub, i_imul, i_idiv, i_irem, i_ineg, i_iand, i_ior, i_ishl, i_ishr, i_lxor, i_ladd, i_lsub, i_lmul, i_ldiv, i_lrem, i_lneg, i_lshl, i_lcmp, i_i2l, i_l2i, i_i2b, i_i2s, i_ifeq, i_ifne, i_iflt, i_ifge, i_ifgt, i_ifle, i_cmpeq, i_cmpne, i_cmplt, i_cmpge, i_cmpgt, i_cmple, i_acmpeq, i_acmpne, i_ifnull, i_ifnonnull, i_getI, i_getR, i_putI, i_putZ, i_putR, i_ald, i_ldL, i_ldR, i_ast, i_stL, i_stR, i_alen, i_new, i_newa, i_iret, i_zret, i_lret, i_aret, i_vret, i_raise, i_throw, i_recv, i_objinit, i_tsw3, lget, lset, lput1, lput2, lkil, ltrim, largs, isL, takev, dropv, nthv, pushO, catv, gd, true_and, and_true, Option.some.injEq, Prod.mk.injEq, exists_eq_left', if_true, if_false, reduceCtorEq, Bool.false_eq_true, lcmp_ge, lcmp_lt, lcmp_le, lcmp_gt, lcmp_eq, true_or, or_true, not_true_eq_false, not_false_eq_true, false_implies, true_implies, List.length_cons, List.length_nil, o, v1, v2, p83, p83']
            repeat (first | refine ⟨in_small (by omega) (by omega), ?_⟩ | (show (_ → _) ∧ (_ → _); first | refine ⟨by omega, fun _ => ?_⟩ | refine ⟨fun _ => ?_, by omega⟩) | refine ⟨by omega, ?_⟩ | refine ⟨⟨_, rfl, by assumption⟩, ?_⟩ | refine ⟨okT_I _, ?_⟩ | refine call0 (gd_of rfl) ?_)
            have eg : D3 (M + 11307) (i : Int) = g i := by
              rw [a1 _ _ (by omega) (by omega), h7 _ _ (by omega), u7.2 i (by omega)]
              split
              · rfl
              · rw [hg0 i (by omega)]
            simp only [v4, eg]
            have b99 := u5 i
            refine ⟨⟨_, rfl, v6⟩, call0 (gd_of rfl) ?_⟩
            refine sp_X17_set v5 (by decide) (by decide) (by omega) fun D4 b1 b2 => ?_
            simp only [P_X16_sign, i_kil, i_icon, i_lcon, i_null, i_loadI, i_loadL, i_loadR, i_istore, i_lstore, i_astore, i_iinc, i_dup, i_dup2, i_pop, i_iadd, i_isub, i_imul, i_idiv, i_irem, i_ineg, i_iand, i_ior, i_ishl, i_ishr, i_lxor, i_ladd, i_lsub, i_lmul, i_ldiv, i_lrem, i_lneg, i_lshl, i_lcmp, i_i2l, i_l2i, i_i2b, i_i2s, i_ifeq, i_ifne, i_iflt, i_ifge, i_ifgt, i_ifle, i_cmpeq, i_cmpne, i_cmplt, i_cmpge, i_cmpgt, i_cmple, i_acmpeq, i_acmpne, i_ifnull, i_ifnonnull, i_getI, i_getR, i_putI, i_putZ, i_putR, i_ald, i_ldL, i_ldR, i_ast, i_stL, i_stR, i_alen, i_new, i_newa, i_iret, i_zret, i_lret, i_aret, i_vret, i_raise, i_throw, i_recv, i_objinit, i_tsw3, lget, lset, lput1, lput2, lkil, ltrim, largs, isL, takev, dropv, nthv, pushO, catv, gd, true_and, and_true, Option.some.injEq, Prod.mk.injEq, exists_eq_left', if_true, if_false, reduceCtorEq, Bool.false_eq_true, lcmp_ge, lcmp_lt, lcmp_le, lcmp_gt, lcmp_eq, true_or, or_true, not_true_eq_false, not_false_eq_true, false_implies, true_implies, List.length_cons, List.length_nil]
            repeat (first | refine ⟨in_small (by omega) (by omega), ?_⟩ | (show (_ → _) ∧ (_ → _); first | refine ⟨by omega, fun _ => ?_⟩ | refine ⟨fun _ => ?_, by omega⟩) | refine ⟨by omega, ?_⟩ | refine ⟨⟨_, rfl, by assumption⟩, ?_⟩ | refine ⟨okT_I _, ?_⟩ | refine call0 (gd_of rfl) ?_)
            refine ih (i + 1) D4 (by omega) (fun c z hc => ?_) (fun k hk => ?_) fun k hk => ?_
            · rw [b1 c z (by omega) (by omega), a1 c z (by omega) (by omega)]; exact h7 c z hc
            · rcases Nat.lt_or_ge k i with z | z
              · refine (h8 k z).cgr fun c j hc => ?_
                have hc : c = M + 12121 + 1 + 2 * k ∨ c = M + 12121 + 1 + 2 * k + 1 := hc
                rw [b1 c j (by omega) (by omega), a1 c j (by omega) (by omega)]
              · have : k = i := by omega
                subst this
                refine a2.cgr fun c j hc => ?_
                have hc : c = M + 12121 + 1 + 2 * k ∨ c = M + 12121 + 1 + 2 * k + 1 := hc
                rw [b1 c j (by omega) (by omega)]
            · rcases Nat.lt_or_ge k i with z | z
              · refine (h9 k z).cgr fun c j hc => ?_
                have hc : c = M + 12158 + 1 + 2 * k ∨ c = M + 12158 + 1 + 2 * k + 1 := hc
                rw [b1 c j (by omega) (by omega), a1 c j (by omega) (by omega)]
              · have : k = i := by omega
                subst this
                exact b2
        exact loop 9 0 D1 rfl (fun _ _ _ => rfl) (fun k hk => absurd hk (Nat.not_lt_zero _)) fun k hk => absurd hk (Nat.not_lt_zero _)
    · refine K D _ _ (rR_q h00 ⟨φ, q.1, q.2, h, w, n', ht, hu, .inl ⟨by omega, rfl, rfl⟩⟩) hI fun c i _ => rfl
  · repeat (first | refine ⟨in_small (by omega) (by omega), ?_⟩ | (show (_ → _) ∧ (_ → _); first | refine ⟨by omega, fun _ => ?_⟩ | refine ⟨fun _ => ?_, by omega⟩) | refine ⟨by omega, ?_⟩ | refine ⟨⟨_, rfl, by assumption⟩, ?_⟩ | refine ⟨okT_I _, ?_⟩ | refine call0 (gd_of rfl) ?_)
    refine mo_ans hI hW hN (k := foN (lkN s x 1) (lkN s y 3)) (by omega) rfl fun D' h1 h2 => ?_
    simp only [P_X16_sign, i_kil, i_icon, i_lcon, i_null, i_loadI, i_loadL, i_loadR, i_istore, i_lstore, i_astore, i_iinc, i_dup, i_dup2, i_pop, i_iadd, i_isub, i_imul, i_idiv, i_irem, i_ineg, i_iand, i_ior, i_ishl, i_ishr, i_lxor, i_ladd, i_lsub, i_lmul, i_ldiv, i_lrem, i_lneg, i_lshl, i_lcmp, i_i2l, i_l2i, i_i2b, i_i2s, i_ifeq, i_ifne, i_iflt, i_ifge, i_ifgt, i_ifle, i_cmpeq, i_cmpne, i_cmplt, i_cmpge, i_cmpgt, i_cmple, i_acmpeq, i_acmpne, i_ifnull, i_ifnonnull, i_getI, i_getR, i_putI, i_putZ, i_putR, i_ald, i_ldL, i_ldR, i_ast, i_stL, i_stR, i_alen, i_new, i_newa, i_iret, i_zret, i_lret, i_aret, i_vret, i_raise, i_throw, i_recv, i_objinit, i_tsw3, lget, lset, lput1, lput2, lkil, ltrim, largs, isL, takev, dropv, nthv, pushO, catv, gd, true_and, and_true, Option.some.injEq, Prod.mk.injEq, exists_eq_left', if_true, if_false, reduceCtorEq, Bool.false_eq_true, lcmp_ge, lcmp_lt, lcmp_le, lcmp_gt, lcmp_eq, true_or, or_true, not_true_eq_false, not_false_eq_true, false_implies, true_implies, List.length_cons, List.length_nil]
    exact K D' _ _ (rR_f (by omega) rfl) h1 h2
end MSG
