/-! the component's calls: divide -/
-- needs: fc.cops6
set_option maxRecDepth 100000
set_option linter.unusedVariables false
section COV
variable {S S' : Stat} {D D' : Dat} {C mn w N : Nat} {s : Cst} {lz : Nat → Option Nat} {own : Nat → Nat}
theorem cSc.next (h : cSc D C) (hw : w ≤ 1) (e : ∀ c i, (c = C + 705 ∨ c = C + 706 ∨ c = C + 711 + 2 * w ∨ c = C + 712 + 2 * w ∨ ∃ j : Nat, j < 6 ∧ (c = C + 753 + 2 * w + 6 * j ∨ c = C + 753 + 2 * w + 6 * j + 1)) → D' c i = D c i) (hf : ∃ φ, pP D' (C + 34) φ) (hr : ∃ φ, pP D' (C + 713 - 2 * w) φ) (hq : ∀ k : Nat, k < 6 → ∃ φ, pP D' (C + 755 - 2 * w + 6 * k) φ) : cSc D' C := by
  obtain ⟨⟨φ1, c1⟩, c2, c3, c4, c5, c6⟩ := h
  have oR : ∃ φ, pP D' (C + 711 + 2 * w) φ := by
    have : ∃ φ, pP D (C + 711 + 2 * w) φ := by
      rcases (show w = 0 ∨ w = 1 by omega) with e | e <;> subst e
      · exact c3
      · exact c4
    obtain ⟨φ, hφ⟩ := this
    exact ⟨φ, hφ.cgr fun c i hc => e c i (by omega)⟩
  have oQ : ∀ k : Nat, k < 6 → ∃ φ, pP D' (C + 753 + 2 * w + 6 * k) φ := fun k hk => by
    have : ∃ φ, pP D (C + 753 + 2 * w + 6 * k) φ := by
      rcases (show w = 0 ∨ w = 1 by omega) with e | e <;> subst e
      · exact c5 k hk
      · obtain ⟨φ, hφ⟩ := c6 k hk
        exact ⟨φ, by rw [show C + 753 + 2 * 1 + 6 * k = C + 755 + 6 * k by omega]; exact hφ⟩
    obtain ⟨φ, hφ⟩ := this
    exact ⟨φ, hφ.cgr fun c i hc => e c i (.inr (.inr (.inr (.inr ⟨k, hk, hc⟩))))⟩
  refine ⟨⟨φ1, c1.cgr fun c i hc => e c i (by omega)⟩, hf, ?_⟩
  rcases (show w = 0 ∨ w = 1 by omega) with e | e <;> subst e
  · exact ⟨oR, hr, oQ, hq⟩
  · refine ⟨hr, oR, hq, fun k hk => ?_⟩
    have := oQ k hk
    rw [show C + 753 + 2 * 1 + 6 * k = C + 755 + 6 * k by omega] at this
    exact this
/-- the cells of the court are not those of the next rest and quotients -/
theorem qK.nx {c : Nat} {i : Int} (hw : w ≤ 1) (q : qK C w c i) : c ≠ C + 713 - 2 * w ∧ c ≠ C + 713 - 2 * w + 1 ∧ ∀ j, j < 6 → c ≠ C + 755 - 2 * w + 6 * j ∧ c ≠ C + 755 - 2 * w + 6 * j + 1 := by
  have hb := qK.bd hw q
  refine ⟨by omega, by omega, fun j hj => ?_⟩
  rcases q with q | q | q | q | q | q | q | q | q | q
  · unfold qTh at q; omega
  · unfold qFx at q; omega
  · unfold qFn at q; omega
  · rcases q with q | ⟨z, z1, z2⟩ <;> omega
  · unfold qId at q; omega
  · rcases q with q | ⟨z, z1, z2⟩ <;> omega
  · unfold qRs at q; omega
  · unfold qSp at q; omega
  · unfold qRo at q; omega
  · unfold qTx at q; omega
theorem coJ.nextS (h : coJ S D C s lz own mn w) : pS S (C + 713 - 2 * w) ∧ (S.1 (C + 710 - w) = some (107, 6) ∧ ∀ k : Nat, k < 6 → S.2.1 (C + 710 - w) k = some (C + 755 - 2 * w + 6 * k) ∧ pS S (C + 755 - 2 * w + 6 * k)) ∧ (∃ φ, pP D (C + 713 - 2 * w) φ) ∧ ∀ k : Nat, k < 6 → ∃ φ, pP D (C + 755 - 2 * w + 6 * k) φ := by
  have hw1 := h.mv.1
  rcases (show w = 0 ∨ w = 1 by omega) with e | e <;> subst e
  · exact ⟨h.fx.rs.2, h.fx.qb, h.sc.2.2.2.1, h.sc.2.2.2.2.2⟩
  · exact ⟨h.fx.rs.1, h.fx.qa, h.sc.2.2.1, h.sc.2.2.2.2.1⟩
set_option maxHeartbeats 4000000 in
theorem co_divide {E : Ex} {B : Nat × Nat} {x z : Int} (h : coJ S D C s lz own mn w) (hW : crW N s) (hN : N < 1000) (hB : 1000 ≤ B.1 ∧ 80000 ≤ B.2) (K : cK E S D C mn (oDivide x z s)) : Wp P_X0_divide E 0 [some (aR C), some (aI x), some (aI z)] [] B S D := by
  have o := h.fx.o
  have hf := h.fx.fl
  obtain ⟨t1, t2⟩ := h.fx.T
  obtain ⟨v1, v2⟩ := h.fx.V
  obtain ⟨R1, R2⟩ := h.fx.R
  obtain ⟨w1, w2, w3⟩ := h.fx.rw
  obtain ⟨r20, rp⟩ := h.rw
  have hr6 := hW.2.2.1.1
  have hC := h.lzz.1
  obtain ⟨hw1, m23, m24, m26, m27, -⟩ := h.mv
  have err : ∀ (kk : Nat) (B' : Nat × Nat) (S1 : Stat) (D1 : Dat) (lz1 : Nat → Option Nat) (own1 : Nat → Nat) (w1 : Nat), 1 ≤ kk ∧ kk ≤ 7 → coJ S1 D1 C s lz1 own1 mn w1 → cFr S D S1 D1 C → oDivide x z s (uFn s kk) (-(kk : Int)) → Wp P_X0_divide E 1 [some (aR C)] [.inr (.inr (some (C + 727 + kk)))] B' S1 D1 := fun kk B' S1 D1 lz1 own1 w1 e1 e2 e3 e4 => by
    have o := e2.fx.o
    refine wp_in ?_
    simp only [P_X0_divide, i_kil, i_icon, i_lcon, i_null, i_loadI, i_loadL, i_loadR, i_istore, i_lstore, i_astore, i_iinc, i_dup, i_dup2, i_pop, i_iadd, i_isub, i_imul, i_idiv, i_irem, i_ineg, i_iand, i_ior, i_ishl, i_ishr, i_lxor, i_ladd, i_lsub, i_lmul, i_ldiv, i_lrem, i_lneg, i_lshl, i_lcmp, i_i2l, i_l2i, i_i2b, i_i2s, i_ifeq, i_ifne, i_iflt, i_ifge, i_ifgt, i_ifle, i_cmpeq, i_cmpne, i_cmplt, i_cmpge, i_cmpgt, i_cmple, i_acmpeq, i_acmpne, i_ifnull, i_ifnonnull, i_getI, i_getR, i_putI, i_putZ, i_putR, i_ald, i_ldL, i_ldR, i_ast, i_stL, i_stR, i_alen, i_new, i_newa, i_iret, i_zret, i_lret, i_aret, i_vret, i_raise, i_throw, i_recv, i_objinit, i_tsw3, lget, lset, lput1, lput2, lkil, ltrim, largs, isL, takev, dropv, nthv, pushO, catv, gd, true_and, and_true, Option.some.injEq, Prod.mk.injEq, exists_eq_left', if_true, if_false, reduceCtorEq, Bool.false_eq_true, lcmp_ge, lcmp_lt, lcmp_le, lcmp_gt, lcmp_eq, true_or, or_true, not_true_eq_false, not_false_eq_true, false_implies, true_implies, List.length_cons, List.length_nil, o]
    repeat (first | refine ⟨in_small (by omega) (by omega), ?_⟩ | (show (_ → _) ∧ (_ → _); first | refine ⟨by omega, fun _ => ?_⟩ | refine ⟨fun _ => ?_, by omega⟩) | refine ⟨by omega, ?_⟩ | refine ⟨⟨_, rfl, by assumption⟩, ?_⟩ | refine ⟨okT_I _, ?_⟩ | refine call0 (gd_of rfl) ?_)
    refine co_fin e2 hW hN e1 fun D2 e5 e6 => ?_
    simp only [P_X0_divide, i_kil, i_icon, i_lcon, i_null, i_loadI, i_loadL, i_loadR, i_istore, i_lstore, i_astore, i_iinc, i_dup, i_dup2, i_pop, i_iadd, i_isub, i_imul, i_idiv, i_irem, i_ineg, i_iand, i_ior, i_ishl, i_ishr, i_lxor, i_ladd, i_lsub, i_lmul, i_ldiv, i_lrem, i_lneg, i_lshl, i_lcmp, i_i2l, i_l2i, i_i2b, i_i2s, i_ifeq, i_ifne, i_iflt, i_ifge, i_ifgt, i_ifle, i_cmpeq, i_cmpne, i_cmplt, i_cmpge, i_cmpgt, i_cmple, i_acmpeq, i_acmpne, i_ifnull, i_ifnonnull, i_getI, i_getR, i_putI, i_putZ, i_putR, i_ald, i_ldL, i_ldR, i_ast, i_stL, i_stR, i_alen, i_new, i_newa, i_iret, i_zret, i_lret, i_aret, i_vret, i_raise, i_throw, i_recv, i_objinit, i_tsw3, lget, lset, lput1, lput2, lkil, ltrim, largs, isL, takev, dropv, nthv, pushO, catv, gd, true_and, and_true, Option.some.injEq, Prod.mk.injEq, exists_eq_left', if_true, if_false, reduceCtorEq, Bool.false_eq_true, lcmp_ge, lcmp_lt, lcmp_le, lcmp_gt, lcmp_eq, true_or, or_true, not_true_eq_false, not_false_eq_true, false_implies, true_implies, List.length_cons, List.length_nil]
    exact K _ _ _ _ _ e4 ⟨lz1, own1, w1, e5⟩ (e3.tr e6)
  have nx : ∀ n, S.2.2 ≤ n → coJ (S.1, S.2.1, n) D C s lz own mn w ∧ cFr S D (S.1, S.2.1, n) D C := fun n hn => ⟨h.keep hW (cSr.nx hn) (fun _ _ _ => rfl) h.sc, (cSr.nx hn).fr h.lzz.1 fun _ _ _ _ => rfl⟩
  refine wp_in ?_
  simp only [P_X0_divide, i_kil, i_icon, i_lcon, i_null, i_loadI, i_loadL, i_loadR, i_istore, i_lstore, i_astore, i_iinc, i_dup, i_dup2, i_pop, i_iadd, i_isub, i_imul, i_idiv, i_irem, i_ineg, i_iand, i_ior, i_ishl, i_ishr, i_lxor, i_ladd, i_lsub, i_lmul, i_ldiv, i_lrem, i_lneg, i_lshl, i_lcmp, i_i2l, i_l2i, i_i2b, i_i2s, i_ifeq, i_ifne, i_iflt, i_ifge, i_ifgt, i_ifle, i_cmpeq, i_cmpne, i_cmplt, i_cmpge, i_cmpgt, i_cmple, i_acmpeq, i_acmpne, i_ifnull, i_ifnonnull, i_getI, i_getR, i_putI, i_putZ, i_putR, i_ald, i_ldL, i_ldR, i_ast, i_stL, i_stR, i_alen, i_new, i_newa, i_iret, i_zret, i_lret, i_aret, i_vret, i_raise, i_throw, i_recv, i_objinit, i_tsw3, lget, lset, lput1, lput2, lkil, ltrim, largs, isL, takev, dropv, nthv, pushO, catv, gd, true_and, and_true, Option.some.injEq, Prod.mk.injEq, exists_eq_left', if_true, if_false, reduceCtorEq, Bool.false_eq_true, lcmp_ge, lcmp_lt, lcmp_le, lcmp_gt, lcmp_eq, true_or, or_true, not_true_eq_false, not_false_eq_true, false_implies, true_implies, List.length_cons, List.length_nil, o]
  refine ⟨⟨_, rfl, o⟩, callB 7 1200 (by omega) (gd_of rfl) ?_⟩
  refine poly_at h hW (by decide) (fun p a φ hp hp16 ht ha hD hS hac hl B1 => ?_) fun hx B1 n hn => ?_
  · simp only [P_X0_divide, i_kil, i_icon, i_lcon, i_null, i_loadI, i_loadL, i_loadR, i_istore, i_lstore, i_astore, i_iinc, i_dup, i_dup2, i_pop, i_iadd, i_isub, i_imul, i_idiv, i_irem, i_ineg, i_iand, i_ior, i_ishl, i_ishr, i_lxor, i_ladd, i_lsub, i_lmul, i_ldiv, i_lrem, i_lneg, i_lshl, i_lcmp, i_i2l, i_l2i, i_i2b, i_i2s, i_ifeq, i_ifne, i_iflt, i_ifge, i_ifgt, i_ifle, i_cmpeq, i_cmpne, i_cmplt, i_cmpge, i_cmpgt, i_cmple, i_acmpeq, i_acmpne, i_ifnull, i_ifnonnull, i_getI, i_getR, i_putI, i_putZ, i_putR, i_ald, i_ldL, i_ldR, i_ast, i_stL, i_stR, i_alen, i_new, i_newa, i_iret, i_zret, i_lret, i_aret, i_vret, i_raise, i_throw, i_recv, i_objinit, i_tsw3, lget, lset, lput1, lput2, lkil, ltrim, largs, isL, takev, dropv, nthv, pushO, catv, gd, true_and, and_true, Option.some.injEq, Prod.mk.injEq, exists_eq_left', if_true, if_false, reduceCtorEq, Bool.false_eq_true, lcmp_ge, lcmp_lt, lcmp_le, lcmp_gt, lcmp_eq, true_or, or_true, not_true_eq_false, not_false_eq_true, false_implies, true_implies, List.length_cons, List.length_nil, o]
    refine ⟨⟨_, rfl, o⟩, callB 7 1200 (by show 7 ≤ B.1 - 7 ∧ 1200 ≤ B.2 - 1200; omega) (gd_of rfl) ?_⟩
    refine order_at h hW (by decide) (fun q c g hq hq16 hu ho hg hm B2 => ?_) fun hx B1 n hn => ?_
    · have hob := h.ordO ho
      have hin := ordA_in c g
      have h00 : foN (lkN s x 1) (lkN s z 2) = 0 := foN_0.mpr ⟨hl, hm⟩
      subst hp; subst hq
      have v4 := v2.1
      have vf : S.2.1 (C + 33) 1 = some (C + 34) := v2.2.2.1
      have vp : pS S (C + 34) := v2.2.2.2.1
      have vp5 := vp.1
      simp only [P_X0_divide, i_kil, i_icon, i_lcon, i_null, i_loadI, i_loadL, i_loadR, i_istore, i_lstore, i_astore, i_iinc, i_dup, i_dup2, i_pop, i_iadd, i_isub, i_imul, i_idiv, i_irem, i_ineg, i_iand, i_ior, i_ishl, i_ishr, i_lxor, i_ladd, i_lsub, i_lmul, i_ldiv, i_lrem, i_lneg, i_lshl, i_lcmp, i_i2l, i_l2i, i_i2b, i_i2s, i_ifeq, i_ifne, i_iflt, i_ifge, i_ifgt, i_ifle, i_cmpeq, i_cmpne, i_cmplt, i_cmpge, i_cmpgt, i_cmple, i_acmpeq, i_acmpne, i_ifnull, i_ifnonnull, i_getI, i_getR, i_putI, i_putZ, i_putR, i_ald, i_ldL, i_ldR, i_ast, i_stL, i_stR, i_alen, i_new, i_newa, i_iret, i_zret, i_lret, i_aret, i_vret, i_raise, i_throw, i_recv, i_objinit, i_tsw3, lget, lset, lput1, lput2, lkil, ltrim, largs, isL, takev, dropv, nthv, pushO, catv, gd, true_and, and_true, Option.some.injEq, Prod.mk.injEq, exists_eq_left', if_true, if_false, reduceCtorEq, Bool.false_eq_true, lcmp_ge, lcmp_lt, lcmp_le, lcmp_gt, lcmp_eq, true_or, or_true, not_true_eq_false, not_false_eq_true, false_implies, true_implies, List.length_cons, List.length_nil, o, v1, v4, vf]
      repeat (first | refine ⟨in_small (by omega) (by omega), ?_⟩ | (show (_ → _) ∧ (_ → _); first | refine ⟨by omega, fun _ => ?_⟩ | refine ⟨fun _ => ?_, by omega⟩) | refine ⟨by omega, ?_⟩ | refine ⟨⟨_, rfl, by assumption⟩, ?_⟩ | refine ⟨okT_I _, ?_⟩ | refine call0 (gd_of rfl) ?_)
      refine sp_X5_be vp hS (by omega) (by omega) (by omega) hD.1 fun D1 e1 f1 => ?_
      have k1 : ∀ c i, c ≠ C + 34 → c ≠ C + 35 → D1 c i = D c i := fun c i h1 h2 => e1 c i (by omega) (by omega)
      have j1 : coJ S D1 C s lz own mn w := h.keep hW cSr.rfl (fun c i q => k1 c i (by have := qK.bd hw1 q; omega) (by have := qK.bd hw1 q; omega)) (h.sc.next hw1 (fun c i q => k1 c i (by rcases q with q | q | q | q | ⟨j, q1, q2⟩ <;> omega) (by rcases q with q | q | q | q | ⟨j, q1, q2⟩ <;> omega)) ⟨φ, f1, hD.2⟩ (by
        obtain ⟨φ', hφ'⟩ := h.nextS.2.2.1
        exact ⟨φ', hφ'.cgr fun c i hc => k1 c i (by omega) (by omega)⟩) fun k hk => by
        obtain ⟨φ', hφ'⟩ := h.nextS.2.2.2 k hk
        exact ⟨φ', hφ'.cgr fun c i hc => k1 c i (by omega) (by omega)⟩)
      have F1 : cFr S D S D1 C := cSr.rfl.fr hC fun c i c1 c2 => k1 c i (by omega) (by omega)
      have r20' : D1 C 20 = (sRw s).1 := j1.rw.1
      obtain ⟨n1, ⟨n2, n3⟩, ⟨ρ0, hρ0⟩, n5⟩ := j1.nextS
      simp only [P_X0_divide, i_kil, i_icon, i_lcon, i_null, i_loadI, i_loadL, i_loadR, i_istore, i_lstore, i_astore, i_iinc, i_dup, i_dup2, i_pop, i_iadd, i_isub, i_imul, i_idiv, i_irem, i_ineg, i_iand, i_ior, i_ishl, i_ishr, i_lxor, i_ladd, i_lsub, i_lmul, i_ldiv, i_lrem, i_lneg, i_lshl, i_lcmp, i_i2l, i_l2i, i_i2b, i_i2s, i_ifeq, i_ifne, i_iflt, i_ifge, i_ifgt, i_ifle, i_cmpeq, i_cmpne, i_cmplt, i_cmpge, i_cmpgt, i_cmple, i_acmpeq, i_acmpne, i_ifnull, i_ifnonnull, i_getI, i_getR, i_putI, i_putZ, i_putR, i_ald, i_ldL, i_ldR, i_ast, i_stL, i_stR, i_alen, i_new, i_newa, i_iret, i_zret, i_lret, i_aret, i_vret, i_raise, i_throw, i_recv, i_objinit, i_tsw3, lget, lset, lput1, lput2, lkil, ltrim, largs, isL, takev, dropv, nthv, pushO, catv, gd, true_and, and_true, Option.some.injEq, Prod.mk.injEq, exists_eq_left', if_true, if_false, reduceCtorEq, Bool.false_eq_true, lcmp_ge, lcmp_lt, lcmp_le, lcmp_gt, lcmp_eq, true_or, or_true, not_true_eq_false, not_false_eq_true, false_implies, true_implies, List.length_cons, List.length_nil, o, v1, w1, r20', m24, m27]
      repeat (first | refine ⟨in_small (by omega) (by omega), ?_⟩ | (show (_ → _) ∧ (_ → _); first | refine ⟨by omega, fun _ => ?_⟩ | refine ⟨fun _ => ?_, by omega⟩) | refine ⟨by omega, ?_⟩ | refine ⟨⟨_, rfl, by assumption⟩, ?_⟩ | refine ⟨okT_I _, ?_⟩ | refine call0 (gd_of rfl) ?_)
      have hLg : ∀ k, k < (sRw s).1 → (C + 751 + 6 * k + 1 < C + 3 ∨ C + 33 + 31 < C + 751 + 6 * k) ∧ (C + 713 - 2 * w + 1 < C + 751 + 6 * k ∨ C + 751 + 6 * k + 1 < C + 713 - 2 * w) := fun k hk => ⟨by omega, by omega⟩
      have hLx : ∀ k, k < (sRw s).1 → (C + 755 - 2 * w + 6 * k + 1 < C + 3 ∨ C + 33 + 31 < C + 755 - 2 * w + 6 * k) ∧ (C + 713 - 2 * w + 1 < C + 755 - 2 * w + 6 * k ∨ C + 755 - 2 * w + 6 * k + 1 < C + 713 - 2 * w) ∧ C + ordA c g ≠ C + 755 - 2 * w + 6 * k ∧ C + ordA c g ≠ C + 755 - 2 * w + 6 * k + 1 ∧ (∀ j, j < (sRw s).1 → C + 755 - 2 * w + 6 * k + 1 < C + 751 + 6 * j ∨ C + 751 + 6 * j + 1 < C + 755 - 2 * w + 6 * k) ∧ ∀ j, j < (sRw s).1 → j ≠ k → C + 755 - 2 * w + 6 * k + 1 < C + 755 - 2 * w + 6 * j ∨ C + 755 - 2 * w + 6 * j + 1 < C + 755 - 2 * w + 6 * k := fun k hk => ⟨by omega, by omega, by omega, by omega, fun j hj => by omega, fun j hj hjk => by omega⟩
      refine sp_X4_run (c := c) (g := g) (N := 6) (gA := fun k => C + 751 + 6 * k) (xA := fun k => C + 755 - 2 * w + 6 * k) (ψ := (sRw s).2) (φ := φ) (ρ := ρ0) (χ := fun k => if hk : k < 6 then (n5 k hk).choose else fun _ => 0) v2 R2 t2 j1.cx.2.1 (by omega) (by omega) (j1.ordO ho) ⟨w2, hr6, by omega, n1, by omega, by omega, by omega, by omega, fun k hk => ⟨(w3 k (by omega)).1, (w3 k (by omega)).2, hLg k hk⟩, .inr ⟨C + 710 - w, 6, rfl, n2, hr6, fun k hk => ⟨(n3 k (by omega)).1, (n3 k (by omega)).2, hLx k hk⟩⟩⟩ ⟨f1, hD.2⟩ hρ0.1 (fun k hk => j1.rw.2 k hk) (fun _ k hk => by
        rw [dif_pos (by omega)]
        exact (n5 k (by omega)).choose_spec.1) fun S2 D2 v n res g1 g2 g3 g4 g5 g6 g7 g8 g9 => ?_
      have k2 : ∀ c i, (c < C + 33 ∨ C + 64 < c) → (c ≤ C + 22 ∨ C + 32 < c) → c ≠ C + 713 - 2 * w → c ≠ C + 713 - 2 * w + 1 → (∀ j, j < 6 → c ≠ C + 755 - 2 * w + 6 * j ∧ c ≠ C + 755 - 2 * w + 6 * j + 1) → D2 c i = D1 c i := fun c i h1 h2 h3 h4 h5 => g2 c i (by omega) (by omega) h3 h4 fun _ k hk => h5 k (by omega)
      have j2 : coJ S2 D2 C s lz own mn w := j1.keep hW g1.cSr (fun c i q => by
        have hb := qK.bd hw1 q
        obtain ⟨x1, x2, x3⟩ := qK.nx hw1 q
        exact k2 c i (by omega) (by omega) x1 x2 x3) (j1.sc.next hw1 (fun c i q => k2 c i (by rcases q with q | q | q | q | ⟨j, q1, q2⟩ <;> omega) (by rcases q with q | q | q | q | ⟨j, q1, q2⟩ <;> omega) (by rcases q with q | q | q | q | ⟨j, q1, q2⟩ <;> omega) (by rcases q with q | q | q | q | ⟨j, q1, q2⟩ <;> omega) fun j hj => by rcases q with q | q | q | q | ⟨j, q1, q2⟩ <;> omega) g6 g7 fun k hk => by
        by_cases hkm : k < (sRw s).1
        · exact g8 (fun q => nomatch q) k hkm
        · obtain ⟨φ', hφ'⟩ := n5 k hk
          exact ⟨φ', hφ'.cgr fun c i hc => g2 c i (by omega) (by omega) (by omega) (by omega) fun _ j hj => by
            show c ≠ C + 755 - 2 * w + 6 * j ∧ c ≠ C + 755 - 2 * w + 6 * j + 1
            omega⟩)
      have F2 : cFr S D S2 D2 C := F1.tr (g1.cSr.fr hC fun c i c1 c2 => k2 c i (by omega) (by omega) (by omega) (by omega) fun j hj => by omega)
      have o2 := j2.fx.o
      have hf2 := j2.fx.fl
      simp only [P_X0_divide, i_kil, i_icon, i_lcon, i_null, i_loadI, i_loadL, i_loadR, i_istore, i_lstore, i_astore, i_iinc, i_dup, i_dup2, i_pop, i_iadd, i_isub, i_imul, i_idiv, i_irem, i_ineg, i_iand, i_ior, i_ishl, i_ishr, i_lxor, i_ladd, i_lsub, i_lmul, i_ldiv, i_lrem, i_lneg, i_lshl, i_lcmp, i_i2l, i_l2i, i_i2b, i_i2s, i_ifeq, i_ifne, i_iflt, i_ifge, i_ifgt, i_ifle, i_cmpeq, i_cmpne, i_cmplt, i_cmpge, i_cmpgt, i_cmple, i_acmpeq, i_acmpne, i_ifnull, i_ifnonnull, i_getI, i_getR, i_putI, i_putZ, i_putR, i_ald, i_ldL, i_ldR, i_ast, i_stL, i_stR, i_alen, i_new, i_newa, i_iret, i_zret, i_lret, i_aret, i_vret, i_raise, i_throw, i_recv, i_objinit, i_tsw3, lget, lset, lput1, lput2, lkil, ltrim, largs, isL, takev, dropv, nthv, pushO, catv, gd, true_and, and_true, Option.some.injEq, Prod.mk.injEq, exists_eq_left', if_true, if_false, reduceCtorEq, Bool.false_eq_true, lcmp_ge, lcmp_lt, lcmp_le, lcmp_gt, lcmp_eq, true_or, or_true, not_true_eq_false, not_false_eq_true, false_implies, true_implies, List.length_cons, List.length_nil, o2]
      repeat (first | refine ⟨in_small (by omega) (by omega), ?_⟩ | (show (_ → _) ∧ (_ → _); first | refine ⟨by omega, fun _ => ?_⟩ | refine ⟨fun _ => ?_, by omega⟩) | refine ⟨by omega, ?_⟩ | refine ⟨⟨_, rfl, by assumption⟩, ?_⟩ | refine ⟨okT_I _, ?_⟩ | refine call0 (gd_of rfl) ?_)
      refine need_at (k := 6) hf2 (by decide) (by decide) rfl (fun q => ?_) fun q => ?_
      · obtain ⟨u, hres⟩ : ∃ u, res = some u := by
          rcases res with _ | u
          · exact absurd rfl (g5.mp (by omega))
          · exact ⟨u, rfl⟩
        obtain ⟨g10, g11⟩ := g9 u hres
        have r20'' : D2 C 20 = (sRw s).1 := j2.rw.1
        simp only [P_X0_divide, i_kil, i_icon, i_lcon, i_null, i_loadI, i_loadL, i_loadR, i_istore, i_lstore, i_astore, i_iinc, i_dup, i_dup2, i_pop, i_iadd, i_isub, i_imul, i_idiv, i_irem, i_ineg, i_iand, i_ior, i_ishl, i_ishr, i_lxor, i_ladd, i_lsub, i_lmul, i_ldiv, i_lrem, i_lneg, i_lshl, i_lcmp, i_i2l, i_l2i, i_i2b, i_i2s, i_ifeq, i_ifne, i_iflt, i_ifge, i_ifgt, i_ifle, i_cmpeq, i_cmpne, i_cmplt, i_cmpge, i_cmpgt, i_cmple, i_acmpeq, i_acmpne, i_ifnull, i_ifnonnull, i_getI, i_getR, i_putI, i_putZ, i_putR, i_ald, i_ldL, i_ldR, i_ast, i_stL, i_stR, i_alen, i_new, i_newa, i_iret, i_zret, i_lret, i_aret, i_vret, i_raise, i_throw, i_recv, i_objinit, i_tsw3, lget, lset, lput1, lput2, lkil, ltrim, largs, isL, takev, dropv, nthv, pushO, catv, gd, true_and, and_true, Option.some.injEq, Prod.mk.injEq, exists_eq_left', if_true, if_false, reduceCtorEq, Bool.false_eq_true, lcmp_ge, lcmp_lt, lcmp_le, lcmp_gt, lcmp_eq, true_or, or_true, not_true_eq_false, not_false_eq_true, false_implies, true_implies, List.length_cons, List.length_nil, o2, r20'']
        repeat (first | refine ⟨in_small (by omega) (by omega), ?_⟩ | (show (_ → _) ∧ (_ → _); first | refine ⟨by omega, fun _ => ?_⟩ | refine ⟨fun _ => ?_, by omega⟩) | refine ⟨by omega, ?_⟩ | refine ⟨⟨_, rfl, by assumption⟩, ?_⟩ | refine ⟨okT_I _, ?_⟩ | refine call0 (gd_of rfl) ?_)
        refine settle_at (m := (sRw s).1) (Q := u.2.2.2) j2 hW g10 (fun k hk => g11 (fun q => nomatch q) k hk) rfl fun S3 D3 g12 g13 => ?_
        have o3 := g12.fx.o
        have m26' := g12.mv.2.2.2.1
        have hps := g12.rs.2 _ rfl
        have hp5 : S3.1 (C + 711 + 2 * (1 - w)) = some (5, 0) := by
          rcases (show w = 0 ∨ w = 1 by omega) with e | e <;> subst e
          · exact g12.fx.rs.2.1
          · exact g12.fx.rs.1.1
        simp only [P_X0_divide, i_kil, i_icon, i_lcon, i_null, i_loadI, i_loadL, i_loadR, i_istore, i_lstore, i_astore, i_iinc, i_dup, i_dup2, i_pop, i_iadd, i_isub, i_imul, i_idiv, i_irem, i_ineg, i_iand, i_ior, i_ishl, i_ishr, i_lxor, i_ladd, i_lsub, i_lmul, i_ldiv, i_lrem, i_lneg, i_lshl, i_lcmp, i_i2l, i_l2i, i_i2b, i_i2s, i_ifeq, i_ifne, i_iflt, i_ifge, i_ifgt, i_ifle, i_cmpeq, i_cmpne, i_cmplt, i_cmpge, i_cmpgt, i_cmple, i_acmpeq, i_acmpne, i_ifnull, i_ifnonnull, i_getI, i_getR, i_putI, i_putZ, i_putR, i_ald, i_ldL, i_ldR, i_ast, i_stL, i_stR, i_alen, i_new, i_newa, i_iret, i_zret, i_lret, i_aret, i_vret, i_raise, i_throw, i_recv, i_objinit, i_tsw3, lget, lset, lput1, lput2, lkil, ltrim, largs, isL, takev, dropv, nthv, pushO, catv, gd, true_and, and_true, Option.some.injEq, Prod.mk.injEq, exists_eq_left', if_true, if_false, reduceCtorEq, Bool.false_eq_true, lcmp_ge, lcmp_lt, lcmp_le, lcmp_gt, lcmp_eq, true_or, or_true, not_true_eq_false, not_false_eq_true, false_implies, true_implies, List.length_cons, List.length_nil, o3, m26', hp5]
        rw [hps.cnt]
        exact K _ _ _ _ _ (rR_q h00 ⟨φ, c, g, ht, hu, n, res, g3, .inr ⟨u, hres, rfl, rfl⟩⟩) ⟨lz, own, 1 - w, g12⟩ (F2.tr g13)
      · have hres : res = none := by
          rcases res with _ | u
          · rfl
          · have := g5.mpr (fun q => nomatch q); omega
        simp only [P_X0_divide, i_kil, i_icon, i_lcon, i_null, i_loadI, i_loadL, i_loadR, i_istore, i_lstore, i_astore, i_iinc, i_dup, i_dup2, i_pop, i_iadd, i_isub, i_imul, i_idiv, i_irem, i_ineg, i_iand, i_ior, i_ishl, i_ishr, i_lxor, i_ladd, i_lsub, i_lmul, i_ldiv, i_lrem, i_lneg, i_lshl, i_lcmp, i_i2l, i_l2i, i_i2b, i_i2s, i_ifeq, i_ifne, i_iflt, i_ifge, i_ifgt, i_ifle, i_cmpeq, i_cmpne, i_cmplt, i_cmpge, i_cmpgt, i_cmple, i_acmpeq, i_acmpne, i_ifnull, i_ifnonnull, i_getI, i_getR, i_putI, i_putZ, i_putR, i_ald, i_ldL, i_ldR, i_ast, i_stL, i_stR, i_alen, i_new, i_newa, i_iret, i_zret, i_lret, i_aret, i_vret, i_raise, i_throw, i_recv, i_objinit, i_tsw3, lget, lset, lput1, lput2, lkil, ltrim, largs, isL, takev, dropv, nthv, pushO, catv, gd, true_and, and_true, Option.some.injEq, Prod.mk.injEq, exists_eq_left', if_true, if_false, reduceCtorEq, Bool.false_eq_true, lcmp_ge, lcmp_lt, lcmp_le, lcmp_gt, lcmp_eq, true_or, or_true, not_true_eq_false, not_false_eq_true, false_implies, true_implies, List.length_cons, List.length_nil]
        exact err 6 _ _ _ _ _ _ (by decide) j2 F2 (rR_q h00 ⟨φ, c, g, ht, hu, n, res, g3, .inl ⟨hres, rfl, rfl⟩⟩)
    · simp only [P_X0_divide, i_kil, i_icon, i_lcon, i_null, i_loadI, i_loadL, i_loadR, i_istore, i_lstore, i_astore, i_iinc, i_dup, i_dup2, i_pop, i_iadd, i_isub, i_imul, i_idiv, i_irem, i_ineg, i_iand, i_ior, i_ishl, i_ishr, i_lxor, i_ladd, i_lsub, i_lmul, i_ldiv, i_lrem, i_lneg, i_lshl, i_lcmp, i_i2l, i_l2i, i_i2b, i_i2s, i_ifeq, i_ifne, i_iflt, i_ifge, i_ifgt, i_ifle, i_cmpeq, i_cmpne, i_cmplt, i_cmpge, i_cmpgt, i_cmple, i_acmpeq, i_acmpne, i_ifnull, i_ifnonnull, i_getI, i_getR, i_putI, i_putZ, i_putR, i_ald, i_ldL, i_ldR, i_ast, i_stL, i_stR, i_alen, i_new, i_newa, i_iret, i_zret, i_lret, i_aret, i_vret, i_raise, i_throw, i_recv, i_objinit, i_tsw3, lget, lset, lput1, lput2, lkil, ltrim, largs, isL, takev, dropv, nthv, pushO, catv, gd, true_and, and_true, Option.some.injEq, Prod.mk.injEq, exists_eq_left', if_true, if_false, reduceCtorEq, Bool.false_eq_true, lcmp_ge, lcmp_lt, lcmp_le, lcmp_gt, lcmp_eq, true_or, or_true, not_true_eq_false, not_false_eq_true, false_implies, true_implies, List.length_cons, List.length_nil]
      have := lkN_le s z 2
      refine err _ _ _ _ _ _ _ (by omega) (nx n hn).1 (nx n hn).2 (rR_f hx ?_)
      unfold foN
      rw [if_pos hl]
  · simp only [P_X0_divide, i_kil, i_icon, i_lcon, i_null, i_loadI, i_loadL, i_loadR, i_istore, i_lstore, i_astore, i_iinc, i_dup, i_dup2, i_pop, i_iadd, i_isub, i_imul, i_idiv, i_irem, i_ineg, i_iand, i_ior, i_ishl, i_ishr, i_lxor, i_ladd, i_lsub, i_lmul, i_ldiv, i_lrem, i_lneg, i_lshl, i_lcmp, i_i2l, i_l2i, i_i2b, i_i2s, i_ifeq, i_ifne, i_iflt, i_ifge, i_ifgt, i_ifle, i_cmpeq, i_cmpne, i_cmplt, i_cmpge, i_cmpgt, i_cmple, i_acmpeq, i_acmpne, i_ifnull, i_ifnonnull, i_getI, i_getR, i_putI, i_putZ, i_putR, i_ald, i_ldL, i_ldR, i_ast, i_stL, i_stR, i_alen, i_new, i_newa, i_iret, i_zret, i_lret, i_aret, i_vret, i_raise, i_throw, i_recv, i_objinit, i_tsw3, lget, lset, lput1, lput2, lkil, ltrim, largs, isL, takev, dropv, nthv, pushO, catv, gd, true_and, and_true, Option.some.injEq, Prod.mk.injEq, exists_eq_left', if_true, if_false, reduceCtorEq, Bool.false_eq_true, lcmp_ge, lcmp_lt, lcmp_le, lcmp_gt, lcmp_eq, true_or, or_true, not_true_eq_false, not_false_eq_true, false_implies, true_implies, List.length_cons, List.length_nil]
    have := lkN_le s x 1
    refine err _ _ _ _ _ _ _ (by omega) (nx n hn).1 (nx n hn).2 (rR_f hx ?_)
    unfold foN
    rw [if_neg hx]
end COV
