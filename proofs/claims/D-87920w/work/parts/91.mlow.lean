/-! the model's lowest terms and sums of fractions -/
set_option maxRecDepth 100000
set_option linter.unusedVariables false
def mN (M w : Nat) : Prop := w + 1 < M ∨ M + 16 < w
def fO (D D' : Dat) (M n d : Nat) : Prop := ∀ c i, c ≠ n → c ≠ n + 1 → c ≠ d → c ≠ d + 1 → (c ≤ M ∨ M + 16 < c) → D' c i = D c i
theorem mN.ne {M w : Nat} (h : mN M w) (j : Nat) (hj : j ≤ 16) : w ≠ M + j ∧ M + j ≠ w + 1 := by unfold mN at h; omega
theorem mN.far {M w : Nat} (h : mN M w) : wN M w := by unfold mN at h; unfold wN; omega
theorem wN_own {M j : Nat} (h : 10 < j) : wN M (M + j) := by unfold wN; omega
theorem fO.refl {D : Dat} {M n d : Nat} : fO D D M n d := fun _ _ _ _ _ _ _ => rfl
theorem fO.tr {D D' D'' : Dat} {M n d : Nat} (h : fO D D' M n d) (h' : fO D' D'' M n d) : fO D D'' M n d := fun c i h1 h2 h3 h4 h5 => by rw [h' c i h1 h2 h3 h4 h5, h c i h1 h2 h3 h4 h5]
theorem rO.fO {D D' : Dat} {M n d w : Nat} (h : rO D D' M w) (hw : w = n ∨ w = d ∨ (M < w ∧ w < M + 16)) : fO D D' M n d := fun c i h1 h2 h3 h4 h5 => h c i (by omega) (by omega) (by omega)
theorem wO.fO {D D' : Dat} {M n d w : Nat} (h : wO D D' w) (hw : w = n ∨ w = d ∨ (M < w ∧ w < M + 16)) : fO D D' M n d := fun c i h1 h2 h3 h4 h5 => h c i (by omega) (by omega)
theorem wD_off2 {S : Stat} {D D' : Dat} {M v w r q : Nat} {z : Int} (h : wD 2 1 D v z) (hr : rO D D' M w) (hv : wN M v) (sv : wS 17 S v r) (sw : wS 17 S w q) (hne : v ≠ w) : wD 2 1 D' v z := by
  obtain ⟨h1, h2, h3⟩ := wS.apart (by decide) (by decide) sv sw hne
  exact h.rO hr hv hne h1 h2
set_option maxHeartbeats 1000000 in
theorem sp_X16_lowest {E : Ex} {B : Nat × Nat} {S : Stat} {D : Dat} {M n d rn rd : Nat} {a b : Int} (hM : mS S M) (hn : wS 17 S n rn) (hd : wS 17 S d rd) (hnd : n ≠ d) (nn : mN M n) (nd : mN M d) (hx : wD 2 1 D n a) (hy : wD 2 1 D d b) (hb0 : b ≠ 0) (ha : (a.natAbs : Int) < 1000000000 ^ rn) (hb : (b.natAbs : Int) < 1000000000 ^ rd) (ha2 : (a.natAbs : Int) < 1000000000 ^ 260) (hb2 : (b.natAbs : Int) < 1000000000 ^ 260) (m1 : rn < 265) (m2 : rd < 265) (m3 : 3 ≤ rd)
    (k : ∀ D' : Dat, fO D D' M n d → wD 2 1 D' n (Rat.divInt a b).num → wD 2 1 D' d ((Rat.divInt a b).den : Int) → E (.inl none) B S D') : Wp P_X16_lowest E 0 [some (aR M), some (aR n), some (aR d)] [] B S D := by
  have hM0 := hM
  have hR := hM.r
  have hW := hM.w
  obtain ⟨o1, o2, o3, o4, o5, o6, o7, o8, o9, o10, o11, o12, o13, o14, o15, o16, o17, o18, o19, o20, o21⟩ := hM
  unfold mN at nn nd
  obtain ⟨and1, and2, and3⟩ := wS.apart (by decide) (by decide) hn hd hnd
  have hxs := wD_nn hx
  have hys := wD_nn hy
  have step : ∀ (a b : Int) (D1 : Dat), fO D D1 M n d → wD 2 1 D1 n a → wD 2 1 D1 d b → 0 < b → (a.natAbs : Int) < 1000000000 ^ rn → (b.natAbs : Int) < 1000000000 ^ rd → (a.natAbs : Int) < 1000000000 ^ 260 → (b.natAbs : Int) < 1000000000 ^ 260 →
      (∀ D' : Dat, fO D D' M n d → wD 2 1 D' n (Rat.divInt a b).num → wD 2 1 D' d ((Rat.divInt a b).den : Int) → E (.inl none) B S D') → Wp P_X16_lowest E 1 [some (aR M), some (aR n), some (aR d)] [] B S D1 := by
    intro a b D1 hq hx hy hb ha hb2 ha3 hb3 k
    obtain ⟨l1, l2⟩ := shorten_law (a := a) hb
    have hg0 : ((Int.gcd a b : Nat) : Int) ≠ 0 := by
      intro h
      have := (Int.gcd_eq_zero_iff).mp (show Int.gcd a b = 0 by omega)
      omega
    have hgb : (((Int.gcd a b : Nat) : Int).natAbs : Int) ≤ b.natAbs := by
      have h2 : ((Int.gcd a b : Nat) : Int) ∣ b := Int.gcd_dvd_right ..
      have := Int.le_of_dvd hb h2
      omega
    refine wp_in ?_
    simp only [P_X16_lowest, i_kil, i_icon, i_lcon, i_null, i_loadI, i_loadL, i_loadR, i_istore, i_lstore, i_astore, i_iinc, i_dup, i_dup2, i_pop, i_iadd, i_isub, i_imul, i_idiv, i_irem, i_ineg, i_iand, i_ior, i_ishl, i_ishr, i_lxor, i_ladd, i_lsub, i_lmul, i_ldiv, i_lrem, i_lneg, i_lshl, i_lcmp, i_i2l, i_l2i, i_i2b, i_i2s, i_ifeq, i_ifne, i_iflt, i_ifge, i_ifgt, i_ifle, i_cmpeq, i_cmpne, i_cmplt, i_cmpge, i_cmpgt, i_cmple, i_acmpeq, i_acmpne, i_ifnull, i_ifnonnull, i_getI, i_getR, i_putI, i_putZ, i_putR, i_ald, i_ldL, i_ldR, i_ast, i_stL, i_stR, i_alen, i_new, i_newa, i_iret, i_zret, i_lret, i_aret, i_vret, i_raise, i_throw, i_recv, i_objinit, i_tsw3, lget, lset, lput1, lput2, lkil, ltrim, largs, isL, takev, dropv, nthv, pushO, catv, gd, true_and, and_true, Option.some.injEq, Prod.mk.injEq, exists_eq_left', if_true, if_false, reduceCtorEq, Bool.false_eq_true, lcmp_ge, lcmp_lt, lcmp_le, lcmp_gt, lcmp_eq, true_or, or_true, not_true_eq_false, not_false_eq_true, false_implies, true_implies, List.length_cons, List.length_nil, o1, o20, hd.1]
    refine ⟨⟨d, rfl, hd.1⟩, call0 (gd_of rfl) ?_⟩
    refine sp_X17_isOne hd hy (by omega) (by omega) ?_
    simp only [P_X16_lowest, i_kil, i_icon, i_lcon, i_null, i_loadI, i_loadL, i_loadR, i_istore, i_lstore, i_astore, i_iinc, i_dup, i_dup2, i_pop, i_iadd, i_isub, i_imul, i_idiv, i_irem, i_ineg, i_iand, i_ior, i_ishl, i_ishr, i_lxor, i_ladd, i_lsub, i_lmul, i_ldiv, i_lrem, i_lneg, i_lshl, i_lcmp, i_i2l, i_l2i, i_i2b, i_i2s, i_ifeq, i_ifne, i_iflt, i_ifge, i_ifgt, i_ifle, i_cmpeq, i_cmpne, i_cmplt, i_cmpge, i_cmpgt, i_cmple, i_acmpeq, i_acmpne, i_ifnull, i_ifnonnull, i_getI, i_getR, i_putI, i_putZ, i_putR, i_ald, i_ldL, i_ldR, i_ast, i_stL, i_stR, i_alen, i_new, i_newa, i_iret, i_zret, i_lret, i_aret, i_vret, i_raise, i_throw, i_recv, i_objinit, i_tsw3, lget, lset, lput1, lput2, lkil, ltrim, largs, isL, takev, dropv, nthv, pushO, catv, gd, true_and, and_true, Option.some.injEq, Prod.mk.injEq, exists_eq_left', if_true, if_false, reduceCtorEq, Bool.false_eq_true, lcmp_ge, lcmp_lt, lcmp_le, lcmp_gt, lcmp_eq, true_or, or_true, not_true_eq_false, not_false_eq_true, false_implies, true_implies, List.length_cons, List.length_nil, o1, o20, hd.1, hn.1]
    have one : b = 1 → E (.inl none) B S D1 := fun h => by
      subst h
      rw [Int.gcd_one_right] at l1 l2
      refine k D1 hq ?_ ?_
      · rw [l1]
        show wD 2 1 D1 n (a.tdiv 1)
        rw [Int.tdiv_one]; exact hx
      · rw [l2]; exact hy
    refine ⟨fun h => ?_, fun h => ?_⟩
    rotate_left
    · refine one ?_
      rcases Classical.em (b = 1) with h' | h'
      · exact h'
      · rw [if_neg h'] at h; exact absurd rfl h
    refine ⟨⟨M, rfl, o1⟩, call0 (gd_of rfl) ?_⟩
    refine sp_X16_gcd hM0 o21 hn hd (by unfold wN; omega) (by unfold wN; omega) (by unfold wN; omega) hx hy ha hb2 ha3 hb3 (by omega) (by omega) (by omega) fun D2 g1 g2 => ?_
    have hq2 := hq.tr (g1.fO (by omega))
    have hx2 := wD_off2 hx g1 (by unfold wN; omega) hn o21 (by omega)
    have hy2 := wD_off2 hy g1 (by unfold wN; omega) hd o21 (by omega)
    simp only [P_X16_lowest, i_kil, i_icon, i_lcon, i_null, i_loadI, i_loadL, i_loadR, i_istore, i_lstore, i_astore, i_iinc, i_dup, i_dup2, i_pop, i_iadd, i_isub, i_imul, i_idiv, i_irem, i_ineg, i_iand, i_ior, i_ishl, i_ishr, i_lxor, i_ladd, i_lsub, i_lmul, i_ldiv, i_lrem, i_lneg, i_lshl, i_lcmp, i_i2l, i_l2i, i_i2b, i_i2s, i_ifeq, i_ifne, i_iflt, i_ifge, i_ifgt, i_ifle, i_cmpeq, i_cmpne, i_cmplt, i_cmpge, i_cmpgt, i_cmple, i_acmpeq, i_acmpne, i_ifnull, i_ifnonnull, i_getI, i_getR, i_putI, i_putZ, i_putR, i_ald, i_ldL, i_ldR, i_ast, i_stL, i_stR, i_alen, i_new, i_newa, i_iret, i_zret, i_lret, i_aret, i_vret, i_raise, i_throw, i_recv, i_objinit, i_tsw3, lget, lset, lput1, lput2, lkil, ltrim, largs, isL, takev, dropv, nthv, pushO, catv, gd, true_and, and_true, Option.some.injEq, Prod.mk.injEq, exists_eq_left', if_true, if_false, reduceCtorEq, Bool.false_eq_true, lcmp_ge, lcmp_lt, lcmp_le, lcmp_gt, lcmp_eq, true_or, or_true, not_true_eq_false, not_false_eq_true, false_implies, true_implies, List.length_cons, List.length_nil, o1, o20, hd.1, hn.1]
    refine ⟨⟨M + 15, rfl, o21.1⟩, call0 (gd_of rfl) ?_⟩
    refine sp_X17_isOne o21 g2 (by omega) (by omega) ?_
    simp only [P_X16_lowest, i_kil, i_icon, i_lcon, i_null, i_loadI, i_loadL, i_loadR, i_istore, i_lstore, i_astore, i_iinc, i_dup, i_dup2, i_pop, i_iadd, i_isub, i_imul, i_idiv, i_irem, i_ineg, i_iand, i_ior, i_ishl, i_ishr, i_lxor, i_ladd, i_lsub, i_lmul, i_ldiv, i_lrem, i_lneg, i_lshl, i_lcmp, i_i2l, i_l2i, i_i2b, i_i2s, i_ifeq, i_ifne, i_iflt, i_ifge, i_ifgt, i_ifle, i_cmpeq, i_cmpne, i_cmplt, i_cmpge, i_cmpgt, i_cmple, i_acmpeq, i_acmpne, i_ifnull, i_ifnonnull, i_getI, i_getR, i_putI, i_putZ, i_putR, i_ald, i_ldL, i_ldR, i_ast, i_stL, i_stR, i_alen, i_new, i_newa, i_iret, i_zret, i_lret, i_aret, i_vret, i_raise, i_throw, i_recv, i_objinit, i_tsw3, lget, lset, lput1, lput2, lkil, ltrim, largs, isL, takev, dropv, nthv, pushO, catv, gd, true_and, and_true, Option.some.injEq, Prod.mk.injEq, exists_eq_left', if_true, if_false, reduceCtorEq, Bool.false_eq_true, lcmp_ge, lcmp_lt, lcmp_le, lcmp_gt, lcmp_eq, true_or, or_true, not_true_eq_false, not_false_eq_true, false_implies, true_implies, List.length_cons, List.length_nil, o1, o20, hd.1, hn.1]
    refine ⟨fun h => ?_, fun h => ?_⟩
    · have hg1 : ((Int.gcd a b : Nat) : Int) = 1 := by
        rcases Classical.em (((Int.gcd a b : Nat) : Int) = 1) with h' | h'
        · exact h'
        · rw [if_neg h'] at h; exact absurd rfl h
      rw [hg1, Int.tdiv_one] at l1 l2
      refine wp_in ?_
      simp only [P_X16_lowest, i_kil, i_icon, i_lcon, i_null, i_loadI, i_loadL, i_loadR, i_istore, i_lstore, i_astore, i_iinc, i_dup, i_dup2, i_pop, i_iadd, i_isub, i_imul, i_idiv, i_irem, i_ineg, i_iand, i_ior, i_ishl, i_ishr, i_lxor, i_ladd, i_lsub, i_lmul, i_ldiv, i_lrem, i_lneg, i_lshl, i_lcmp, i_i2l, i_l2i, i_i2b, i_i2s, i_ifeq, i_ifne, i_iflt, i_ifge, i_ifgt, i_ifle, i_cmpeq, i_cmpne, i_cmplt, i_cmpge, i_cmpgt, i_cmple, i_acmpeq, i_acmpne, i_ifnull, i_ifnonnull, i_getI, i_getR, i_putI, i_putZ, i_putR, i_ald, i_ldL, i_ldR, i_ast, i_stL, i_stR, i_alen, i_new, i_newa, i_iret, i_zret, i_lret, i_aret, i_vret, i_raise, i_throw, i_recv, i_objinit, i_tsw3, lget, lset, lput1, lput2, lkil, ltrim, largs, isL, takev, dropv, nthv, pushO, catv, gd, true_and, and_true, Option.some.injEq, Prod.mk.injEq, exists_eq_left', if_true, if_false, reduceCtorEq, Bool.false_eq_true, lcmp_ge, lcmp_lt, lcmp_le, lcmp_gt, lcmp_eq, true_or, or_true, not_true_eq_false, not_false_eq_true, false_implies, true_implies, List.length_cons, List.length_nil]
      exact k D2 hq2 (by rw [l1]; exact hx2) (by rw [l2]; exact hy2)
    · refine ⟨⟨M, rfl, o1⟩, call0 (gd_of rfl) ?_⟩
      refine sp_X16_divide_q hR hW hn hn o21 hx2 g2 hg0 ha (by omega) ha (by omega) (by omega) (by omega) fun D3 f1 f2 => ?_
      have f1r : rO D2 D3 M n := f1.toR
      simp only [P_X16_lowest, i_kil, i_icon, i_lcon, i_null, i_loadI, i_loadL, i_loadR, i_istore, i_lstore, i_astore, i_iinc, i_dup, i_dup2, i_pop, i_iadd, i_isub, i_imul, i_idiv, i_irem, i_ineg, i_iand, i_ior, i_ishl, i_ishr, i_lxor, i_ladd, i_lsub, i_lmul, i_ldiv, i_lrem, i_lneg, i_lshl, i_lcmp, i_i2l, i_l2i, i_i2b, i_i2s, i_ifeq, i_ifne, i_iflt, i_ifge, i_ifgt, i_ifle, i_cmpeq, i_cmpne, i_cmplt, i_cmpge, i_cmpgt, i_cmple, i_acmpeq, i_acmpne, i_ifnull, i_ifnonnull, i_getI, i_getR, i_putI, i_putZ, i_putR, i_ald, i_ldL, i_ldR, i_ast, i_stL, i_stR, i_alen, i_new, i_newa, i_iret, i_zret, i_lret, i_aret, i_vret, i_raise, i_throw, i_recv, i_objinit, i_tsw3, lget, lset, lput1, lput2, lkil, ltrim, largs, isL, takev, dropv, nthv, pushO, catv, gd, true_and, and_true, Option.some.injEq, Prod.mk.injEq, exists_eq_left', if_true, if_false, reduceCtorEq, Bool.false_eq_true, lcmp_ge, lcmp_lt, lcmp_le, lcmp_gt, lcmp_eq, true_or, or_true, not_true_eq_false, not_false_eq_true, false_implies, true_implies, List.length_cons, List.length_nil, o1, o20, hd.1, hn.1]
      refine ⟨⟨M, rfl, o1⟩, call0 (gd_of rfl) ?_⟩
      refine sp_X16_divide_q hR hW hd hd o21 (wD_off2 hy2 f1r (by unfold wN; omega) hd hn (Ne.symm hnd)) (wD_off2 g2 f1r (by unfold wN; omega) o21 hn (by omega)) hg0 hb2 (by omega) hb2 (by omega) (by omega) (by omega) fun D4 h1 h2 => ?_
      have h1r : rO D3 D4 M d := h1.toR
      simp only [P_X16_lowest, i_kil, i_icon, i_lcon, i_null, i_loadI, i_loadL, i_loadR, i_istore, i_lstore, i_astore, i_iinc, i_dup, i_dup2, i_pop, i_iadd, i_isub, i_imul, i_idiv, i_irem, i_ineg, i_iand, i_ior, i_ishl, i_ishr, i_lxor, i_ladd, i_lsub, i_lmul, i_ldiv, i_lrem, i_lneg, i_lshl, i_lcmp, i_i2l, i_l2i, i_i2b, i_i2s, i_ifeq, i_ifne, i_iflt, i_ifge, i_ifgt, i_ifle, i_cmpeq, i_cmpne, i_cmplt, i_cmpge, i_cmpgt, i_cmple, i_acmpeq, i_acmpne, i_ifnull, i_ifnonnull, i_getI, i_getR, i_putI, i_putZ, i_putR, i_ald, i_ldL, i_ldR, i_ast, i_stL, i_stR, i_alen, i_new, i_newa, i_iret, i_zret, i_lret, i_aret, i_vret, i_raise, i_throw, i_recv, i_objinit, i_tsw3, lget, lset, lput1, lput2, lkil, ltrim, largs, isL, takev, dropv, nthv, pushO, catv, gd, true_and, and_true, Option.some.injEq, Prod.mk.injEq, exists_eq_left', if_true, if_false, reduceCtorEq, Bool.false_eq_true, lcmp_ge, lcmp_lt, lcmp_le, lcmp_gt, lcmp_eq, true_or, or_true, not_true_eq_false, not_false_eq_true, false_implies, true_implies, List.length_cons, List.length_nil]
      refine wp_in ?_
      simp only [P_X16_lowest, i_kil, i_icon, i_lcon, i_null, i_loadI, i_loadL, i_loadR, i_istore, i_lstore, i_astore, i_iinc, i_dup, i_dup2, i_pop, i_iadd, i_isub, i_imul, i_idiv, i_irem, i_ineg, i_iand, i_ior, i_ishl, i_ishr, i_lxor, i_ladd, i_lsub, i_lmul, i_ldiv, i_lrem, i_lneg, i_lshl, i_lcmp, i_i2l, i_l2i, i_i2b, i_i2s, i_ifeq, i_ifne, i_iflt, i_ifge, i_ifgt, i_ifle, i_cmpeq, i_cmpne, i_cmplt, i_cmpge, i_cmpgt, i_cmple, i_acmpeq, i_acmpne, i_ifnull, i_ifnonnull, i_getI, i_getR, i_putI, i_putZ, i_putR, i_ald, i_ldL, i_ldR, i_ast, i_stL, i_stR, i_alen, i_new, i_newa, i_iret, i_zret, i_lret, i_aret, i_vret, i_raise, i_throw, i_recv, i_objinit, i_tsw3, lget, lset, lput1, lput2, lkil, ltrim, largs, isL, takev, dropv, nthv, pushO, catv, gd, true_and, and_true, Option.some.injEq, Prod.mk.injEq, exists_eq_left', if_true, if_false, reduceCtorEq, Bool.false_eq_true, lcmp_ge, lcmp_lt, lcmp_le, lcmp_gt, lcmp_eq, true_or, or_true, not_true_eq_false, not_false_eq_true, false_implies, true_implies, List.length_cons, List.length_nil]
      refine k D4 ((hq2.tr (f1r.fO (by omega))).tr (h1r.fO (by omega))) ?_ ?_
      · rw [l1]; exact wD_off2 f2 h1r (by unfold wN; omega) hn hd hnd
      · rw [l2]; exact h2
  refine wp_in ?_
  simp only [P_X16_lowest, i_kil, i_icon, i_lcon, i_null, i_loadI, i_loadL, i_loadR, i_istore, i_lstore, i_astore, i_iinc, i_dup, i_dup2, i_pop, i_iadd, i_isub, i_imul, i_idiv, i_irem, i_ineg, i_iand, i_ior, i_ishl, i_ishr, i_lxor, i_ladd, i_lsub, i_lmul, i_ldiv, i_lrem, i_lneg, i_lshl, i_lcmp, i_i2l, i_l2i, i_i2b, i_i2s, i_ifeq, i_ifne, i_iflt, i_ifge, i_ifgt, i_ifle, i_cmpeq, i_cmpne, i_cmplt, i_cmpge, i_cmpgt, i_cmple, i_acmpeq, i_acmpne, i_ifnull, i_ifnonnull, i_getI, i_getR, i_putI, i_putZ, i_putR, i_ald, i_ldL, i_ldR, i_ast, i_stL, i_stR, i_alen, i_new, i_newa, i_iret, i_zret, i_lret, i_aret, i_vret, i_raise, i_throw, i_recv, i_objinit, i_tsw3, lget, lset, lput1, lput2, lkil, ltrim, largs, isL, takev, dropv, nthv, pushO, catv, gd, true_and, and_true, Option.some.injEq, Prod.mk.injEq, exists_eq_left', if_true, if_false, reduceCtorEq, Bool.false_eq_true, lcmp_ge, lcmp_lt, lcmp_le, lcmp_gt, lcmp_eq, true_or, or_true, not_true_eq_false, not_false_eq_true, false_implies, true_implies, List.length_cons, List.length_nil, o1, hn.1, hd.1, hxs, hys]
  refine ⟨fun h => ?_, fun h => ?_⟩
  · refine ⟨fun h => ?_, fun h => ?_⟩
    · have hb1 : 0 < b := by rcases sgn_cases b with g | g | g <;> omega
      exact step a b D fO.refl hx hy hb1 ha hb ha2 hb2 k
    · have hb1 : b < 0 := by rcases sgn_cases b with g | g | g <;> omega
      refine ⟨by unfold inI; rcases sgn_cases a with g | g | g <;> omega, ?_⟩
      have hx' : wD 2 1 (pmu D n 1 (-Int.sign a)) n (-a) := hx.neg (by decide)
      have hy1 : wD 2 1 (pmu D n 1 (-Int.sign a)) d b := hy.congr (fun i => by simp only [pmu]; rw [if_neg (fun h => hnd h.1.symm)]) (fun i => by simp only [pmu]; rw [if_neg (fun h => by omega)])
      have hy' : wD 2 1 (pmu (pmu D n 1 (-Int.sign a)) d 1 1) d (-b) := hy1.abs (by decide) hb1
      have hx2 : wD 2 1 (pmu (pmu D n 1 (-Int.sign a)) d 1 1) n (-a) := hx'.congr (fun i => by simp only [pmu]; rw [if_neg (fun h => hnd h.1)]) (fun i => by simp only [pmu]; rw [if_neg (fun h => by omega)])
      refine step (-a) (-b) _ (fun c i c1 c2 c3 c4 c5 => ?_) hx2 hy' (by omega) (by rw [Int.natAbs_neg]; exact ha) (by rw [Int.natAbs_neg]; exact hb) (by rw [Int.natAbs_neg]; exact ha2) (by rw [Int.natAbs_neg]; exact hb2) (by rw [divInt_neg_neg]; exact k)
      simp only [pmu]; rw [if_neg (fun h => c3 h.1), if_neg (fun h => c1 h.1)]
  · have ha0 : a = 0 := Int.sign_eq_zero_iff_zero.mp h
    subst ha0
    refine ⟨⟨d, rfl, hd.1⟩, call0 (gd_of rfl) ?_⟩
    refine sp_X17_set hd m3 (by omega) (by omega) fun D1 g1 g2 => ?_
    simp only [P_X16_lowest, i_kil, i_icon, i_lcon, i_null, i_loadI, i_loadL, i_loadR, i_istore, i_lstore, i_astore, i_iinc, i_dup, i_dup2, i_pop, i_iadd, i_isub, i_imul, i_idiv, i_irem, i_ineg, i_iand, i_ior, i_ishl, i_ishr, i_lxor, i_ladd, i_lsub, i_lmul, i_ldiv, i_lrem, i_lneg, i_lshl, i_lcmp, i_i2l, i_l2i, i_i2b, i_i2s, i_ifeq, i_ifne, i_iflt, i_ifge, i_ifgt, i_ifle, i_cmpeq, i_cmpne, i_cmplt, i_cmpge, i_cmpgt, i_cmple, i_acmpeq, i_acmpne, i_ifnull, i_ifnonnull, i_getI, i_getR, i_putI, i_putZ, i_putR, i_ald, i_ldL, i_ldR, i_ast, i_stL, i_stR, i_alen, i_new, i_newa, i_iret, i_zret, i_lret, i_aret, i_vret, i_raise, i_throw, i_recv, i_objinit, i_tsw3, lget, lset, lput1, lput2, lkil, ltrim, largs, isL, takev, dropv, nthv, pushO, catv, gd, true_and, and_true, Option.some.injEq, Prod.mk.injEq, exists_eq_left', if_true, if_false, reduceCtorEq, Bool.false_eq_true, lcmp_ge, lcmp_lt, lcmp_le, lcmp_gt, lcmp_eq, true_or, or_true, not_true_eq_false, not_false_eq_true, false_implies, true_implies, List.length_cons, List.length_nil]
    rw [Rat.zero_divInt] at k
    exact k D1 (g1.fO (by omega)) (hx.off g1 (by decide) (by decide) hn hd hnd) g2
theorem frac_law {x y z w s : Int} (hy : y ≠ 0) (hw : w ≠ 0) (hs : s = 1 ∨ s = -1) : Rat.divInt (x * w + s * (z * y)) (y * w) = Rat.divInt x y + s * Rat.divInt z w := by
  have e : (s : Rat) * Rat.divInt z w = Rat.divInt (s * z) w := by
    have h := Rat.divInt_mul_divInt s z (d₁ := 1) (d₂ := w)
    have h1 : Rat.divInt s 1 = (s : Rat) := by rcases hs with h | h <;> subst h <;> decide
    rw [h1, Int.one_mul] at h
    exact h
  rw [e, Rat.divInt_add_divInt _ _ hy hw]
  congr 1
  grind
theorem wOh_toR {D D' : Dat} {M w : Nat} (h : wOh D D' w (M + 1)) : rO D D' M w := fun c i h1 h2 h3 => h c i h1 h2 (by omega)
theorem pw_add_lt {x y : Int} {p q r : Nat} (hx : (x.natAbs : Int) < 1000000000 ^ p) (hy : (y.natAbs : Int) < 1000000000 ^ q) (hp : p < r) (hq : q < r) : (x.natAbs : Int) + y.natAbs < 1000000000 ^ r := by
  obtain ⟨t, rfl⟩ : ∃ t, r = t + 1 := ⟨r - 1, by omega⟩
  have h1 := pw_mono (show p ≤ t by omega)
  have h2 := pw_mono (show q ≤ t by omega)
  have h3 := pw_pos t
  rw [pw_succ]
  omega
set_option maxHeartbeats 4000000 in
theorem sp_X16_fractionAdd {E : Ex} {B : Nat × Nat} {S : Stat} {D : Dat} {M n d a b rn rd ra rb p q p2 q2 : Nat} {x y z w s : Int} (hM : mS S M) (hn : wS 17 S n rn) (hd : wS 17 S d rd) (ha : wS 17 S a ra) (hb : wS 17 S b rb) (hnd : n ≠ d) (nn : mN M n) (nd : mN M d) (na : mN M a) (nb : mN M b) (hnb : n ≠ b) (hx : wD 2 1 D n x) (hy : wD 2 1 D d y) (hz : wD 2 1 D a z) (hw : wD 2 1 D b w) (hy0 : y ≠ 0) (hw0 : w ≠ 0) (hs : s = 1 ∨ s = -1)
    (px : (x.natAbs : Int) < 1000000000 ^ p) (py : (y.natAbs : Int) < 1000000000 ^ q) (pz : (z.natAbs : Int) < 1000000000 ^ p2) (pw : (w.natAbs : Int) < 1000000000 ^ q2) (l1 : p ≤ rn) (l2 : q ≤ rd) (l3 : p2 ≤ ra) (l4 : q2 ≤ rb) (l5 : p + q2 < rn) (l6 : p2 + q < rn) (l7 : q + q2 ≤ rd) (m1 : rn ≤ 260) (m2 : rd ≤ 260) (m3 : ra ≤ 260) (m4 : rb ≤ 260) (m5 : 3 ≤ rd)
    (k : ∀ D' : Dat, fO D D' M n d → wD 2 1 D' n (Rat.divInt x y + s * Rat.divInt z w).num → wD 2 1 D' d ((Rat.divInt x y + s * Rat.divInt z w).den : Int) → E (.inl none) B S D') : Wp P_X16_fractionAdd E 0 [some (aR M), some (aR n), some (aR d), some (aR a), some (aR b), some (aI s)] [] B S D := by
  have hM0 := hM
  obtain ⟨o1, o2, o3, o4, o5, o6, o7, o8, o9, o10, o11, o12, o13, o14, o15, o16, o17, o18, o19, o20, o21⟩ := hM
  have z1 : M + 1 ≠ M + 11 + 1 := by omega
  have z2 : M + 1 ≠ M + 13 + 1 := by omega
  have en11 := (nn.ne 11 (by decide)).1
  have en13 := (nn.ne 13 (by decide)).1
  have ed11 := (nd.ne 11 (by decide)).1
  have ed13 := (nd.ne 13 (by decide)).1
  have ea11 := (na.ne 11 (by decide)).1
  have eb11 := (nb.ne 11 (by decide)).1
  have eb13 := (nb.ne 13 (by decide)).1
  have e1n := (nn.ne 1 (by decide)).2
  have e1d := (nd.ne 1 (by decide)).2
  have e1a := (na.ne 1 (by decide)).2
  have e1b := (nb.ne 1 (by decide)).2
  have own11 : wN M (M + 11) := wN_own (by decide)
  have own13 : wN M (M + 13) := wN_own (by decide)
  have e1113 : M + 11 ≠ M + 13 := by omega
  have hs1 : (s * (z * y)).natAbs = (z * y).natAbs := by rcases hs with h | h <;> rw [h] <;> simp
  have pzy := pw_mul pz py
  have pxw := pw_mul px pw
  have pyw := pw_mul py pw
  refine wp_in ?_
  simp only [P_X16_fractionAdd, i_kil, i_icon, i_lcon, i_null, i_loadI, i_loadL, i_loadR, i_istore, i_lstore, i_astore, i_iinc, i_dup, i_dup2, i_pop, i_iadd, i_isub, i_imul, i_idiv, i_irem, i_ineg, i_iand, i_ior, i_ishl, i_ishr, i_lxor, i_ladd, i_lsub, i_lmul, i_ldiv, i_lrem, i_lneg, i_lshl, i_lcmp, i_i2l, i_l2i, i_i2b, i_i2s, i_ifeq, i_ifne, i_iflt, i_ifge, i_ifgt, i_ifle, i_cmpeq, i_cmpne, i_cmplt, i_cmpge, i_cmpgt, i_cmple, i_acmpeq, i_acmpne, i_ifnull, i_ifnonnull, i_getI, i_getR, i_putI, i_putZ, i_putR, i_ald, i_ldL, i_ldR, i_ast, i_stL, i_stR, i_alen, i_new, i_newa, i_iret, i_zret, i_lret, i_aret, i_vret, i_raise, i_throw, i_recv, i_objinit, i_tsw3, lget, lset, lput1, lput2, lkil, ltrim, largs, isL, takev, dropv, nthv, pushO, catv, gd, true_and, and_true, Option.some.injEq, Prod.mk.injEq, exists_eq_left', if_true, if_false, reduceCtorEq, Bool.false_eq_true, lcmp_ge, lcmp_lt, lcmp_le, lcmp_gt, lcmp_eq, true_or, or_true, not_true_eq_false, not_false_eq_true, false_implies, true_implies, List.length_cons, List.length_nil, o1, o16, o18, hn.1, hd.1, o17.1, o19.1]
  refine ⟨⟨M, rfl, o1⟩, call0 (gd_of rfl) ?_⟩
  refine sp_X16_multiply o17 ha hd o1 o2 o3 z1 e1a e1d hz hy pz py l3 l2 (by omega) (by omega) (by omega) (by omega) (by omega) fun D1 g1 g2 => ?_
  have r1 : rO D D1 M (M + 11) := wOh_toR g1
  have hx1 := wD_off2 hx r1 nn.far hn o17 en11
  have hy1 := wD_off2 hy r1 nd.far hd o17 ed11
  have hw1 := wD_off2 hw r1 nb.far hb o17 eb11
  simp only [P_X16_fractionAdd, i_kil, i_icon, i_lcon, i_null, i_loadI, i_loadL, i_loadR, i_istore, i_lstore, i_astore, i_iinc, i_dup, i_dup2, i_pop, i_iadd, i_isub, i_imul, i_idiv, i_irem, i_ineg, i_iand, i_ior, i_ishl, i_ishr, i_lxor, i_ladd, i_lsub, i_lmul, i_ldiv, i_lrem, i_lneg, i_lshl, i_lcmp, i_i2l, i_l2i, i_i2b, i_i2s, i_ifeq, i_ifne, i_iflt, i_ifge, i_ifgt, i_ifle, i_cmpeq, i_cmpne, i_cmplt, i_cmpge, i_cmpgt, i_cmple, i_acmpeq, i_acmpne, i_ifnull, i_ifnonnull, i_getI, i_getR, i_putI, i_putZ, i_putR, i_ald, i_ldL, i_ldR, i_ast, i_stL, i_stR, i_alen, i_new, i_newa, i_iret, i_zret, i_lret, i_aret, i_vret, i_raise, i_throw, i_recv, i_objinit, i_tsw3, lget, lset, lput1, lput2, lkil, ltrim, largs, isL, takev, dropv, nthv, pushO, catv, gd, true_and, and_true, Option.some.injEq, Prod.mk.injEq, exists_eq_left', if_true, if_false, reduceCtorEq, Bool.false_eq_true, lcmp_ge, lcmp_lt, lcmp_le, lcmp_gt, lcmp_eq, true_or, or_true, not_true_eq_false, not_false_eq_true, false_implies, true_implies, List.length_cons, List.length_nil, o1, o16, o18, hn.1, hd.1, o17.1, o19.1]
  refine ⟨⟨M, rfl, o1⟩, call0 (gd_of rfl) ?_⟩
  refine sp_X16_multiply o19 hn hb o1 o2 o3 z2 e1n e1b hx1 hw1 px pw l1 l4 (by omega) (by omega) (by omega) (by omega) (by omega) fun D2 h1 h2 => ?_
  have r2 : rO D1 D2 M (M + 13) := wOh_toR h1
  have hy2 := wD_off2 hy1 r2 nd.far hd o19 ed13
  have hw2 := wD_off2 hw1 r2 nb.far hb o19 eb13
  have ga2 := wD_off2 g2 r2 own11 o17 o19 e1113
  simp only [P_X16_fractionAdd, i_kil, i_icon, i_lcon, i_null, i_loadI, i_loadL, i_loadR, i_istore, i_lstore, i_astore, i_iinc, i_dup, i_dup2, i_pop, i_iadd, i_isub, i_imul, i_idiv, i_irem, i_ineg, i_iand, i_ior, i_ishl, i_ishr, i_lxor, i_ladd, i_lsub, i_lmul, i_ldiv, i_lrem, i_lneg, i_lshl, i_lcmp, i_i2l, i_l2i, i_i2b, i_i2s, i_ifeq, i_ifne, i_iflt, i_ifge, i_ifgt, i_ifle, i_cmpeq, i_cmpne, i_cmplt, i_cmpge, i_cmpgt, i_cmple, i_acmpeq, i_acmpne, i_ifnull, i_ifnonnull, i_getI, i_getR, i_putI, i_putZ, i_putR, i_ald, i_ldL, i_ldR, i_ast, i_stL, i_stR, i_alen, i_new, i_newa, i_iret, i_zret, i_lret, i_aret, i_vret, i_raise, i_throw, i_recv, i_objinit, i_tsw3, lget, lset, lput1, lput2, lkil, ltrim, largs, isL, takev, dropv, nthv, pushO, catv, gd, true_and, and_true, Option.some.injEq, Prod.mk.injEq, exists_eq_left', if_true, if_false, reduceCtorEq, Bool.false_eq_true, lcmp_ge, lcmp_lt, lcmp_le, lcmp_gt, lcmp_eq, true_or, or_true, not_true_eq_false, not_false_eq_true, false_implies, true_implies, List.length_cons, List.length_nil, o1, o16, o18, hn.1, hd.1, o17.1, o19.1]
  refine call0 (gd_of rfl) ?_
  have psum : ((x * w).natAbs : Int) + (z * y).natAbs < 1000000000 ^ rn := pw_add_lt pxw pzy l5 l6
  refine sp_X16_add o17 o19 o17 h2 ga2 hs (Int.lt_of_lt_of_le pxw (pw_mono (by omega))) (Int.lt_of_lt_of_le pzy (pw_mono (by omega))) (Int.lt_of_lt_of_le psum (pw_mono (by omega))) (by omega) (by omega) (by omega) fun D3 f1 f2 => ?_
  have r3 : rO D2 D3 M (M + 11) := f1.toR
  have hy3 := wD_off2 hy2 r3 nd.far hd o17 ed11
  have hw3 := wD_off2 hw2 r3 nb.far hb o17 eb11
  simp only [P_X16_fractionAdd, i_kil, i_icon, i_lcon, i_null, i_loadI, i_loadL, i_loadR, i_istore, i_lstore, i_astore, i_iinc, i_dup, i_dup2, i_pop, i_iadd, i_isub, i_imul, i_idiv, i_irem, i_ineg, i_iand, i_ior, i_ishl, i_ishr, i_lxor, i_ladd, i_lsub, i_lmul, i_ldiv, i_lrem, i_lneg, i_lshl, i_lcmp, i_i2l, i_l2i, i_i2b, i_i2s, i_ifeq, i_ifne, i_iflt, i_ifge, i_ifgt, i_ifle, i_cmpeq, i_cmpne, i_cmplt, i_cmpge, i_cmpgt, i_cmple, i_acmpeq, i_acmpne, i_ifnull, i_ifnonnull, i_getI, i_getR, i_putI, i_putZ, i_putR, i_ald, i_ldL, i_ldR, i_ast, i_stL, i_stR, i_alen, i_new, i_newa, i_iret, i_zret, i_lret, i_aret, i_vret, i_raise, i_throw, i_recv, i_objinit, i_tsw3, lget, lset, lput1, lput2, lkil, ltrim, largs, isL, takev, dropv, nthv, pushO, catv, gd, true_and, and_true, Option.some.injEq, Prod.mk.injEq, exists_eq_left', if_true, if_false, reduceCtorEq, Bool.false_eq_true, lcmp_ge, lcmp_lt, lcmp_le, lcmp_gt, lcmp_eq, true_or, or_true, not_true_eq_false, not_false_eq_true, false_implies, true_implies, List.length_cons, List.length_nil, o1, o16, o18, hn.1, hd.1, o17.1, o19.1]
  refine ⟨⟨M, rfl, o1⟩, call0 (gd_of rfl) ?_⟩
  refine sp_X16_multiply o19 hd hb o1 o2 o3 z2 e1d e1b hy3 hw3 py pw l2 l4 (by omega) (by omega) (by omega) (by omega) (by omega) fun D4 k1 k2 => ?_
  have r4 : rO D3 D4 M (M + 13) := wOh_toR k1
  have fa4 := wD_off2 f2 r4 own11 o17 o19 e1113
  have hnum : ((x * w + s * (z * y)).natAbs : Int) < 1000000000 ^ rn := by
    have := Int.natAbs_add_le (x * w) (s * (z * y))
    omega
  have hden : ((y * w).natAbs : Int) < 1000000000 ^ rd := Int.lt_of_lt_of_le pyw (pw_mono l7)
  simp only [P_X16_fractionAdd, i_kil, i_icon, i_lcon, i_null, i_loadI, i_loadL, i_loadR, i_istore, i_lstore, i_astore, i_iinc, i_dup, i_dup2, i_pop, i_iadd, i_isub, i_imul, i_idiv, i_irem, i_ineg, i_iand, i_ior, i_ishl, i_ishr, i_lxor, i_ladd, i_lsub, i_lmul, i_ldiv, i_lrem, i_lneg, i_lshl, i_lcmp, i_i2l, i_l2i, i_i2b, i_i2s, i_ifeq, i_ifne, i_iflt, i_ifge, i_ifgt, i_ifle, i_cmpeq, i_cmpne, i_cmplt, i_cmpge, i_cmpgt, i_cmple, i_acmpeq, i_acmpne, i_ifnull, i_ifnonnull, i_getI, i_getR, i_putI, i_putZ, i_putR, i_ald, i_ldL, i_ldR, i_ast, i_stL, i_stR, i_alen, i_new, i_newa, i_iret, i_zret, i_lret, i_aret, i_vret, i_raise, i_throw, i_recv, i_objinit, i_tsw3, lget, lset, lput1, lput2, lkil, ltrim, largs, isL, takev, dropv, nthv, pushO, catv, gd, true_and, and_true, Option.some.injEq, Prod.mk.injEq, exists_eq_left', if_true, if_false, reduceCtorEq, Bool.false_eq_true, lcmp_ge, lcmp_lt, lcmp_le, lcmp_gt, lcmp_eq, true_or, or_true, not_true_eq_false, not_false_eq_true, false_implies, true_implies, List.length_cons, List.length_nil, o1, o16, o18, hn.1, hd.1, o17.1, o19.1]
  refine ⟨⟨n, rfl, hn.1⟩, call0 (gd_of rfl) ?_⟩
  refine sp_X17_copy hn o17 fa4 hnum (Int.lt_of_lt_of_le hnum (pw_mono (by omega))) (by omega) fun D5 i1 i2 => ?_
  have r5 : rO D4 D5 M n := i1.toR
  have k5 := wD_off2 k2 r5 own13 o19 hn (Ne.symm en13)
  simp only [P_X16_fractionAdd, i_kil, i_icon, i_lcon, i_null, i_loadI, i_loadL, i_loadR, i_istore, i_lstore, i_astore, i_iinc, i_dup, i_dup2, i_pop, i_iadd, i_isub, i_imul, i_idiv, i_irem, i_ineg, i_iand, i_ior, i_ishl, i_ishr, i_lxor, i_ladd, i_lsub, i_lmul, i_ldiv, i_lrem, i_lneg, i_lshl, i_lcmp, i_i2l, i_l2i, i_i2b, i_i2s, i_ifeq, i_ifne, i_iflt, i_ifge, i_ifgt, i_ifle, i_cmpeq, i_cmpne, i_cmplt, i_cmpge, i_cmpgt, i_cmple, i_acmpeq, i_acmpne, i_ifnull, i_ifnonnull, i_getI, i_getR, i_putI, i_putZ, i_putR, i_ald, i_ldL, i_ldR, i_ast, i_stL, i_stR, i_alen, i_new, i_newa, i_iret, i_zret, i_lret, i_aret, i_vret, i_raise, i_throw, i_recv, i_objinit, i_tsw3, lget, lset, lput1, lput2, lkil, ltrim, largs, isL, takev, dropv, nthv, pushO, catv, gd, true_and, and_true, Option.some.injEq, Prod.mk.injEq, exists_eq_left', if_true, if_false, reduceCtorEq, Bool.false_eq_true, lcmp_ge, lcmp_lt, lcmp_le, lcmp_gt, lcmp_eq, true_or, or_true, not_true_eq_false, not_false_eq_true, false_implies, true_implies, List.length_cons, List.length_nil, o1, o16, o18, hn.1, hd.1, o17.1, o19.1]
  refine ⟨⟨d, rfl, hd.1⟩, call0 (gd_of rfl) ?_⟩
  refine sp_X17_copy hd o19 k5 hden (Int.lt_of_lt_of_le hden (pw_mono (by omega))) (by omega) fun D6 j1 j2 => ?_
  have r6 : rO D5 D6 M d := j1.toR
  have i6 := wD_off2 i2 r6 nn.far hn hd hnd
  simp only [P_X16_fractionAdd, i_kil, i_icon, i_lcon, i_null, i_loadI, i_loadL, i_loadR, i_istore, i_lstore, i_astore, i_iinc, i_dup, i_dup2, i_pop, i_iadd, i_isub, i_imul, i_idiv, i_irem, i_ineg, i_iand, i_ior, i_ishl, i_ishr, i_lxor, i_ladd, i_lsub, i_lmul, i_ldiv, i_lrem, i_lneg, i_lshl, i_lcmp, i_i2l, i_l2i, i_i2b, i_i2s, i_ifeq, i_ifne, i_iflt, i_ifge, i_ifgt, i_ifle, i_cmpeq, i_cmpne, i_cmplt, i_cmpge, i_cmpgt, i_cmple, i_acmpeq, i_acmpne, i_ifnull, i_ifnonnull, i_getI, i_getR, i_putI, i_putZ, i_putR, i_ald, i_ldL, i_ldR, i_ast, i_stL, i_stR, i_alen, i_new, i_newa, i_iret, i_zret, i_lret, i_aret, i_vret, i_raise, i_throw, i_recv, i_objinit, i_tsw3, lget, lset, lput1, lput2, lkil, ltrim, largs, isL, takev, dropv, nthv, pushO, catv, gd, true_and, and_true, Option.some.injEq, Prod.mk.injEq, exists_eq_left', if_true, if_false, reduceCtorEq, Bool.false_eq_true, lcmp_ge, lcmp_lt, lcmp_le, lcmp_gt, lcmp_eq, true_or, or_true, not_true_eq_false, not_false_eq_true, false_implies, true_implies, List.length_cons, List.length_nil, o1, o16, o18, hn.1, hd.1, o17.1, o19.1]
  refine ⟨⟨M, rfl, o1⟩, call0 (gd_of rfl) ?_⟩
  have hyw : y * w ≠ 0 := Int.mul_ne_zero hy0 hw0
  refine sp_X16_lowest hM0 hn hd hnd nn nd i6 j2 hyw hnum hden (Int.lt_of_lt_of_le hnum (pw_mono (by omega))) (Int.lt_of_lt_of_le hden (pw_mono (by omega))) (by omega) (by omega) m5 fun D7 t1 t2 t3 => ?_
  simp only [P_X16_fractionAdd, i_kil, i_icon, i_lcon, i_null, i_loadI, i_loadL, i_loadR, i_istore, i_lstore, i_astore, i_iinc, i_dup, i_dup2, i_pop, i_iadd, i_isub, i_imul, i_idiv, i_irem, i_ineg, i_iand, i_ior, i_ishl, i_ishr, i_lxor, i_ladd, i_lsub, i_lmul, i_ldiv, i_lrem, i_lneg, i_lshl, i_lcmp, i_i2l, i_l2i, i_i2b, i_i2s, i_ifeq, i_ifne, i_iflt, i_ifge, i_ifgt, i_ifle, i_cmpeq, i_cmpne, i_cmplt, i_cmpge, i_cmpgt, i_cmple, i_acmpeq, i_acmpne, i_ifnull, i_ifnonnull, i_getI, i_getR, i_putI, i_putZ, i_putR, i_ald, i_ldL, i_ldR, i_ast, i_stL, i_stR, i_alen, i_new, i_newa, i_iret, i_zret, i_lret, i_aret, i_vret, i_raise, i_throw, i_recv, i_objinit, i_tsw3, lget, lset, lput1, lput2, lkil, ltrim, largs, isL, takev, dropv, nthv, pushO, catv, gd, true_and, and_true, Option.some.injEq, Prod.mk.injEq, exists_eq_left', if_true, if_false, reduceCtorEq, Bool.false_eq_true, lcmp_ge, lcmp_lt, lcmp_le, lcmp_gt, lcmp_eq, true_or, or_true, not_true_eq_false, not_false_eq_true, false_implies, true_implies, List.length_cons, List.length_nil]
  rw [frac_law hy0 hw0 hs] at t2 t3
  refine k D7 ?_ t2 t3
  exact ((((((r1.fO (.inr (.inr ⟨by omega, by omega⟩))).tr (r2.fO (.inr (.inr ⟨by omega, by omega⟩)))).tr (r3.fO (.inr (.inr ⟨by omega, by omega⟩)))).tr (r4.fO (.inr (.inr ⟨by omega, by omega⟩)))).tr (r5.fO (.inl rfl))).tr (r6.fO (.inr (.inl rfl)))).tr t1
