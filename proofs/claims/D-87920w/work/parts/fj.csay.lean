/-! the component's text: say, sayRatio, sayTerm -/
-- needs: er.mput
set_option maxRecDepth 100000
set_option linter.unusedVariables false
/-- the places for text -/
def cxtS (S : Stat) (C : Nat) : Prop := S.1 C = some (0, 0) ∧ S.2.1 C 35 = some (C + 723) ∧ S.1 (C + 723) = some (101, 20000)
section CSY
variable {E : Ex} {B : Nat × Nat} {S : Stat} {D : Dat} {C : Nat} {L : List Int}
theorem sp_X0_say {c : Int} (hS : cxtS S C) (h : txD 36 D C (C + 723) L) (hL : L.length < 20000) (h0 : 0 ≤ c) (h1 : c < 128)
    (K : ∀ D', txO 36 D D' C (C + 723) → txD 36 D' C (C + 723) (L ++ [c]) → E (.inl none) B S D') : Wp P_X0_say E 0 [some (aR C), some (aI c)] [] B S D := by
  obtain ⟨o, s1, s2⟩ := hS
  obtain ⟨k1, k2⟩ := h.put (c := c) (show C ≠ C + 723 by omega)
  have e := h.1
  have e2 : pmu D (C + 723) (L.length : Nat) c C 36 = (L.length : Nat) := by rw [pmx_ne (Or.inl (by omega)), e]
  refine wp_in ?_
  simp only [P_X0_say, i_kil, i_icon, i_lcon, i_null, i_loadI, i_loadL, i_loadR, i_istore, i_lstore, i_astore, i_iinc, i_dup, i_dup2, i_pop, i_iadd, i_isub, i_imul, i_idiv, i_irem, i_ineg, i_iand, i_ior, i_ishl, i_ishr, i_lxor, i_ladd, i_lsub, i_lmul, i_ldiv, i_lrem, i_lneg, i_lshl, i_lcmp, i_i2l, i_l2i, i_i2b, i_i2s, i_ifeq, i_ifne, i_iflt, i_ifge, i_ifgt, i_ifle, i_cmpeq, i_cmpne, i_cmplt, i_cmpge, i_cmpgt, i_cmple, i_acmpeq, i_acmpne, i_ifnull, i_ifnonnull, i_getI, i_getR, i_putI, i_putZ, i_putR, i_ald, i_ldL, i_ldR, i_ast, i_stL, i_stR, i_alen, i_new, i_newa, i_iret, i_zret, i_lret, i_aret, i_vret, i_raise, i_throw, i_recv, i_objinit, i_tsw3, lget, lset, lput1, lput2, lkil, ltrim, largs, isL, takev, dropv, nthv, pushO, catv, gd, true_and, and_true, Option.some.injEq, Prod.mk.injEq, exists_eq_left', if_true, if_false, reduceCtorEq, Bool.false_eq_true, lcmp_ge, lcmp_lt, lcmp_le, lcmp_gt, lcmp_eq, true_or, or_true, not_true_eq_false, not_false_eq_true, false_implies, true_implies, List.length_cons, List.length_nil, o, s1, s2, e, e2]
  repeat (first | refine ⟨in_small (by omega) (by omega), ?_⟩ | (show (_ → _) ∧ (_ → _); first | refine ⟨by omega, fun _ => ?_⟩ | refine ⟨fun _ => ?_, by omega⟩) | refine ⟨by omega, ?_⟩ | refine ⟨⟨_, rfl, by assumption⟩, ?_⟩ | refine ⟨okT_I _, ?_⟩ | refine ⟨okT_S (by omega) (by omega), ?_⟩ | refine ⟨okT_B (by omega) (by omega), ?_⟩ | refine call0 (gd_of rfl) ?_)
  exact K _ k1 k2
theorem sp_X0_say_2 {w r p : Nat} {z : Int} (hS : cxtS S C) (hw : wS 3 S w r) (hz : wD 1 2 D w z) (hr : 1 ≤ p) (hpr : p ≤ r) (hr2 : r < 1000) (hz2 : (z.natAbs : Int) < 1000000000 ^ p) (n1 : w + 1 < C ∨ C < w) (n2 : w + 1 < C + 723 ∨ C + 723 < w) (h : txD 36 D C (C + 723) L) (hL : L.length + 9 * p ≤ 20000)
    (K : ∀ D', txO 36 D D' C (C + 723) → txD 36 D' C (C + 723) (L ++ zT z) → E (.inl none) B S D') : Wp P_X0_say_2 E 0 [some (aR C), some (aR w)] [] B S D := by
  have o := hS.1
  obtain ⟨w1, w2, w3⟩ := id hw
  obtain ⟨n, a1, a2, a3, a4⟩ := zT_wD hz
  have hn : n ≤ p := a2.size_le (by rw [← a3]; exact hz2)
  rw [a4] at K
  have dig : ∀ (j k : Nat) (D1 : Dat) (L1 : List Int), j ≤ 9 → k < n → txO 36 D D1 C (C + 723) → txD 36 D1 C (C + 723) L1 → L1.length + j ≤ 20000 →
      (∀ D2, txO 36 D D2 C (C + 723) → txD 36 D2 C (C + 723) (L1 ++ dgs j (D (w + 1) k)) → Wp P_X0_say_2 E 2 [some (aR C), some (aR w), some (aI ((k : Int) + -1))] [] B S D2) →
      Wp P_X0_say_2 E 4 [some (aR C), some (aR w), some (aI k), some (aI (unt j))] [] B S D1 := by
    intro j
    induction j with
    | zero =>
      intro k D1 L1 hj hk f1 t1 hl KK
      refine wp_in ?_
      simp only [P_X0_say_2, i_kil, i_icon, i_lcon, i_null, i_loadI, i_loadL, i_loadR, i_istore, i_lstore, i_astore, i_iinc, i_dup, i_dup2, i_pop, i_iadd, i_isub, i_imul, i_idiv, i_irem, i_ineg, i_iand, i_ior, i_ishl, i_ishr, i_lxor, i_ladd, i_lsub, i_lmul, i_ldiv, i_lrem, i_lneg, i_lshl, i_lcmp, i_i2l, i_l2i, i_i2b, i_i2s, i_ifeq, i_ifne, i_iflt, i_ifge, i_ifgt, i_ifle, i_cmpeq, i_cmpne, i_cmplt, i_cmpge, i_cmpgt, i_cmple, i_acmpeq, i_acmpne, i_ifnull, i_ifnonnull, i_getI, i_getR, i_putI, i_putZ, i_putR, i_ald, i_ldL, i_ldR, i_ast, i_stL, i_stR, i_alen, i_new, i_newa, i_iret, i_zret, i_lret, i_aret, i_vret, i_raise, i_throw, i_recv, i_objinit, i_tsw3, lget, lset, lput1, lput2, lkil, ltrim, largs, isL, takev, dropv, nthv, pushO, catv, gd, true_and, and_true, Option.some.injEq, Prod.mk.injEq, exists_eq_left', if_true, if_false, reduceCtorEq, Bool.false_eq_true, lcmp_ge, lcmp_lt, lcmp_le, lcmp_gt, lcmp_eq, true_or, or_true, not_true_eq_false, not_false_eq_true, false_implies, true_implies, List.length_cons, List.length_nil, unt]
      repeat (first | refine ⟨in_small (by omega) (by omega), ?_⟩ | (show (_ → _) ∧ (_ → _); first | refine ⟨by omega, fun _ => ?_⟩ | refine ⟨fun _ => ?_, by omega⟩) | refine ⟨by omega, ?_⟩ | refine ⟨⟨_, rfl, by assumption⟩, ?_⟩ | refine ⟨okT_I _, ?_⟩ | refine call0 (gd_of rfl) ?_)
      refine KK D1 f1 ?_
      show txD 36 D1 C (C + 723) (L1 ++ [])
      rw [List.append_nil]
      exact t1
    | succ j ih =>
      intro k D1 L1 hj hk f1 t1 hl KK
      obtain ⟨b1, b2⟩ := a2.1 k (by omega) (by omega)
      obtain ⟨d1, d2, d3, d4, d5, d6⟩ := dig_at j b1 b2
      have e1 : D1 (w + 1) k = D (w + 1) k := f1 _ _ (Or.inl (by omega)) (by omega)
      have hu : unt (j + 1) = 10 ^ j := rfl
      have hp := ten_pos j
      have hp2 := ten_le (j := j) (by omega)
      have hx := unt_next (j := j)
      rw [hu] at hx
      rw [hu]
      have ht : 0 ≤ unt j ∧ unt j ≤ 100000000 := by
        cases j with
        | zero => exact ⟨Int.le_refl 0, by decide⟩
        | succ j => exact ⟨by have := ten_pos j; show (0 : Int) ≤ 10 ^ j; omega, ten_le (by omega)⟩
      have hgo : ∀ D2, txO 36 D1 D2 C (C + 723) → txD 36 D2 C (C + 723) (L1 ++ [48 + D (w + 1) k / 10 ^ j % 10]) → Wp P_X0_say_2 E 4 [some (aR C), some (aR w), some (aI k), some (aI (unt j))] [] B S D2 := fun D2 g1 g2 => by
        refine ih k D2 (L1 ++ [48 + D (w + 1) k / 10 ^ j % 10]) (by omega) hk (f1.trans g1) g2 (by rw [List.length_append, List.length_singleton]; omega) fun D3 i1 i2 => KK D3 i1 ?_
        rw [List.append_assoc] at i2
        exact i2
      generalize hU : (10 : Int) ^ j = u at *
      generalize hV : D (w + 1) k = v at *
      refine wp_in ?_
      simp only [P_X0_say_2, i_kil, i_icon, i_lcon, i_null, i_loadI, i_loadL, i_loadR, i_istore, i_lstore, i_astore, i_iinc, i_dup, i_dup2, i_pop, i_iadd, i_isub, i_imul, i_idiv, i_irem, i_ineg, i_iand, i_ior, i_ishl, i_ishr, i_lxor, i_ladd, i_lsub, i_lmul, i_ldiv, i_lrem, i_lneg, i_lshl, i_lcmp, i_i2l, i_l2i, i_i2b, i_i2s, i_ifeq, i_ifne, i_iflt, i_ifge, i_ifgt, i_ifle, i_cmpeq, i_cmpne, i_cmplt, i_cmpge, i_cmpgt, i_cmple, i_acmpeq, i_acmpne, i_ifnull, i_ifnonnull, i_getI, i_getR, i_putI, i_putZ, i_putR, i_ald, i_ldL, i_ldR, i_ast, i_stL, i_stR, i_alen, i_new, i_newa, i_iret, i_zret, i_lret, i_aret, i_vret, i_raise, i_throw, i_recv, i_objinit, i_tsw3, lget, lset, lput1, lput2, lkil, ltrim, largs, isL, takev, dropv, nthv, pushO, catv, gd, true_and, and_true, Option.some.injEq, Prod.mk.injEq, exists_eq_left', if_true, if_false, reduceCtorEq, Bool.false_eq_true, lcmp_ge, lcmp_lt, lcmp_le, lcmp_gt, lcmp_eq, true_or, or_true, not_true_eq_false, not_false_eq_true, false_implies, true_implies, List.length_cons, List.length_nil, o, w1, w2, w3, e1, hx, d1, d2]
      repeat (first | refine ⟨in_small (by omega) (by omega), ?_⟩ | (show (_ → _) ∧ (_ → _); first | refine ⟨by omega, fun _ => ?_⟩ | refine ⟨fun _ => ?_, by omega⟩) | refine ⟨by omega, ?_⟩ | refine ⟨⟨_, rfl, by assumption⟩, ?_⟩ | refine ⟨okT_I _, ?_⟩ | refine call0 (gd_of rfl) ?_)
      refine sp_X0_say hS t1 (by omega) (by omega) (by omega) fun D2 g1 g2 => ?_
      simp only [P_X0_say_2, i_kil, i_icon, i_lcon, i_null, i_loadI, i_loadL, i_loadR, i_istore, i_lstore, i_astore, i_iinc, i_dup, i_dup2, i_pop, i_iadd, i_isub, i_imul, i_idiv, i_irem, i_ineg, i_iand, i_ior, i_ishl, i_ishr, i_lxor, i_ladd, i_lsub, i_lmul, i_ldiv, i_lrem, i_lneg, i_lshl, i_lcmp, i_i2l, i_l2i, i_i2b, i_i2s, i_ifeq, i_ifne, i_iflt, i_ifge, i_ifgt, i_ifle, i_cmpeq, i_cmpne, i_cmplt, i_cmpge, i_cmpgt, i_cmple, i_acmpeq, i_acmpne, i_ifnull, i_ifnonnull, i_getI, i_getR, i_putI, i_putZ, i_putR, i_ald, i_ldL, i_ldR, i_ast, i_stL, i_stR, i_alen, i_new, i_newa, i_iret, i_zret, i_lret, i_aret, i_vret, i_raise, i_throw, i_recv, i_objinit, i_tsw3, lget, lset, lput1, lput2, lkil, ltrim, largs, isL, takev, dropv, nthv, pushO, catv, gd, true_and, and_true, Option.some.injEq, Prod.mk.injEq, exists_eq_left', if_true, if_false, reduceCtorEq, Bool.false_eq_true, lcmp_ge, lcmp_lt, lcmp_le, lcmp_gt, lcmp_eq, true_or, or_true, not_true_eq_false, not_false_eq_true, false_implies, true_implies, List.length_cons, List.length_nil, hx]
      repeat (first | refine ⟨in_small (by omega) (by omega), ?_⟩ | (show (_ → _) ∧ (_ → _); first | refine ⟨by omega, fun _ => ?_⟩ | refine ⟨fun _ => ?_, by omega⟩) | refine ⟨by omega, ?_⟩ | refine ⟨⟨_, rfl, by assumption⟩, ?_⟩ | refine ⟨okT_I _, ?_⟩ | refine call0 (gd_of rfl) ?_)
      exact hgo D2 g1 g2
  have four : ∀ (j k : Nat) (D1 : Dat) (L1 : List Int), j ≤ 8 → k < n → txO 36 D D1 C (C + 723) → txD 36 D1 C (C + 723) L1 → L1.length + (j + 1) ≤ 20000 →
      (∀ D2, txO 36 D D2 C (C + 723) → txD 36 D2 C (C + 723) (L1 ++ dgs (j + 1) (D (w + 1) k)) → Wp P_X0_say_2 E 2 [some (aR C), some (aR w), some (aI ((k : Int) + -1))] [] B S D2) →
      Wp P_X0_say_2 E 4 [some (aR C), some (aR w), some (aI k), some (aI (10 ^ j))] [] B S D1 := fun j k D1 L1 hj hk f1 t1 hl KK => by
    exact dig (j + 1) k D1 L1 (by omega) hk f1 t1 hl KK
  have e8 : (100000000 : Int) = 10 ^ 8 := by decide
  have rest : ∀ (k : Nat) (i : Int) (D1 : Dat) (L1 : List Int), i = (k : Int) - 1 → (k < n ∨ k = 0) → txO 36 D D1 C (C + 723) → txD 36 D1 C (C + 723) L1 → L1.length + 9 * k ≤ 20000 →
      (∀ D2, txO 36 D D2 C (C + 723) → txD 36 D2 C (C + 723) (L1 ++ ptx (D (w + 1)) k) → E (.inl none) B S D2) →
      Wp P_X0_say_2 E 2 [some (aR C), some (aR w), some (aI i)] [] B S D1 := by
    intro k
    induction k with
    | zero =>
      intro i D1 L1 hi hk f1 t1 hl KK
      refine wp_in ?_
      simp only [P_X0_say_2, i_kil, i_icon, i_lcon, i_null, i_loadI, i_loadL, i_loadR, i_istore, i_lstore, i_astore, i_iinc, i_dup, i_dup2, i_pop, i_iadd, i_isub, i_imul, i_idiv, i_irem, i_ineg, i_iand, i_ior, i_ishl, i_ishr, i_lxor, i_ladd, i_lsub, i_lmul, i_ldiv, i_lrem, i_lneg, i_lshl, i_lcmp, i_i2l, i_l2i, i_i2b, i_i2s, i_ifeq, i_ifne, i_iflt, i_ifge, i_ifgt, i_ifle, i_cmpeq, i_cmpne, i_cmplt, i_cmpge, i_cmpgt, i_cmple, i_acmpeq, i_acmpne, i_ifnull, i_ifnonnull, i_getI, i_getR, i_putI, i_putZ, i_putR, i_ald, i_ldL, i_ldR, i_ast, i_stL, i_stR, i_alen, i_new, i_newa, i_iret, i_zret, i_lret, i_aret, i_vret, i_raise, i_throw, i_recv, i_objinit, i_tsw3, lget, lset, lput1, lput2, lkil, ltrim, largs, isL, takev, dropv, nthv, pushO, catv, gd, true_and, and_true, Option.some.injEq, Prod.mk.injEq, exists_eq_left', if_true, if_false, reduceCtorEq, Bool.false_eq_true, lcmp_ge, lcmp_lt, lcmp_le, lcmp_gt, lcmp_eq, true_or, or_true, not_true_eq_false, not_false_eq_true, false_implies, true_implies, List.length_cons, List.length_nil]
      refine ⟨fun _ => KK D1 f1 ?_, fun q => by omega⟩
      show txD 36 D1 C (C + 723) (L1 ++ [])
      rw [List.append_nil]; exact t1
    | succ k ih =>
      intro i D1 L1 hi hk f1 t1 hl KK
      have : i = k := by omega
      subst this
      have e1 : D1 w 1 = n := by rw [f1 _ _ (Or.inl (by omega)) (by omega)]; exact a1
      refine wp_in ?_
      simp only [P_X0_say_2, i_kil, i_icon, i_lcon, i_null, i_loadI, i_loadL, i_loadR, i_istore, i_lstore, i_astore, i_iinc, i_dup, i_dup2, i_pop, i_iadd, i_isub, i_imul, i_idiv, i_irem, i_ineg, i_iand, i_ior, i_ishl, i_ishr, i_lxor, i_ladd, i_lsub, i_lmul, i_ldiv, i_lrem, i_lneg, i_lshl, i_lcmp, i_i2l, i_l2i, i_i2b, i_i2s, i_ifeq, i_ifne, i_iflt, i_ifge, i_ifgt, i_ifle, i_cmpeq, i_cmpne, i_cmplt, i_cmpge, i_cmpgt, i_cmple, i_acmpeq, i_acmpne, i_ifnull, i_ifnonnull, i_getI, i_getR, i_putI, i_putZ, i_putR, i_ald, i_ldL, i_ldR, i_ast, i_stL, i_stR, i_alen, i_new, i_newa, i_iret, i_zret, i_lret, i_aret, i_vret, i_raise, i_throw, i_recv, i_objinit, i_tsw3, lget, lset, lput1, lput2, lkil, ltrim, largs, isL, takev, dropv, nthv, pushO, catv, gd, true_and, and_true, Option.some.injEq, Prod.mk.injEq, exists_eq_left', if_true, if_false, reduceCtorEq, Bool.false_eq_true, lcmp_ge, lcmp_lt, lcmp_le, lcmp_gt, lcmp_eq, true_or, or_true, not_true_eq_false, not_false_eq_true, false_implies, true_implies, List.length_cons, List.length_nil]
      refine ⟨fun q => by omega, fun _ => ?_⟩
      refine wp_in ?_
      simp only [P_X0_say_2, i_kil, i_icon, i_lcon, i_null, i_loadI, i_loadL, i_loadR, i_istore, i_lstore, i_astore, i_iinc, i_dup, i_dup2, i_pop, i_iadd, i_isub, i_imul, i_idiv, i_irem, i_ineg, i_iand, i_ior, i_ishl, i_ishr, i_lxor, i_ladd, i_lsub, i_lmul, i_ldiv, i_lrem, i_lneg, i_lshl, i_lcmp, i_i2l, i_l2i, i_i2b, i_i2s, i_ifeq, i_ifne, i_iflt, i_ifge, i_ifgt, i_ifle, i_cmpeq, i_cmpne, i_cmplt, i_cmpge, i_cmpgt, i_cmple, i_acmpeq, i_acmpne, i_ifnull, i_ifnonnull, i_getI, i_getR, i_putI, i_putZ, i_putR, i_ald, i_ldL, i_ldR, i_ast, i_stL, i_stR, i_alen, i_new, i_newa, i_iret, i_zret, i_lret, i_aret, i_vret, i_raise, i_throw, i_recv, i_objinit, i_tsw3, lget, lset, lput1, lput2, lkil, ltrim, largs, isL, takev, dropv, nthv, pushO, catv, gd, true_and, and_true, Option.some.injEq, Prod.mk.injEq, exists_eq_left', if_true, if_false, reduceCtorEq, Bool.false_eq_true, lcmp_ge, lcmp_lt, lcmp_le, lcmp_gt, lcmp_eq, true_or, or_true, not_true_eq_false, not_false_eq_true, false_implies, true_implies, List.length_cons, List.length_nil, w1, e1]
      refine ⟨in_small (by omega) (by omega), fun _ => ?_, fun q => by omega⟩
      rw [e8]
      refine four 8 k D1 L1 (by omega) (by omega) f1 t1 (by omega) fun D2 f2 t2 => ?_
      refine ih _ D2 _ (by omega) (Or.inl (by omega)) f2 t2 (by rw [List.length_append, dgs_len]; omega) fun D3 f3 t3 => KK D3 f3 ?_
      rw [List.append_assoc] at t3
      exact t3
  have top : ∀ (m j : Nat) (D1 : Dat) (L1 : List Int), n = m + 1 → j ≤ 8 → tl (D (w + 1) m) 9 = tl (D (w + 1) m) (j + 1) → txO 36 D D1 C (C + 723) → txD 36 D1 C (C + 723) L1 → L1.length + 9 * n ≤ 20000 →
      (∀ D2, txO 36 D D2 C (C + 723) → txD 36 D2 C (C + 723) (L1 ++ wtx (D (w + 1)) n) → E (.inl none) B S D2) →
      Wp P_X0_say_2 E 3 [some (aR C), some (aR w), some (aI (m : Int)), some (aI (10 ^ j))] [] B S D1 := by
    intro m j
    induction j with
    | zero =>
      intro D1 L1 hm hj htl f1 t1 hl KK
      have e1 : D1 w 1 = n := by rw [f1 _ _ (Or.inl (by omega)) (by omega)]; exact a1
      have h1 : tl (D (w + 1) m) 1 = 1 := by unfold tl; rw [if_neg (fun h => Nat.lt_irrefl 0 h.1)]
      rw [h1] at htl
      refine wp_in ?_
      simp only [P_X0_say_2, i_kil, i_icon, i_lcon, i_null, i_loadI, i_loadL, i_loadR, i_istore, i_lstore, i_astore, i_iinc, i_dup, i_dup2, i_pop, i_iadd, i_isub, i_imul, i_idiv, i_irem, i_ineg, i_iand, i_ior, i_ishl, i_ishr, i_lxor, i_ladd, i_lsub, i_lmul, i_ldiv, i_lrem, i_lneg, i_lshl, i_lcmp, i_i2l, i_l2i, i_i2b, i_i2s, i_ifeq, i_ifne, i_iflt, i_ifge, i_ifgt, i_ifle, i_cmpeq, i_cmpne, i_cmplt, i_cmpge, i_cmpgt, i_cmple, i_acmpeq, i_acmpne, i_ifnull, i_ifnonnull, i_getI, i_getR, i_putI, i_putZ, i_putR, i_ald, i_ldL, i_ldR, i_ast, i_stL, i_stR, i_alen, i_new, i_newa, i_iret, i_zret, i_lret, i_aret, i_vret, i_raise, i_throw, i_recv, i_objinit, i_tsw3, lget, lset, lput1, lput2, lkil, ltrim, largs, isL, takev, dropv, nthv, pushO, catv, gd, true_and, and_true, Option.some.injEq, Prod.mk.injEq, exists_eq_left', if_true, if_false, reduceCtorEq, Bool.false_eq_true, lcmp_ge, lcmp_lt, lcmp_le, lcmp_gt, lcmp_eq, true_or, or_true, not_true_eq_false, not_false_eq_true, false_implies, true_implies, List.length_cons, List.length_nil, w1, e1]
      refine ⟨in_small (by omega) (by omega), fun q => by omega, fun _ => ⟨fun _ => ?_, fun q => absurd q (by decide)⟩⟩
      refine four 0 m D1 L1 (by omega) (by omega) f1 t1 (by omega) fun D2 f2 t2 => ?_
      refine rest m _ D2 _ (by omega) (by omega) f2 t2 (by rw [List.length_append, dgs_len]; omega) fun D3 f3 t3 => KK D3 f3 ?_
      rw [hm]
      show txD 36 D3 C (C + 723) (L1 ++ (dgs (tl (D (w + 1) m) 9) (D (w + 1) m) ++ ptx (D (w + 1)) m))
      rw [htl]
      rw [List.append_assoc] at t3
      exact t3
    | succ j ih =>
      intro D1 L1 hm hj htl f1 t1 hl KK
      have e1 : D1 w 1 = n := by rw [f1 _ _ (Or.inl (by omega)) (by omega)]; exact a1
      have e2 : D1 (w + 1) m = D (w + 1) m := f1 _ _ (Or.inl (by omega)) (by omega)
      obtain ⟨b1, b2⟩ := a2.1 m (by omega) (by omega)
      obtain ⟨d1, d2, d3, d4, d5, d6⟩ := dig_at (j + 1) b1 b2
      have hd := ten_tdiv j
      have hp := ten_pos (j + 1)
      have hp0 := ten_pos j
      have hp2 := ten_le (j := j + 1) (by omega)
      have hp3 := ten_le (j := j) (by omega)
      have hbig : (1 : Int) < 10 ^ (j + 1) := by rw [Int.pow_succ]; omega
      have h1 : tl (D (w + 1) m) (j + 1 + 1) = if 0 < j + 1 ∧ D (w + 1) m / 10 ^ (j + 1) = 0 then tl (D (w + 1) m) (j + 1) else j + 1 + 1 := rfl
      refine wp_in ?_
      simp only [P_X0_say_2, i_kil, i_icon, i_lcon, i_null, i_loadI, i_loadL, i_loadR, i_istore, i_lstore, i_astore, i_iinc, i_dup, i_dup2, i_pop, i_iadd, i_isub, i_imul, i_idiv, i_irem, i_ineg, i_iand, i_ior, i_ishl, i_ishr, i_lxor, i_ladd, i_lsub, i_lmul, i_ldiv, i_lrem, i_lneg, i_lshl, i_lcmp, i_i2l, i_l2i, i_i2b, i_i2s, i_ifeq, i_ifne, i_iflt, i_ifge, i_ifgt, i_ifle, i_cmpeq, i_cmpne, i_cmplt, i_cmpge, i_cmpgt, i_cmple, i_acmpeq, i_acmpne, i_ifnull, i_ifnonnull, i_getI, i_getR, i_putI, i_putZ, i_putR, i_ald, i_ldL, i_ldR, i_ast, i_stL, i_stR, i_alen, i_new, i_newa, i_iret, i_zret, i_lret, i_aret, i_vret, i_raise, i_throw, i_recv, i_objinit, i_tsw3, lget, lset, lput1, lput2, lkil, ltrim, largs, isL, takev, dropv, nthv, pushO, catv, gd, true_and, and_true, Option.some.injEq, Prod.mk.injEq, exists_eq_left', if_true, if_false, reduceCtorEq, Bool.false_eq_true, lcmp_ge, lcmp_lt, lcmp_le, lcmp_gt, lcmp_eq, true_or, or_true, not_true_eq_false, not_false_eq_true, false_implies, true_implies, List.length_cons, List.length_nil, w1, w2, w3, e1, e2, d1]
      refine ⟨in_small (by omega) (by omega), fun q => by omega, fun _ => ⟨fun q => by omega, fun _ => ?_⟩⟩
      refine ⟨by omega, by omega, by omega, in_small (by omega) (by omega), fun q => ?_, fun q => ?_⟩
      · rw [if_neg (fun z => q z.2)] at h1
        refine four (j + 1) m D1 L1 (by omega) (by omega) f1 t1 (by omega) fun D2 f2 t2 => ?_
        refine rest m _ D2 _ (by omega) (by omega) f2 t2 (by rw [List.length_append, dgs_len]; omega) fun D3 f3 t3 => KK D3 f3 ?_
        rw [hm]
        show txD 36 D3 C (C + 723) (L1 ++ (dgs (tl (D (w + 1) m) 9) (D (w + 1) m) ++ ptx (D (w + 1)) m))
        rw [htl, h1]
        rw [List.append_assoc] at t3
        exact t3
      · have q0 : D (w + 1) m / 10 ^ (j + 1) = 0 := q
        rw [if_pos ⟨by omega, q0⟩] at h1
        rw [hd]
        repeat (first | refine ⟨in_small (by omega) (by omega), ?_⟩ | (show (_ → _) ∧ (_ → _); first | refine ⟨by omega, fun _ => ?_⟩ | refine ⟨fun _ => ?_, by omega⟩) | refine ⟨by omega, ?_⟩ | refine ⟨⟨_, rfl, by assumption⟩, ?_⟩ | refine ⟨okT_I _, ?_⟩ | refine call0 (gd_of rfl) ?_)
        exact ih D1 L1 hm (by omega) (by rw [htl, h1]) f1 t1 hl KK
  have one : ∀ (D1 : Dat) (L1 : List Int), txO 36 D D1 C (C + 723) → txD 36 D1 C (C + 723) L1 → (n = 0 ∧ L1 = L ++ [48] ∨ 0 < n ∧ L1 = L) → Wp P_X0_say_2 E 1 [some (aR C), some (aR w)] [] B S D1 := fun D1 L1 f1 t1 hh => by
    have e1 : D1 w 1 = n := by rw [f1 _ _ (Or.inl (by omega)) (by omega)]; exact a1
    refine wp_in ?_
    simp only [P_X0_say_2, i_kil, i_icon, i_lcon, i_null, i_loadI, i_loadL, i_loadR, i_istore, i_lstore, i_astore, i_iinc, i_dup, i_dup2, i_pop, i_iadd, i_isub, i_imul, i_idiv, i_irem, i_ineg, i_iand, i_ior, i_ishl, i_ishr, i_lxor, i_ladd, i_lsub, i_lmul, i_ldiv, i_lrem, i_lneg, i_lshl, i_lcmp, i_i2l, i_l2i, i_i2b, i_i2s, i_ifeq, i_ifne, i_iflt, i_ifge, i_ifgt, i_ifle, i_cmpeq, i_cmpne, i_cmplt, i_cmpge, i_cmpgt, i_cmple, i_acmpeq, i_acmpne, i_ifnull, i_ifnonnull, i_getI, i_getR, i_putI, i_putZ, i_putR, i_ald, i_ldL, i_ldR, i_ast, i_stL, i_stR, i_alen, i_new, i_newa, i_iret, i_zret, i_lret, i_aret, i_vret, i_raise, i_throw, i_recv, i_objinit, i_tsw3, lget, lset, lput1, lput2, lkil, ltrim, largs, isL, takev, dropv, nthv, pushO, catv, gd, true_and, and_true, Option.some.injEq, Prod.mk.injEq, exists_eq_left', if_true, if_false, reduceCtorEq, Bool.false_eq_true, lcmp_ge, lcmp_lt, lcmp_le, lcmp_gt, lcmp_eq, true_or, or_true, not_true_eq_false, not_false_eq_true, false_implies, true_implies, List.length_cons, List.length_nil, w1, e1]
    repeat (first | refine ⟨in_small (by omega) (by omega), ?_⟩ | (show (_ → _) ∧ (_ → _); first | refine ⟨by omega, fun _ => ?_⟩ | refine ⟨fun _ => ?_, by omega⟩) | refine ⟨by omega, ?_⟩ | refine ⟨⟨_, rfl, by assumption⟩, ?_⟩ | refine ⟨okT_I _, ?_⟩ | refine call0 (gd_of rfl) ?_)
    rcases hh with ⟨h1, h2⟩ | ⟨h1, h2⟩
    · refine rest 0 _ D1 L1 (by omega) (Or.inr rfl) f1 t1 (by rw [h2, List.length_append]; simp; omega) fun D2 f2 t2 => K D2 f2 ?_
      rw [h2] at t2
      rw [h1]
      rw [show ptx (D (w + 1)) 0 = [] from rfl, List.append_nil] at t2
      exact t2
    · obtain ⟨m, hm⟩ : ∃ m, n = m + 1 := ⟨n - 1, by omega⟩
      subst h2
      refine wp_in ?_
      simp only [P_X0_say_2, i_kil, i_icon, i_lcon, i_null, i_loadI, i_loadL, i_loadR, i_istore, i_lstore, i_astore, i_iinc, i_dup, i_dup2, i_pop, i_iadd, i_isub, i_imul, i_idiv, i_irem, i_ineg, i_iand, i_ior, i_ishl, i_ishr, i_lxor, i_ladd, i_lsub, i_lmul, i_ldiv, i_lrem, i_lneg, i_lshl, i_lcmp, i_i2l, i_l2i, i_i2b, i_i2s, i_ifeq, i_ifne, i_iflt, i_ifge, i_ifgt, i_ifle, i_cmpeq, i_cmpne, i_cmplt, i_cmpge, i_cmpgt, i_cmple, i_acmpeq, i_acmpne, i_ifnull, i_ifnonnull, i_getI, i_getR, i_putI, i_putZ, i_putR, i_ald, i_ldL, i_ldR, i_ast, i_stL, i_stR, i_alen, i_new, i_newa, i_iret, i_zret, i_lret, i_aret, i_vret, i_raise, i_throw, i_recv, i_objinit, i_tsw3, lget, lset, lput1, lput2, lkil, ltrim, largs, isL, takev, dropv, nthv, pushO, catv, gd, true_and, and_true, Option.some.injEq, Prod.mk.injEq, exists_eq_left', if_true, if_false, reduceCtorEq, Bool.false_eq_true, lcmp_ge, lcmp_lt, lcmp_le, lcmp_gt, lcmp_eq, true_or, or_true, not_true_eq_false, not_false_eq_true, false_implies, true_implies, List.length_cons, List.length_nil]
      refine ⟨fun q => by omega, fun _ => ?_⟩
      rw [e8, show (n : Int) - 1 = (m : Int) by omega]
      exact top m 8 D1 L1 hm (by omega) rfl f1 t1 (by omega) K
  refine wp_in ?_
  simp only [P_X0_say_2, i_kil, i_icon, i_lcon, i_null, i_loadI, i_loadL, i_loadR, i_istore, i_lstore, i_astore, i_iinc, i_dup, i_dup2, i_pop, i_iadd, i_isub, i_imul, i_idiv, i_irem, i_ineg, i_iand, i_ior, i_ishl, i_ishr, i_lxor, i_ladd, i_lsub, i_lmul, i_ldiv, i_lrem, i_lneg, i_lshl, i_lcmp, i_i2l, i_l2i, i_i2b, i_i2s, i_ifeq, i_ifne, i_iflt, i_ifge, i_ifgt, i_ifle, i_cmpeq, i_cmpne, i_cmplt, i_cmpge, i_cmpgt, i_cmple, i_acmpeq, i_acmpne, i_ifnull, i_ifnonnull, i_getI, i_getR, i_putI, i_putZ, i_putR, i_ald, i_ldL, i_ldR, i_ast, i_stL, i_stR, i_alen, i_new, i_newa, i_iret, i_zret, i_lret, i_aret, i_vret, i_raise, i_throw, i_recv, i_objinit, i_tsw3, lget, lset, lput1, lput2, lkil, ltrim, largs, isL, takev, dropv, nthv, pushO, catv, gd, true_and, and_true, Option.some.injEq, Prod.mk.injEq, exists_eq_left', if_true, if_false, reduceCtorEq, Bool.false_eq_true, lcmp_ge, lcmp_lt, lcmp_le, lcmp_gt, lcmp_eq, true_or, or_true, not_true_eq_false, not_false_eq_true, false_implies, true_implies, List.length_cons, List.length_nil, w1, a1, o]
  refine ⟨fun q => one D L (txO.refl _ _ _ _) h (Or.inr ⟨by omega, rfl⟩), fun q => ?_⟩
  repeat (first | refine ⟨in_small (by omega) (by omega), ?_⟩ | (show (_ → _) ∧ (_ → _); first | refine ⟨by omega, fun _ => ?_⟩ | refine ⟨fun _ => ?_, by omega⟩) | refine ⟨by omega, ?_⟩ | refine ⟨⟨_, rfl, by assumption⟩, ?_⟩ | refine ⟨okT_I _, ?_⟩ | refine call0 (gd_of rfl) ?_)
  refine sp_X0_say hS h (by omega) (by decide) (by decide) fun D1 f1 t1 => ?_
  simp only [P_X0_say_2, i_kil, i_icon, i_lcon, i_null, i_loadI, i_loadL, i_loadR, i_istore, i_lstore, i_astore, i_iinc, i_dup, i_dup2, i_pop, i_iadd, i_isub, i_imul, i_idiv, i_irem, i_ineg, i_iand, i_ior, i_ishl, i_ishr, i_lxor, i_ladd, i_lsub, i_lmul, i_ldiv, i_lrem, i_lneg, i_lshl, i_lcmp, i_i2l, i_l2i, i_i2b, i_i2s, i_ifeq, i_ifne, i_iflt, i_ifge, i_ifgt, i_ifle, i_cmpeq, i_cmpne, i_cmplt, i_cmpge, i_cmpgt, i_cmple, i_acmpeq, i_acmpne, i_ifnull, i_ifnonnull, i_getI, i_getR, i_putI, i_putZ, i_putR, i_ald, i_ldL, i_ldR, i_ast, i_stL, i_stR, i_alen, i_new, i_newa, i_iret, i_zret, i_lret, i_aret, i_vret, i_raise, i_throw, i_recv, i_objinit, i_tsw3, lget, lset, lput1, lput2, lkil, ltrim, largs, isL, takev, dropv, nthv, pushO, catv, gd, true_and, and_true, Option.some.injEq, Prod.mk.injEq, exists_eq_left', if_true, if_false, reduceCtorEq, Bool.false_eq_true, lcmp_ge, lcmp_lt, lcmp_le, lcmp_gt, lcmp_eq, true_or, or_true, not_true_eq_false, not_false_eq_true, false_implies, true_implies, List.length_cons, List.length_nil]
  exact one D1 _ f1 t1 (Or.inl ⟨by omega, rfl⟩)
theorem sp_X0_sayRatio {n d rn rd p q : Nat} {x y : Int} (hS : cxtS S C) (hn : wS 3 S n rn) (hd : wS 3 S d rd) (hx : wD 1 2 D n x) (hy : wD 1 2 D d y) (r1 : 1 ≤ p) (r2 : 1 ≤ q) (r3 : rn < 1000) (r4 : rd < 1000) (r5 : p ≤ rn) (r6 : q ≤ rd) (hz : (x.natAbs : Int) < 1000000000 ^ p) (hz2 : (y.natAbs : Int) < 1000000000 ^ q) (n1 : n + 1 < C ∨ C < n) (n2 : n + 1 < C + 723 ∨ C + 723 < n) (n3 : d + 1 < C ∨ C < d) (n4 : d + 1 < C + 723 ∨ C + 723 < d) (h : txD 36 D C (C + 723) L) (hL : L.length + 9 * p + 9 * q + 1 ≤ 20000)
    (K : ∀ D', txO 36 D D' C (C + 723) → txD 36 D' C (C + 723) (L ++ (zT x ++ if y = 1 then [] else 47 :: zT y)) → E (.inl none) B S D') : Wp P_X0_sayRatio E 0 [some (aR C), some (aR n), some (aR d)] [] B S D := by
  have o := hS.1
  have l1 := zT_len hx hz r1
  have v1 := hn.1
  have v2 := hd.1
  refine wp_in ?_
  simp only [P_X0_sayRatio, i_kil, i_icon, i_lcon, i_null, i_loadI, i_loadL, i_loadR, i_istore, i_lstore, i_astore, i_iinc, i_dup, i_dup2, i_pop, i_iadd, i_isub, i_imul, i_idiv, i_irem, i_ineg, i_iand, i_ior, i_ishl, i_ishr, i_lxor, i_ladd, i_lsub, i_lmul, i_ldiv, i_lrem, i_lneg, i_lshl, i_lcmp, i_i2l, i_l2i, i_i2b, i_i2s, i_ifeq, i_ifne, i_iflt, i_ifge, i_ifgt, i_ifle, i_cmpeq, i_cmpne, i_cmplt, i_cmpge, i_cmpgt, i_cmple, i_acmpeq, i_acmpne, i_ifnull, i_ifnonnull, i_getI, i_getR, i_putI, i_putZ, i_putR, i_ald, i_ldL, i_ldR, i_ast, i_stL, i_stR, i_alen, i_new, i_newa, i_iret, i_zret, i_lret, i_aret, i_vret, i_raise, i_throw, i_recv, i_objinit, i_tsw3, lget, lset, lput1, lput2, lkil, ltrim, largs, isL, takev, dropv, nthv, pushO, catv, gd, true_and, and_true, Option.some.injEq, Prod.mk.injEq, exists_eq_left', if_true, if_false, reduceCtorEq, Bool.false_eq_true, lcmp_ge, lcmp_lt, lcmp_le, lcmp_gt, lcmp_eq, true_or, or_true, not_true_eq_false, not_false_eq_true, false_implies, true_implies, List.length_cons, List.length_nil, o]
  repeat (first | refine ⟨in_small (by omega) (by omega), ?_⟩ | (show (_ → _) ∧ (_ → _); first | refine ⟨by omega, fun _ => ?_⟩ | refine ⟨fun _ => ?_, by omega⟩) | refine ⟨by omega, ?_⟩ | refine ⟨⟨_, rfl, by assumption⟩, ?_⟩ | refine ⟨okT_I _, ?_⟩ | refine call0 (gd_of rfl) ?_)
  refine sp_X0_say_2 hS hn hx r1 r5 r3 hz n1 n2 h (by omega) fun D1 f1 t1 => ?_
  have hd1 : wD 1 2 D1 d y := hy.congr (fun i => f1 _ i (Or.inl (by omega)) (by omega)) fun i => f1 _ i (Or.inl (by omega)) (by omega)
  simp only [P_X0_sayRatio, i_kil, i_icon, i_lcon, i_null, i_loadI, i_loadL, i_loadR, i_istore, i_lstore, i_astore, i_iinc, i_dup, i_dup2, i_pop, i_iadd, i_isub, i_imul, i_idiv, i_irem, i_ineg, i_iand, i_ior, i_ishl, i_ishr, i_lxor, i_ladd, i_lsub, i_lmul, i_ldiv, i_lrem, i_lneg, i_lshl, i_lcmp, i_i2l, i_l2i, i_i2b, i_i2s, i_ifeq, i_ifne, i_iflt, i_ifge, i_ifgt, i_ifle, i_cmpeq, i_cmpne, i_cmplt, i_cmpge, i_cmpgt, i_cmple, i_acmpeq, i_acmpne, i_ifnull, i_ifnonnull, i_getI, i_getR, i_putI, i_putZ, i_putR, i_ald, i_ldL, i_ldR, i_ast, i_stL, i_stR, i_alen, i_new, i_newa, i_iret, i_zret, i_lret, i_aret, i_vret, i_raise, i_throw, i_recv, i_objinit, i_tsw3, lget, lset, lput1, lput2, lkil, ltrim, largs, isL, takev, dropv, nthv, pushO, catv, gd, true_and, and_true, Option.some.injEq, Prod.mk.injEq, exists_eq_left', if_true, if_false, reduceCtorEq, Bool.false_eq_true, lcmp_ge, lcmp_lt, lcmp_le, lcmp_gt, lcmp_eq, true_or, or_true, not_true_eq_false, not_false_eq_true, false_implies, true_implies, List.length_cons, List.length_nil, v2]
  repeat (first | refine ⟨in_small (by omega) (by omega), ?_⟩ | (show (_ → _) ∧ (_ → _); first | refine ⟨by omega, fun _ => ?_⟩ | refine ⟨fun _ => ?_, by omega⟩) | refine ⟨by omega, ?_⟩ | refine ⟨⟨_, rfl, by assumption⟩, ?_⟩ | refine ⟨okT_I _, ?_⟩ | refine call0 (gd_of rfl) ?_)
  refine sp_X3_isOne hd hd1 (by omega) r4 ?_
  simp only [P_X0_sayRatio, i_kil, i_icon, i_lcon, i_null, i_loadI, i_loadL, i_loadR, i_istore, i_lstore, i_astore, i_iinc, i_dup, i_dup2, i_pop, i_iadd, i_isub, i_imul, i_idiv, i_irem, i_ineg, i_iand, i_ior, i_ishl, i_ishr, i_lxor, i_ladd, i_lsub, i_lmul, i_ldiv, i_lrem, i_lneg, i_lshl, i_lcmp, i_i2l, i_l2i, i_i2b, i_i2s, i_ifeq, i_ifne, i_iflt, i_ifge, i_ifgt, i_ifle, i_cmpeq, i_cmpne, i_cmplt, i_cmpge, i_cmpgt, i_cmple, i_acmpeq, i_acmpne, i_ifnull, i_ifnonnull, i_getI, i_getR, i_putI, i_putZ, i_putR, i_ald, i_ldL, i_ldR, i_ast, i_stL, i_stR, i_alen, i_new, i_newa, i_iret, i_zret, i_lret, i_aret, i_vret, i_raise, i_throw, i_recv, i_objinit, i_tsw3, lget, lset, lput1, lput2, lkil, ltrim, largs, isL, takev, dropv, nthv, pushO, catv, gd, true_and, and_true, Option.some.injEq, Prod.mk.injEq, exists_eq_left', if_true, if_false, reduceCtorEq, Bool.false_eq_true, lcmp_ge, lcmp_lt, lcmp_le, lcmp_gt, lcmp_eq, true_or, or_true, not_true_eq_false, not_false_eq_true, false_implies, true_implies, List.length_cons, List.length_nil, o]
  refine ⟨fun q => ?_, fun q => ?_⟩
  · have q1 : ¬ y = 1 := fun c => by rw [if_pos c] at q; exact absurd q (by decide)
    have e : L ++ (zT x ++ if y = 1 then [] else 47 :: zT y) = ((L ++ zT x) ++ [47]) ++ zT y := by
      rw [if_neg q1]
      simp
    rw [e] at K
    repeat (first | refine ⟨in_small (by omega) (by omega), ?_⟩ | (show (_ → _) ∧ (_ → _); first | refine ⟨by omega, fun _ => ?_⟩ | refine ⟨fun _ => ?_, by omega⟩) | refine ⟨by omega, ?_⟩ | refine ⟨⟨_, rfl, by assumption⟩, ?_⟩ | refine ⟨okT_I _, ?_⟩ | refine call0 (gd_of rfl) ?_)
    refine sp_X0_say hS t1 (by rw [List.length_append]; omega) (by decide) (by decide) fun D2 f2 t2 => ?_
    simp only [P_X0_sayRatio, i_kil, i_icon, i_lcon, i_null, i_loadI, i_loadL, i_loadR, i_istore, i_lstore, i_astore, i_iinc, i_dup, i_dup2, i_pop, i_iadd, i_isub, i_imul, i_idiv, i_irem, i_ineg, i_iand, i_ior, i_ishl, i_ishr, i_lxor, i_ladd, i_lsub, i_lmul, i_ldiv, i_lrem, i_lneg, i_lshl, i_lcmp, i_i2l, i_l2i, i_i2b, i_i2s, i_ifeq, i_ifne, i_iflt, i_ifge, i_ifgt, i_ifle, i_cmpeq, i_cmpne, i_cmplt, i_cmpge, i_cmpgt, i_cmple, i_acmpeq, i_acmpne, i_ifnull, i_ifnonnull, i_getI, i_getR, i_putI, i_putZ, i_putR, i_ald, i_ldL, i_ldR, i_ast, i_stL, i_stR, i_alen, i_new, i_newa, i_iret, i_zret, i_lret, i_aret, i_vret, i_raise, i_throw, i_recv, i_objinit, i_tsw3, lget, lset, lput1, lput2, lkil, ltrim, largs, isL, takev, dropv, nthv, pushO, catv, gd, true_and, and_true, Option.some.injEq, Prod.mk.injEq, exists_eq_left', if_true, if_false, reduceCtorEq, Bool.false_eq_true, lcmp_ge, lcmp_lt, lcmp_le, lcmp_gt, lcmp_eq, true_or, or_true, not_true_eq_false, not_false_eq_true, false_implies, true_implies, List.length_cons, List.length_nil, o]
    repeat (first | refine ⟨in_small (by omega) (by omega), ?_⟩ | (show (_ → _) ∧ (_ → _); first | refine ⟨by omega, fun _ => ?_⟩ | refine ⟨fun _ => ?_, by omega⟩) | refine ⟨by omega, ?_⟩ | refine ⟨⟨_, rfl, by assumption⟩, ?_⟩ | refine ⟨okT_I _, ?_⟩ | refine call0 (gd_of rfl) ?_)
    refine sp_X0_say_2 hS hd (hd1.congr (fun i => f2 _ i (Or.inl (by omega)) (by omega)) fun i => f2 _ i (Or.inl (by omega)) (by omega)) r2 r6 r4 hz2 n3 n4 t2 (by rw [List.length_append, List.length_append, List.length_singleton]; omega) fun D3 f3 t3 => ?_
    simp only [P_X0_sayRatio, i_kil, i_icon, i_lcon, i_null, i_loadI, i_loadL, i_loadR, i_istore, i_lstore, i_astore, i_iinc, i_dup, i_dup2, i_pop, i_iadd, i_isub, i_imul, i_idiv, i_irem, i_ineg, i_iand, i_ior, i_ishl, i_ishr, i_lxor, i_ladd, i_lsub, i_lmul, i_ldiv, i_lrem, i_lneg, i_lshl, i_lcmp, i_i2l, i_l2i, i_i2b, i_i2s, i_ifeq, i_ifne, i_iflt, i_ifge, i_ifgt, i_ifle, i_cmpeq, i_cmpne, i_cmplt, i_cmpge, i_cmpgt, i_cmple, i_acmpeq, i_acmpne, i_ifnull, i_ifnonnull, i_getI, i_getR, i_putI, i_putZ, i_putR, i_ald, i_ldL, i_ldR, i_ast, i_stL, i_stR, i_alen, i_new, i_newa, i_iret, i_zret, i_lret, i_aret, i_vret, i_raise, i_throw, i_recv, i_objinit, i_tsw3, lget, lset, lput1, lput2, lkil, ltrim, largs, isL, takev, dropv, nthv, pushO, catv, gd, true_and, and_true, Option.some.injEq, Prod.mk.injEq, exists_eq_left', if_true, if_false, reduceCtorEq, Bool.false_eq_true, lcmp_ge, lcmp_lt, lcmp_le, lcmp_gt, lcmp_eq, true_or, or_true, not_true_eq_false, not_false_eq_true, false_implies, true_implies, List.length_cons, List.length_nil, o]
    exact K D3 ((f1.trans f2).trans f3) t3
  · have q1 : y = 1 := Decidable.byContradiction fun c => q (if_neg c)
    rw [if_pos q1, List.append_nil] at K
    exact K D1 f1 t1
end CSY
