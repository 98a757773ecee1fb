/-! Whole: what its methods do -/
set_option maxRecDepth 100000
set_option linter.unusedVariables false
abbrev aR (a : Nat) : PV := .inr (.inr (some a))
abbrev aI (z : Int) : PV := .inl z
abbrev aL (z : Int) : PV := .inr (.inl z)
theorem in_small {z : Int} (h1 : -1000000000 ≤ z) (h2 : z ≤ 2000000000) : inI z := by unfold inI; omega
/-- leading noughts: the trimmed size -/
theorem dv_trim (f : Int → Int) (n : Nat) (h : f n = 0) : dv f (n + 1) = dv f n := by simp [dv, h]
theorem sp_X3_trim {E : Ex} {B : Nat × Nat} {S : Stat} {w r : Nat} (hw : wS 3 S w r) : ∀ (n : Nat) (D : Dat), D w 1 = n → n ≤ r → r < 1000 → dok (D (w + 1)) n →
    (∀ (D' : Dat) (m : Nat), (∀ a i, a ≠ w → D' a i = D a i) → m ≤ n → D' w 1 = m → dcan (D (w + 1)) m → dv (D (w + 1)) m = dv (D (w + 1)) n → D' w 2 = (if m = 0 then 0 else D w 2) → E (.inl none) B S D') →
    Wp P_X3_trim E 0 [some (aR w)] [] B S D := by
  obtain ⟨w1, w2, w3⟩ := hw
  intro n
  induction n with
  | zero =>
    intro D hn hr hr2 hd k
    have hn : D w 1 = 0 := hn
    refine wp_in ?_
    simp only [P_X3_trim, i_kil, i_icon, i_lcon, i_null, i_loadI, i_loadL, i_loadR, i_istore, i_lstore, i_astore, i_iinc, i_dup, i_dup2, i_pop, i_iadd, i_isub, i_imul, i_idiv, i_irem, i_ineg, i_iand, i_ior, i_ishl, i_ishr, i_lxor, i_ladd, i_lsub, i_lmul, i_ldiv, i_lrem, i_lneg, i_lshl, i_lcmp, i_i2l, i_l2i, i_i2b, i_i2s, i_ifeq, i_ifne, i_iflt, i_ifge, i_ifgt, i_ifle, i_cmpeq, i_cmpne, i_cmplt, i_cmpge, i_cmpgt, i_cmple, i_acmpeq, i_acmpne, i_ifnull, i_ifnonnull, i_getI, i_getR, i_putI, i_putZ, i_putR, i_ald, i_ldL, i_ldR, i_ast, i_stL, i_stR, i_alen, i_new, i_newa, i_iret, i_zret, i_lret, i_aret, i_vret, i_raise, i_throw, i_recv, i_objinit, i_tsw3, lget, lset, lput1, lput2, lkil, ltrim, largs, isL, takev, dropv, nthv, pushO, catv, gd, true_and, and_true, Option.some.injEq, Prod.mk.injEq, exists_eq_left', if_true, if_false, reduceCtorEq, Bool.false_eq_true, lcmp_ge, lcmp_lt, lcmp_le, lcmp_gt, lcmp_eq, true_or, or_true, not_true_eq_false, not_false_eq_true, false_implies, true_implies, List.length_cons, List.length_nil, w1, w2, w3, hn]
    refine ⟨fun _ => wp_in ?_, fun h => by omega⟩
    simp only [P_X3_trim, i_kil, i_icon, i_lcon, i_null, i_loadI, i_loadL, i_loadR, i_istore, i_lstore, i_astore, i_iinc, i_dup, i_dup2, i_pop, i_iadd, i_isub, i_imul, i_idiv, i_irem, i_ineg, i_iand, i_ior, i_ishl, i_ishr, i_lxor, i_ladd, i_lsub, i_lmul, i_ldiv, i_lrem, i_lneg, i_lshl, i_lcmp, i_i2l, i_l2i, i_i2b, i_i2s, i_ifeq, i_ifne, i_iflt, i_ifge, i_ifgt, i_ifle, i_cmpeq, i_cmpne, i_cmplt, i_cmpge, i_cmpgt, i_cmple, i_acmpeq, i_acmpne, i_ifnull, i_ifnonnull, i_getI, i_getR, i_putI, i_putZ, i_putR, i_ald, i_ldL, i_ldR, i_ast, i_stL, i_stR, i_alen, i_new, i_newa, i_iret, i_zret, i_lret, i_aret, i_vret, i_raise, i_throw, i_recv, i_objinit, i_tsw3, lget, lset, lput1, lput2, lkil, ltrim, largs, isL, takev, dropv, nthv, pushO, catv, gd, true_and, and_true, Option.some.injEq, Prod.mk.injEq, exists_eq_left', if_true, if_false, reduceCtorEq, Bool.false_eq_true, lcmp_ge, lcmp_lt, lcmp_le, lcmp_gt, lcmp_eq, true_or, or_true, not_true_eq_false, not_false_eq_true, false_implies, true_implies, List.length_cons, List.length_nil, w1, w2, w3, hn]
    refine wp_in ?_
    simp only [P_X3_trim, i_kil, i_icon, i_lcon, i_null, i_loadI, i_loadL, i_loadR, i_istore, i_lstore, i_astore, i_iinc, i_dup, i_dup2, i_pop, i_iadd, i_isub, i_imul, i_idiv, i_irem, i_ineg, i_iand, i_ior, i_ishl, i_ishr, i_lxor, i_ladd, i_lsub, i_lmul, i_ldiv, i_lrem, i_lneg, i_lshl, i_lcmp, i_i2l, i_l2i, i_i2b, i_i2s, i_ifeq, i_ifne, i_iflt, i_ifge, i_ifgt, i_ifle, i_cmpeq, i_cmpne, i_cmplt, i_cmpge, i_cmpgt, i_cmple, i_acmpeq, i_acmpne, i_ifnull, i_ifnonnull, i_getI, i_getR, i_putI, i_putZ, i_putR, i_ald, i_ldL, i_ldR, i_ast, i_stL, i_stR, i_alen, i_new, i_newa, i_iret, i_zret, i_lret, i_aret, i_vret, i_raise, i_throw, i_recv, i_objinit, i_tsw3, lget, lset, lput1, lput2, lkil, ltrim, largs, isL, takev, dropv, nthv, pushO, catv, gd, true_and, and_true, Option.some.injEq, Prod.mk.injEq, exists_eq_left', if_true, if_false, reduceCtorEq, Bool.false_eq_true, lcmp_ge, lcmp_lt, lcmp_le, lcmp_gt, lcmp_eq, true_or, or_true, not_true_eq_false, not_false_eq_true, false_implies, true_implies, List.length_cons, List.length_nil, w1, w2, w3, hn]
    exact k _ 0 (fun a i ha => by simp [pmu, ha]) (Nat.le_refl 0) (by simp [pmu, hn]) ⟨hd, fun h => absurd h (Nat.lt_irrefl 0)⟩ rfl (by simp [pmu])
  | succ n ih =>
    intro D hn hr hr2 hd k
    have hn1 : D w 1 - 1 = n := by omega
    refine wp_in ?_
    simp only [P_X3_trim, i_kil, i_icon, i_lcon, i_null, i_loadI, i_loadL, i_loadR, i_istore, i_lstore, i_astore, i_iinc, i_dup, i_dup2, i_pop, i_iadd, i_isub, i_imul, i_idiv, i_irem, i_ineg, i_iand, i_ior, i_ishl, i_ishr, i_lxor, i_ladd, i_lsub, i_lmul, i_ldiv, i_lrem, i_lneg, i_lshl, i_lcmp, i_i2l, i_l2i, i_i2b, i_i2s, i_ifeq, i_ifne, i_iflt, i_ifge, i_ifgt, i_ifle, i_cmpeq, i_cmpne, i_cmplt, i_cmpge, i_cmpgt, i_cmple, i_acmpeq, i_acmpne, i_ifnull, i_ifnonnull, i_getI, i_getR, i_putI, i_putZ, i_putR, i_ald, i_ldL, i_ldR, i_ast, i_stL, i_stR, i_alen, i_new, i_newa, i_iret, i_zret, i_lret, i_aret, i_vret, i_raise, i_throw, i_recv, i_objinit, i_tsw3, lget, lset, lput1, lput2, lkil, ltrim, largs, isL, takev, dropv, nthv, pushO, catv, gd, true_and, and_true, Option.some.injEq, Prod.mk.injEq, exists_eq_left', if_true, if_false, reduceCtorEq, Bool.false_eq_true, lcmp_ge, lcmp_lt, lcmp_le, lcmp_gt, lcmp_eq, true_or, or_true, not_true_eq_false, not_false_eq_true, false_implies, true_implies, List.length_cons, List.length_nil, w1, w2, w3, hn1]
    refine ⟨fun h => by omega, fun _ => ⟨in_small (by omega) (by omega), by omega, by omega, fun h => wp_in ?_, fun h => ⟨in_small (by omega) (by omega), ?_⟩⟩⟩
    · simp only [P_X3_trim, i_kil, i_icon, i_lcon, i_null, i_loadI, i_loadL, i_loadR, i_istore, i_lstore, i_astore, i_iinc, i_dup, i_dup2, i_pop, i_iadd, i_isub, i_imul, i_idiv, i_irem, i_ineg, i_iand, i_ior, i_ishl, i_ishr, i_lxor, i_ladd, i_lsub, i_lmul, i_ldiv, i_lrem, i_lneg, i_lshl, i_lcmp, i_i2l, i_l2i, i_i2b, i_i2s, i_ifeq, i_ifne, i_iflt, i_ifge, i_ifgt, i_ifle, i_cmpeq, i_cmpne, i_cmplt, i_cmpge, i_cmpgt, i_cmple, i_acmpeq, i_acmpne, i_ifnull, i_ifnonnull, i_getI, i_getR, i_putI, i_putZ, i_putR, i_ald, i_ldL, i_ldR, i_ast, i_stL, i_stR, i_alen, i_new, i_newa, i_iret, i_zret, i_lret, i_aret, i_vret, i_raise, i_throw, i_recv, i_objinit, i_tsw3, lget, lset, lput1, lput2, lkil, ltrim, largs, isL, takev, dropv, nthv, pushO, catv, gd, true_and, and_true, Option.some.injEq, Prod.mk.injEq, exists_eq_left', if_true, if_false, reduceCtorEq, Bool.false_eq_true, lcmp_ge, lcmp_lt, lcmp_le, lcmp_gt, lcmp_eq, true_or, or_true, not_true_eq_false, not_false_eq_true, false_implies, true_implies, List.length_cons, List.length_nil, w1, w2, w3]
      refine ⟨fun h1 => wp_in ?_, fun h1 => by omega⟩
      simp only [P_X3_trim, i_kil, i_icon, i_lcon, i_null, i_loadI, i_loadL, i_loadR, i_istore, i_lstore, i_astore, i_iinc, i_dup, i_dup2, i_pop, i_iadd, i_isub, i_imul, i_idiv, i_irem, i_ineg, i_iand, i_ior, i_ishl, i_ishr, i_lxor, i_ladd, i_lsub, i_lmul, i_ldiv, i_lrem, i_lneg, i_lshl, i_lcmp, i_i2l, i_l2i, i_i2b, i_i2s, i_ifeq, i_ifne, i_iflt, i_ifge, i_ifgt, i_ifle, i_cmpeq, i_cmpne, i_cmplt, i_cmpge, i_cmpgt, i_cmple, i_acmpeq, i_acmpne, i_ifnull, i_ifnonnull, i_getI, i_getR, i_putI, i_putZ, i_putR, i_ald, i_ldL, i_ldR, i_ast, i_stL, i_stR, i_alen, i_new, i_newa, i_iret, i_zret, i_lret, i_aret, i_vret, i_raise, i_throw, i_recv, i_objinit, i_tsw3, lget, lset, lput1, lput2, lkil, ltrim, largs, isL, takev, dropv, nthv, pushO, catv, gd, true_and, and_true, Option.some.injEq, Prod.mk.injEq, exists_eq_left', if_true, if_false, reduceCtorEq, Bool.false_eq_true, lcmp_ge, lcmp_lt, lcmp_le, lcmp_gt, lcmp_eq, true_or, or_true, not_true_eq_false, not_false_eq_true, false_implies, true_implies, List.length_cons, List.length_nil, w1, w2, w3]
      exact k D (n + 1) (fun _ _ _ => rfl) (Nat.le_refl _) hn ⟨hd, fun _ => by rw [show ((n + 1 : Nat) : Int) - 1 = n by omega]; exact h⟩ rfl (by simp)
    · refine ih _ (by simp [pmu]) (by omega) hr2 ?_ ?_
      · have e : pmu D w 1 (n : Int) (w + 1) = D (w + 1) := by funext i; simp [pmu]
        rw [e]; exact hd.mono (Nat.le_succ n)
      · intro D' m g1 g2 g3 g4 g5 g6
        have e : pmu D w 1 (n : Int) (w + 1) = D (w + 1) := by funext i; simp [pmu]
        rw [e] at g4 g5
        exact k D' m (fun a i ha => by rw [g1 a i ha]; simp [pmu, ha]) (by omega) g3 g4 (by rw [g5, dv_trim _ _ h]) (by rw [g6]; simp [pmu])
theorem sp_X3_isOne {E : Ex} {B : Nat × Nat} {S : Stat} {D : Dat} {w r : Nat} {z : Int} (hw : wS 3 S w r) (hz : wD 1 2 D w z) (hr : 1 ≤ r) (hr2 : r < 1000)
    (k : E (.inl (some (.inl (if z = 1 then 1 else 0)))) B S D) : Wp P_X3_isOne E 0 [some (aR w)] [] B S D := by
  obtain ⟨w1, w2, w3⟩ := hw
  obtain ⟨n, a1, a2, a3, a4⟩ := hz
  have no : ¬ z = 1 → Wp P_X3_isOne E 1 [] [] B S D := fun h => by
    refine wp_in ?_
    simp only [P_X3_isOne, i_kil, i_icon, i_lcon, i_null, i_loadI, i_loadL, i_loadR, i_istore, i_lstore, i_astore, i_iinc, i_dup, i_dup2, i_pop, i_iadd, i_isub, i_imul, i_idiv, i_irem, i_ineg, i_iand, i_ior, i_ishl, i_ishr, i_lxor, i_ladd, i_lsub, i_lmul, i_ldiv, i_lrem, i_lneg, i_lshl, i_lcmp, i_i2l, i_l2i, i_i2b, i_i2s, i_ifeq, i_ifne, i_iflt, i_ifge, i_ifgt, i_ifle, i_cmpeq, i_cmpne, i_cmplt, i_cmpge, i_cmpgt, i_cmple, i_acmpeq, i_acmpne, i_ifnull, i_ifnonnull, i_getI, i_getR, i_putI, i_putZ, i_putR, i_ald, i_ldL, i_ldR, i_ast, i_stL, i_stR, i_alen, i_new, i_newa, i_iret, i_zret, i_lret, i_aret, i_vret, i_raise, i_throw, i_recv, i_objinit, i_tsw3, lget, lset, lput1, lput2, lkil, ltrim, largs, isL, takev, dropv, nthv, pushO, catv, gd, true_and, and_true, Option.some.injEq, Prod.mk.injEq, exists_eq_left', if_true, if_false, reduceCtorEq, Bool.false_eq_true, lcmp_ge, lcmp_lt, lcmp_le, lcmp_gt, lcmp_eq, true_or, or_true, not_true_eq_false, not_false_eq_true, false_implies, true_implies, List.length_cons, List.length_nil]
    refine wp_in ?_
    simp only [P_X3_isOne, i_kil, i_icon, i_lcon, i_null, i_loadI, i_loadL, i_loadR, i_istore, i_lstore, i_astore, i_iinc, i_dup, i_dup2, i_pop, i_iadd, i_isub, i_imul, i_idiv, i_irem, i_ineg, i_iand, i_ior, i_ishl, i_ishr, i_lxor, i_ladd, i_lsub, i_lmul, i_ldiv, i_lrem, i_lneg, i_lshl, i_lcmp, i_i2l, i_l2i, i_i2b, i_i2s, i_ifeq, i_ifne, i_iflt, i_ifge, i_ifgt, i_ifle, i_cmpeq, i_cmpne, i_cmplt, i_cmpge, i_cmpgt, i_cmple, i_acmpeq, i_acmpne, i_ifnull, i_ifnonnull, i_getI, i_getR, i_putI, i_putZ, i_putR, i_ald, i_ldL, i_ldR, i_ast, i_stL, i_stR, i_alen, i_new, i_newa, i_iret, i_zret, i_lret, i_aret, i_vret, i_raise, i_throw, i_recv, i_objinit, i_tsw3, lget, lset, lput1, lput2, lkil, ltrim, largs, isL, takev, dropv, nthv, pushO, catv, gd, true_and, and_true, Option.some.injEq, Prod.mk.injEq, exists_eq_left', if_true, if_false, reduceCtorEq, Bool.false_eq_true, lcmp_ge, lcmp_lt, lcmp_le, lcmp_gt, lcmp_eq, true_or, or_true, not_true_eq_false, not_false_eq_true, false_implies, true_implies, List.length_cons, List.length_nil]
    rw [if_neg h] at k
    exact k
  refine wp_in ?_
  simp only [P_X3_isOne, i_kil, i_icon, i_lcon, i_null, i_loadI, i_loadL, i_loadR, i_istore, i_lstore, i_astore, i_iinc, i_dup, i_dup2, i_pop, i_iadd, i_isub, i_imul, i_idiv, i_irem, i_ineg, i_iand, i_ior, i_ishl, i_ishr, i_lxor, i_ladd, i_lsub, i_lmul, i_ldiv, i_lrem, i_lneg, i_lshl, i_lcmp, i_i2l, i_l2i, i_i2b, i_i2s, i_ifeq, i_ifne, i_iflt, i_ifge, i_ifgt, i_ifle, i_cmpeq, i_cmpne, i_cmplt, i_cmpge, i_cmpgt, i_cmple, i_acmpeq, i_acmpne, i_ifnull, i_ifnonnull, i_getI, i_getR, i_putI, i_putZ, i_putR, i_ald, i_ldL, i_ldR, i_ast, i_stL, i_stR, i_alen, i_new, i_newa, i_iret, i_zret, i_lret, i_aret, i_vret, i_raise, i_throw, i_recv, i_objinit, i_tsw3, lget, lset, lput1, lput2, lkil, ltrim, largs, isL, takev, dropv, nthv, pushO, catv, gd, true_and, and_true, Option.some.injEq, Prod.mk.injEq, exists_eq_left', if_true, if_false, reduceCtorEq, Bool.false_eq_true, lcmp_ge, lcmp_lt, lcmp_le, lcmp_gt, lcmp_eq, true_or, or_true, not_true_eq_false, not_false_eq_true, false_implies, true_implies, List.length_cons, List.length_nil, w1, w2, w3, a1, a3]
  refine ⟨fun h => no fun q => h (by rw [q]; rfl), fun h => ⟨fun h1 => no fun q => ?_, fun h1 => ⟨by omega, by omega, fun h2 => no fun q => ?_, fun h2 => wp_in ?_⟩⟩⟩
  · subst q
    have h3 : dv (D (w + 1)) n = 1 := by rw [← a4]; rfl
    have h4 := a2.size_le (r := 1) (by rw [h3]; decide)
    have h5 : n ≠ 0 := fun q => by subst q; simp [dv] at h3
    exact h1 (by omega)
  · subst q
    have hn1 : n = 1 := by omega
    subst hn1
    simp [dv] at a4
    exact h2 a4.symm
  · simp only [P_X3_isOne, i_kil, i_icon, i_lcon, i_null, i_loadI, i_loadL, i_loadR, i_istore, i_lstore, i_astore, i_iinc, i_dup, i_dup2, i_pop, i_iadd, i_isub, i_imul, i_idiv, i_irem, i_ineg, i_iand, i_ior, i_ishl, i_ishr, i_lxor, i_ladd, i_lsub, i_lmul, i_ldiv, i_lrem, i_lneg, i_lshl, i_lcmp, i_i2l, i_l2i, i_i2b, i_i2s, i_ifeq, i_ifne, i_iflt, i_ifge, i_ifgt, i_ifle, i_cmpeq, i_cmpne, i_cmplt, i_cmpge, i_cmpgt, i_cmple, i_acmpeq, i_acmpne, i_ifnull, i_ifnonnull, i_getI, i_getR, i_putI, i_putZ, i_putR, i_ald, i_ldL, i_ldR, i_ast, i_stL, i_stR, i_alen, i_new, i_newa, i_iret, i_zret, i_lret, i_aret, i_vret, i_raise, i_throw, i_recv, i_objinit, i_tsw3, lget, lset, lput1, lput2, lkil, ltrim, largs, isL, takev, dropv, nthv, pushO, catv, gd, true_and, and_true, Option.some.injEq, Prod.mk.injEq, exists_eq_left', if_true, if_false, reduceCtorEq, Bool.false_eq_true, lcmp_ge, lcmp_lt, lcmp_le, lcmp_gt, lcmp_eq, true_or, or_true, not_true_eq_false, not_false_eq_true, false_implies, true_implies, List.length_cons, List.length_nil]
    have hn1 : n = 1 := by omega
    subst hn1
    simp [dv, h2] at a4
    have hz1 : z = 1 := by rcases sgn_cases z with q | q | q <;> omega
    rw [if_pos hz1] at k
    exact k
theorem sp_X3_be {E : Ex} {B : Nat × Nat} {S : Stat} {D : Dat} {w o n m : Nat} {z : Int} (hw : wS 3 S w n) (ho : wS 3 S o m) (hne : w ≠ o) (hz : wD 1 2 D o z) (hn : (z.natAbs : Int) < 1000000000 ^ n) (hm : (z.natAbs : Int) < 1000000000 ^ m) (hn2 : n < 1000)
    (k : ∀ D' : Dat, wO D D' w → wD 1 2 D' w z → E (.inl none) B S D') :
    Wp P_X3_be E 0 [some (aR w), some (aR o)] [] B S D := by
  obtain ⟨c1, c2, c3⟩ := wS.apart (by decide) (by decide) ho hw (Ne.symm hne)
  obtain ⟨w1, w2, w3⟩ := hw
  obtain ⟨o1, o2, o3⟩ := ho
  obtain ⟨q, a1, a2, a3, a4⟩ := hz
  have hqn : q ≤ n := a2.size_le (by rw [← a4]; exact hn)
  have hqm : q ≤ m := a2.size_le (by rw [← a4]; exact hm)
  have loop : ∀ (N : Nat) (j : Int) (D' : Dat), 0 ≤ j → j + N = q → (∀ a i, a ≠ w + 1 → D' a i = D a i) → (∀ i, 0 ≤ i → i < j → D' (w + 1) i = D (o + 1) i) →
      Wp P_X3_be E 1 [some (aR w), some (aR o), some (aI j)] [] B S D' := by
    intro N
    induction N with
    | zero =>
      intro j D' hj hs hk hd
      refine wp_in ?_
      simp only [P_X3_be, i_kil, i_icon, i_lcon, i_null, i_loadI, i_loadL, i_loadR, i_istore, i_lstore, i_astore, i_iinc, i_dup, i_dup2, i_pop, i_iadd, i_isub, i_imul, i_idiv, i_irem, i_ineg, i_iand, i_ior, i_ishl, i_ishr, i_lxor, i_ladd, i_lsub, i_lmul, i_ldiv, i_lrem, i_lneg, i_lshl, i_lcmp, i_i2l, i_l2i, i_i2b, i_i2s, i_ifeq, i_ifne, i_iflt, i_ifge, i_ifgt, i_ifle, i_cmpeq, i_cmpne, i_cmplt, i_cmpge, i_cmpgt, i_cmple, i_acmpeq, i_acmpne, i_ifnull, i_ifnonnull, i_getI, i_getR, i_putI, i_putZ, i_putR, i_ald, i_ldL, i_ldR, i_ast, i_stL, i_stR, i_alen, i_new, i_newa, i_iret, i_zret, i_lret, i_aret, i_vret, i_raise, i_throw, i_recv, i_objinit, i_tsw3, lget, lset, lput1, lput2, lkil, ltrim, largs, isL, takev, dropv, nthv, pushO, catv, gd, true_and, and_true, Option.some.injEq, Prod.mk.injEq, exists_eq_left', if_true, if_false, reduceCtorEq, Bool.false_eq_true, lcmp_ge, lcmp_lt, lcmp_le, lcmp_gt, lcmp_eq, true_or, or_true, not_true_eq_false, not_false_eq_true, false_implies, true_implies, List.length_cons, List.length_nil, o1, w1, hk o 1 c1, a1]
      refine ⟨fun h => ?_, fun h => by omega⟩
      refine k _ ?_ ?_
      · intro a i ha hb; simp [pmu, ha, hk a i hb]
      · refine wD.of (n := q) (g := D (o + 1)) (by simp [pmu]) (by simp [pmu, hk o 2 c1, a3, Ne.symm hne]) (fun i h0 h1 => ?_) a2 a4
        simp [pmu, hd i h0 (by omega)]
    | succ N ih =>
      intro j D' hj hs hk hd
      refine wp_in ?_
      simp only [P_X3_be, i_kil, i_icon, i_lcon, i_null, i_loadI, i_loadL, i_loadR, i_istore, i_lstore, i_astore, i_iinc, i_dup, i_dup2, i_pop, i_iadd, i_isub, i_imul, i_idiv, i_irem, i_ineg, i_iand, i_ior, i_ishl, i_ishr, i_lxor, i_ladd, i_lsub, i_lmul, i_ldiv, i_lrem, i_lneg, i_lshl, i_lcmp, i_i2l, i_l2i, i_i2b, i_i2s, i_ifeq, i_ifne, i_iflt, i_ifge, i_ifgt, i_ifle, i_cmpeq, i_cmpne, i_cmplt, i_cmpge, i_cmpgt, i_cmple, i_acmpeq, i_acmpne, i_ifnull, i_ifnonnull, i_getI, i_getR, i_putI, i_putZ, i_putR, i_ald, i_ldL, i_ldR, i_ast, i_stL, i_stR, i_alen, i_new, i_newa, i_iret, i_zret, i_lret, i_aret, i_vret, i_raise, i_throw, i_recv, i_objinit, i_tsw3, lget, lset, lput1, lput2, lkil, ltrim, largs, isL, takev, dropv, nthv, pushO, catv, gd, true_and, and_true, Option.some.injEq, Prod.mk.injEq, exists_eq_left', if_true, if_false, reduceCtorEq, Bool.false_eq_true, lcmp_ge, lcmp_lt, lcmp_le, lcmp_gt, lcmp_eq, true_or, or_true, not_true_eq_false, not_false_eq_true, false_implies, true_implies, List.length_cons, List.length_nil, o1, o2, o3, w1, w2, w3, hk o 1 c1, a1]
      refine ⟨fun h => by omega, fun h => ⟨hj, by omega, hj, by omega, by simp [okT], in_small (by omega) (by omega), ?_⟩⟩
      refine ih _ _ (by omega) (by omega) ?_ ?_
      · intro a i ha; simp [pmu, ha, hk a i ha]
      · intro i hi hlt
        simp only [pmu, true_and]
        split
        · subst_vars; exact hk _ _ (by omega)
        · exact hd i hi (by omega)
  refine wp_in ?_
  simp only [P_X3_be, i_kil, i_icon, i_lcon, i_null, i_loadI, i_loadL, i_loadR, i_istore, i_lstore, i_astore, i_iinc, i_dup, i_dup2, i_pop, i_iadd, i_isub, i_imul, i_idiv, i_irem, i_ineg, i_iand, i_ior, i_ishl, i_ishr, i_lxor, i_ladd, i_lsub, i_lmul, i_ldiv, i_lrem, i_lneg, i_lshl, i_lcmp, i_i2l, i_l2i, i_i2b, i_i2s, i_ifeq, i_ifne, i_iflt, i_ifge, i_ifgt, i_ifle, i_cmpeq, i_cmpne, i_cmplt, i_cmpge, i_cmpgt, i_cmple, i_acmpeq, i_acmpne, i_ifnull, i_ifnonnull, i_getI, i_getR, i_putI, i_putZ, i_putR, i_ald, i_ldL, i_ldR, i_ast, i_stL, i_stR, i_alen, i_new, i_newa, i_iret, i_zret, i_lret, i_aret, i_vret, i_raise, i_throw, i_recv, i_objinit, i_tsw3, lget, lset, lput1, lput2, lkil, ltrim, largs, isL, takev, dropv, nthv, pushO, catv, gd, true_and, and_true, Option.some.injEq, Prod.mk.injEq, exists_eq_left', if_true, if_false, reduceCtorEq, Bool.false_eq_true, lcmp_ge, lcmp_lt, lcmp_le, lcmp_gt, lcmp_eq, true_or, or_true, not_true_eq_false, not_false_eq_true, false_implies, true_implies, List.length_cons, List.length_nil]
  exact loop q 0 D (Int.le_refl _) (by omega) (fun _ _ _ => rfl) (fun i h1 h2 => by omega)
theorem sp_X3_set {E : Ex} {B : Nat × Nat} {S : Stat} {D : Dat} {w r : Nat} {v : Int} (hw : wS 3 S w r) (hr : 3 ≤ r) (hr2 : r < 1000) (hv : -9223372036854775807 ≤ v ∧ v ≤ 9223372036854775807)
    (k : ∀ D' : Dat, wO D D' w → wD 1 2 D' w v → E (.inl none) B S D') : Wp P_X3_set E 0 [some (aR w), some (aL v), none] [] B S D := by
  obtain ⟨w1, w2, w3⟩ := hw
  have loop : ∀ (N j : Nat) (rest : Int) (D' : Dat), 0 ≤ rest → rest < 1000000000 ^ N → j + N = 3 → (∀ a i, a ≠ w → a ≠ w + 1 → D' a i = D a i) → D' w 1 = j → D' w 2 = Int.sign v → dok (D' (w + 1)) j → dv (D' (w + 1)) j + rest * 1000000000 ^ j = v.natAbs → (rest = 0 → dcan (D' (w + 1)) j) →
      Wp P_X3_set E 3 [some (aR w), none, none, some (aL rest)] [] B S D' := by
    intro N
    induction N with
    | zero =>
      intro j rest D' h0 h1 hj hk ha hb hc hd he
      have hr0 : rest = 0 := by simp at h1; omega
      subst hr0
      refine wp_in ?_
      simp only [P_X3_set, i_kil, i_icon, i_lcon, i_null, i_loadI, i_loadL, i_loadR, i_istore, i_lstore, i_astore, i_iinc, i_dup, i_dup2, i_pop, i_iadd, i_isub, i_imul, i_idiv, i_irem, i_ineg, i_iand, i_ior, i_ishl, i_ishr, i_lxor, i_ladd, i_lsub, i_lmul, i_ldiv, i_lrem, i_lneg, i_lshl, i_lcmp, i_i2l, i_l2i, i_i2b, i_i2s, i_ifeq, i_ifne, i_iflt, i_ifge, i_ifgt, i_ifle, i_cmpeq, i_cmpne, i_cmplt, i_cmpge, i_cmpgt, i_cmple, i_acmpeq, i_acmpne, i_ifnull, i_ifnonnull, i_getI, i_getR, i_putI, i_putZ, i_putR, i_ald, i_ldL, i_ldR, i_ast, i_stL, i_stR, i_alen, i_new, i_newa, i_iret, i_zret, i_lret, i_aret, i_vret, i_raise, i_throw, i_recv, i_objinit, i_tsw3, lget, lset, lput1, lput2, lkil, ltrim, largs, isL, takev, dropv, nthv, pushO, catv, gd, true_and, and_true, Option.some.injEq, Prod.mk.injEq, exists_eq_left', if_true, if_false, reduceCtorEq, Bool.false_eq_true, lcmp_ge, lcmp_lt, lcmp_le, lcmp_gt, lcmp_eq, true_or, or_true, not_true_eq_false, not_false_eq_true, false_implies, true_implies, List.length_cons, List.length_nil, w1, w2, w3]
      refine ⟨fun _ => k _ hk (wD.of ha hb (fun _ _ _ => rfl) (he rfl) (by omega)), fun h => by omega⟩
    | succ N ih =>
      intro j rest D' h0 h1 hj hk ha hb hc hd he
      refine wp_in ?_
      simp only [P_X3_set, i_kil, i_icon, i_lcon, i_null, i_loadI, i_loadL, i_loadR, i_istore, i_lstore, i_astore, i_iinc, i_dup, i_dup2, i_pop, i_iadd, i_isub, i_imul, i_idiv, i_irem, i_ineg, i_iand, i_ior, i_ishl, i_ishr, i_lxor, i_ladd, i_lsub, i_lmul, i_ldiv, i_lrem, i_lneg, i_lshl, i_lcmp, i_i2l, i_l2i, i_i2b, i_i2s, i_ifeq, i_ifne, i_iflt, i_ifge, i_ifgt, i_ifle, i_cmpeq, i_cmpne, i_cmplt, i_cmpge, i_cmpgt, i_cmple, i_acmpeq, i_acmpne, i_ifnull, i_ifnonnull, i_getI, i_getR, i_putI, i_putZ, i_putR, i_ald, i_ldL, i_ldR, i_ast, i_stL, i_stR, i_alen, i_new, i_newa, i_iret, i_zret, i_lret, i_aret, i_vret, i_raise, i_throw, i_recv, i_objinit, i_tsw3, lget, lset, lput1, lput2, lkil, ltrim, largs, isL, takev, dropv, nthv, pushO, catv, gd, true_and, and_true, Option.some.injEq, Prod.mk.injEq, exists_eq_left', if_true, if_false, reduceCtorEq, Bool.false_eq_true, lcmp_ge, lcmp_lt, lcmp_le, lcmp_gt, lcmp_eq, true_or, or_true, not_true_eq_false, not_false_eq_true, false_implies, true_implies, List.length_cons, List.length_nil, w1, w2, w3, ha]
      refine ⟨fun h => ?_, fun h => ?_⟩
      · have hr0 : rest = 0 := by omega
        subst hr0
        exact k _ hk (wD.of ha hb (fun _ _ _ => rfl) (he rfl) (by omega))
      · rw [tdiv_nn h0, tmod_nn h0]
        have hm := Int.emod_nonneg rest (show (1000000000 : Int) ≠ 0 by decide)
        have hm2 := Int.emod_lt_of_pos rest (show (0 : Int) < 1000000000 by decide)
        have hq : rest < 10000000000000000000 := by
          have h4 := dv_nn hc
          have h5 := Int.mul_le_mul_of_nonneg_left (show (1 : Int) ≤ 1000000000 ^ j by have := pw_pos j; omega) h0
          omega
        have hlim : 0 ≤ rest / 1000000000 ∧ rest / 1000000000 < 1000000000 ^ N := by rw [pw_succ] at h1; omega
        refine ⟨by decide, ?_, ?_, by omega, by omega, by simp [okT], by decide, ?_, ?_, ?_⟩
        · unfold inL; omega
        · unfold inI; omega
        · unfold inL; omega
        · simp only [pmu]; simp [ha]; unfold inI; omega
        · have e1 : ∀ i, (pmu (pmu D' (w + 1) j (rest % 1000000000)) w 1 (pmu D' (w + 1) j (rest % 1000000000) w 1 + 1)) (w + 1) i = if i = j then rest % 1000000000 else D' (w + 1) i := fun i => by simp [pmu]
          refine ih (j + 1) _ _ hlim.1 hlim.2 (by omega) ?_ (by simp [pmu, ha]) (by simp [pmu, hb]) ?_ ?_ ?_
          · intro a i h2 h3; simp [pmu, h2, h3, hk a i h2 h3]
          · intro i h2 h3; rw [e1]; split
            · exact ⟨hm, hm2⟩
            · exact hc i h2 (by omega)
          · simp only [dv, e1, if_true]
            rw [dv_congr (g := D' (w + 1)) (fun i h2 h3 => by rw [e1, if_neg (by omega)]), pw_succ, ← hd]
            have h6 := Int.emod_add_mul_ediv rest 1000000000
            generalize rest % 1000000000 = a at *
            generalize rest / 1000000000 = b at *
            generalize (1000000000 : Int) ^ j = p at *
            subst h6
            grind
          · intro h7
            refine ⟨fun i h2 h3 => ?_, fun _ => ?_⟩
            · rw [e1]; split
              · exact ⟨hm, hm2⟩
              · exact hc i h2 (by omega)
            · rw [e1, if_pos (by omega)]; omega
  have L1 : Wp P_X3_set E 1 [some (aR w), some (aL v)] [aL v.natAbs] B S D := by
    have L2 : Wp P_X3_set E 2 [some (aR w), none, none, some (aL v.natAbs)] [aI (Int.sign v), aR w] B S D := by
      refine wp_in ?_
      simp only [P_X3_set, i_kil, i_icon, i_lcon, i_null, i_loadI, i_loadL, i_loadR, i_istore, i_lstore, i_astore, i_iinc, i_dup, i_dup2, i_pop, i_iadd, i_isub, i_imul, i_idiv, i_irem, i_ineg, i_iand, i_ior, i_ishl, i_ishr, i_lxor, i_ladd, i_lsub, i_lmul, i_ldiv, i_lrem, i_lneg, i_lshl, i_lcmp, i_i2l, i_l2i, i_i2b, i_i2s, i_ifeq, i_ifne, i_iflt, i_ifge, i_ifgt, i_ifle, i_cmpeq, i_cmpne, i_cmplt, i_cmpge, i_cmpgt, i_cmple, i_acmpeq, i_acmpne, i_ifnull, i_ifnonnull, i_getI, i_getR, i_putI, i_putZ, i_putR, i_ald, i_ldL, i_ldR, i_ast, i_stL, i_stR, i_alen, i_new, i_newa, i_iret, i_zret, i_lret, i_aret, i_vret, i_raise, i_throw, i_recv, i_objinit, i_tsw3, lget, lset, lput1, lput2, lkil, ltrim, largs, isL, takev, dropv, nthv, pushO, catv, gd, true_and, and_true, Option.some.injEq, Prod.mk.injEq, exists_eq_left', if_true, if_false, reduceCtorEq, Bool.false_eq_true, lcmp_ge, lcmp_lt, lcmp_le, lcmp_gt, lcmp_eq, true_or, or_true, not_true_eq_false, not_false_eq_true, false_implies, true_implies, List.length_cons, List.length_nil, w1, w2, w3]
      refine loop 3 0 _ _ (by omega) (by have : (1000000000 : Int) ^ 3 = 1000000000000000000000000000 := by decide
                                         omega) rfl ?_ (by simp [pmu]) (by simp [pmu]) (fun i h1 h2 => by omega) (by simp [dv]) (fun _ => ⟨fun i h1 h2 => by omega, fun h => absurd h (by decide)⟩)
      intro a i h1 h2; simp [pmu, h1]
    refine wp_in ?_
    simp only [P_X3_set, i_kil, i_icon, i_lcon, i_null, i_loadI, i_loadL, i_loadR, i_istore, i_lstore, i_astore, i_iinc, i_dup, i_dup2, i_pop, i_iadd, i_isub, i_imul, i_idiv, i_irem, i_ineg, i_iand, i_ior, i_ishl, i_ishr, i_lxor, i_ladd, i_lsub, i_lmul, i_ldiv, i_lrem, i_lneg, i_lshl, i_lcmp, i_i2l, i_l2i, i_i2b, i_i2s, i_ifeq, i_ifne, i_iflt, i_ifge, i_ifgt, i_ifle, i_cmpeq, i_cmpne, i_cmplt, i_cmpge, i_cmpgt, i_cmple, i_acmpeq, i_acmpne, i_ifnull, i_ifnonnull, i_getI, i_getR, i_putI, i_putZ, i_putR, i_ald, i_ldL, i_ldR, i_ast, i_stL, i_stR, i_alen, i_new, i_newa, i_iret, i_zret, i_lret, i_aret, i_vret, i_raise, i_throw, i_recv, i_objinit, i_tsw3, lget, lset, lput1, lput2, lkil, ltrim, largs, isL, takev, dropv, nthv, pushO, catv, gd, true_and, and_true, Option.some.injEq, Prod.mk.injEq, exists_eq_left', if_true, if_false, reduceCtorEq, Bool.false_eq_true, lcmp_ge, lcmp_lt, lcmp_le, lcmp_gt, lcmp_eq, true_or, or_true, not_true_eq_false, not_false_eq_true, false_implies, true_implies, List.length_cons, List.length_nil, w1, w2, w3]
    rcases sgn_cases v with ⟨h1, h2, h3⟩ | ⟨h1, h2⟩ | ⟨h1, h2, h3⟩
    · rw [h1] at L2
      exact ⟨fun _ => ⟨fun h => by omega, fun _ => L2⟩, fun h => by omega⟩
    · rw [h1] at L2
      exact ⟨fun _ => ⟨fun _ => L2, fun h => by omega⟩, fun h => by omega⟩
    · rw [h1] at L2
      exact ⟨fun h => by omega, fun _ => L2⟩
  refine wp_in ?_
  simp only [P_X3_set, i_kil, i_icon, i_lcon, i_null, i_loadI, i_loadL, i_loadR, i_istore, i_lstore, i_astore, i_iinc, i_dup, i_dup2, i_pop, i_iadd, i_isub, i_imul, i_idiv, i_irem, i_ineg, i_iand, i_ior, i_ishl, i_ishr, i_lxor, i_ladd, i_lsub, i_lmul, i_ldiv, i_lrem, i_lneg, i_lshl, i_lcmp, i_i2l, i_l2i, i_i2b, i_i2s, i_ifeq, i_ifne, i_iflt, i_ifge, i_ifgt, i_ifle, i_cmpeq, i_cmpne, i_cmplt, i_cmpge, i_cmpgt, i_cmple, i_acmpeq, i_acmpne, i_ifnull, i_ifnonnull, i_getI, i_getR, i_putI, i_putZ, i_putR, i_ald, i_ldL, i_ldR, i_ast, i_stL, i_stR, i_alen, i_new, i_newa, i_iret, i_zret, i_lret, i_aret, i_vret, i_raise, i_throw, i_recv, i_objinit, i_tsw3, lget, lset, lput1, lput2, lkil, ltrim, largs, isL, takev, dropv, nthv, pushO, catv, gd, true_and, and_true, Option.some.injEq, Prod.mk.injEq, exists_eq_left', if_true, if_false, reduceCtorEq, Bool.false_eq_true, lcmp_ge, lcmp_lt, lcmp_le, lcmp_gt, lcmp_eq, true_or, or_true, not_true_eq_false, not_false_eq_true, false_implies, true_implies, List.length_cons, List.length_nil, w1, w2, w3]
  refine ⟨fun h => ?_, fun h => ⟨by unfold inL; omega, ?_⟩⟩
  · rw [show (v.natAbs : Int) = v by omega] at L1; exact L1
  · rw [show (v.natAbs : Int) = -v by omega] at L1; exact L1
theorem sp_X3_isOdd {E : Ex} {B : Nat × Nat} {S : Stat} {D : Dat} {w r : Nat} {z : Int} (hw : wS 3 S w r) (hz : wD 1 2 D w z) (hr : 1 ≤ r) (hr2 : r < 1000)
    (k : E (.inl (some (.inl (z % 2)))) B S D) : Wp P_X3_isOdd E 0 [some (aR w)] [] B S D := by
  obtain ⟨w1, w2, w3⟩ := hw
  obtain ⟨n, a1, a2, a3, a4⟩ := hz
  have no : z % 2 = 0 → Wp P_X3_isOdd E 1 [] [] B S D := fun h => by
    refine wp_in ?_
    simp only [P_X3_isOdd, i_kil, i_icon, i_lcon, i_null, i_loadI, i_loadL, i_loadR, i_istore, i_lstore, i_astore, i_iinc, i_dup, i_dup2, i_pop, i_iadd, i_isub, i_imul, i_idiv, i_irem, i_ineg, i_iand, i_ior, i_ishl, i_ishr, i_lxor, i_ladd, i_lsub, i_lmul, i_ldiv, i_lrem, i_lneg, i_lshl, i_lcmp, i_i2l, i_l2i, i_i2b, i_i2s, i_ifeq, i_ifne, i_iflt, i_ifge, i_ifgt, i_ifle, i_cmpeq, i_cmpne, i_cmplt, i_cmpge, i_cmpgt, i_cmple, i_acmpeq, i_acmpne, i_ifnull, i_ifnonnull, i_getI, i_getR, i_putI, i_putZ, i_putR, i_ald, i_ldL, i_ldR, i_ast, i_stL, i_stR, i_alen, i_new, i_newa, i_iret, i_zret, i_lret, i_aret, i_vret, i_raise, i_throw, i_recv, i_objinit, i_tsw3, lget, lset, lput1, lput2, lkil, ltrim, largs, isL, takev, dropv, nthv, pushO, catv, gd, true_and, and_true, Option.some.injEq, Prod.mk.injEq, exists_eq_left', if_true, if_false, reduceCtorEq, Bool.false_eq_true, lcmp_ge, lcmp_lt, lcmp_le, lcmp_gt, lcmp_eq, true_or, or_true, not_true_eq_false, not_false_eq_true, false_implies, true_implies, List.length_cons, List.length_nil]
    refine wp_in ?_
    simp only [P_X3_isOdd, i_kil, i_icon, i_lcon, i_null, i_loadI, i_loadL, i_loadR, i_istore, i_lstore, i_astore, i_iinc, i_dup, i_dup2, i_pop, i_iadd, i_isub, i_imul, i_idiv, i_irem, i_ineg, i_iand, i_ior, i_ishl, i_ishr, i_lxor, i_ladd, i_lsub, i_lmul, i_ldiv, i_lrem, i_lneg, i_lshl, i_lcmp, i_i2l, i_l2i, i_i2b, i_i2s, i_ifeq, i_ifne, i_iflt, i_ifge, i_ifgt, i_ifle, i_cmpeq, i_cmpne, i_cmplt, i_cmpge, i_cmpgt, i_cmple, i_acmpeq, i_acmpne, i_ifnull, i_ifnonnull, i_getI, i_getR, i_putI, i_putZ, i_putR, i_ald, i_ldL, i_ldR, i_ast, i_stL, i_stR, i_alen, i_new, i_newa, i_iret, i_zret, i_lret, i_aret, i_vret, i_raise, i_throw, i_recv, i_objinit, i_tsw3, lget, lset, lput1, lput2, lkil, ltrim, largs, isL, takev, dropv, nthv, pushO, catv, gd, true_and, and_true, Option.some.injEq, Prod.mk.injEq, exists_eq_left', if_true, if_false, reduceCtorEq, Bool.false_eq_true, lcmp_ge, lcmp_lt, lcmp_le, lcmp_gt, lcmp_eq, true_or, or_true, not_true_eq_false, not_false_eq_true, false_implies, true_implies, List.length_cons, List.length_nil]
    rw [h] at k
    exact k
  have key : 0 < n → z % 2 = D (w + 1) 0 % 2 := fun hn => by
    have h1 : ∀ m, dv (D (w + 1)) (m + 1) % 2 = D (w + 1) 0 % 2 := by
      intro m
      induction m with
      | zero => simp [dv]
      | succ m ih =>
        simp only [dv] at ih ⊢
        rw [Int.add_emod, ih, pw_succ, show (D (w + 1) ((m + 1 : Nat) : Int) * (1000000000 * 1000000000 ^ m)) = 2 * (500000000 * D (w + 1) ((m + 1 : Nat) : Int) * 1000000000 ^ m) by grind, Int.mul_emod_right]
        omega
    obtain ⟨m, rfl⟩ : ∃ m, n = m + 1 := ⟨n - 1, by omega⟩
    have h2 := h1 m
    rw [← a4] at h2
    omega
  refine wp_in ?_
  simp only [P_X3_isOdd, i_kil, i_icon, i_lcon, i_null, i_loadI, i_loadL, i_loadR, i_istore, i_lstore, i_astore, i_iinc, i_dup, i_dup2, i_pop, i_iadd, i_isub, i_imul, i_idiv, i_irem, i_ineg, i_iand, i_ior, i_ishl, i_ishr, i_lxor, i_ladd, i_lsub, i_lmul, i_ldiv, i_lrem, i_lneg, i_lshl, i_lcmp, i_i2l, i_l2i, i_i2b, i_i2s, i_ifeq, i_ifne, i_iflt, i_ifge, i_ifgt, i_ifle, i_cmpeq, i_cmpne, i_cmplt, i_cmpge, i_cmpgt, i_cmple, i_acmpeq, i_acmpne, i_ifnull, i_ifnonnull, i_getI, i_getR, i_putI, i_putZ, i_putR, i_ald, i_ldL, i_ldR, i_ast, i_stL, i_stR, i_alen, i_new, i_newa, i_iret, i_zret, i_lret, i_aret, i_vret, i_raise, i_throw, i_recv, i_objinit, i_tsw3, lget, lset, lput1, lput2, lkil, ltrim, largs, isL, takev, dropv, nthv, pushO, catv, gd, true_and, and_true, Option.some.injEq, Prod.mk.injEq, exists_eq_left', if_true, if_false, reduceCtorEq, Bool.false_eq_true, lcmp_ge, lcmp_lt, lcmp_le, lcmp_gt, lcmp_eq, true_or, or_true, not_true_eq_false, not_false_eq_true, false_implies, true_implies, List.length_cons, List.length_nil, w1, w2, w3, a1]
  refine ⟨fun h => no ?_, fun h => ⟨by omega, by omega, ?_⟩⟩
  · have hn : n = 0 := by omega
    subst hn
    simp [dv] at a4
    rw [a4]; rfl
  · obtain ⟨h1, h2⟩ := a2.1 0 (by omega) (by omega)
    rw [and1 h1 (by omega)]
    refine ⟨fun h3 => no ?_, fun h3 => wp_in ?_⟩
    · rw [key (by omega)]; omega
    · simp only [P_X3_isOdd, i_kil, i_icon, i_lcon, i_null, i_loadI, i_loadL, i_loadR, i_istore, i_lstore, i_astore, i_iinc, i_dup, i_dup2, i_pop, i_iadd, i_isub, i_imul, i_idiv, i_irem, i_ineg, i_iand, i_ior, i_ishl, i_ishr, i_lxor, i_ladd, i_lsub, i_lmul, i_ldiv, i_lrem, i_lneg, i_lshl, i_lcmp, i_i2l, i_l2i, i_i2b, i_i2s, i_ifeq, i_ifne, i_iflt, i_ifge, i_ifgt, i_ifle, i_cmpeq, i_cmpne, i_cmplt, i_cmpge, i_cmpgt, i_cmple, i_acmpeq, i_acmpne, i_ifnull, i_ifnonnull, i_getI, i_getR, i_putI, i_putZ, i_putR, i_ald, i_ldL, i_ldR, i_ast, i_stL, i_stR, i_alen, i_new, i_newa, i_iret, i_zret, i_lret, i_aret, i_vret, i_raise, i_throw, i_recv, i_objinit, i_tsw3, lget, lset, lput1, lput2, lkil, ltrim, largs, isL, takev, dropv, nthv, pushO, catv, gd, true_and, and_true, Option.some.injEq, Prod.mk.injEq, exists_eq_left', if_true, if_false, reduceCtorEq, Bool.false_eq_true, lcmp_ge, lcmp_lt, lcmp_le, lcmp_gt, lcmp_eq, true_or, or_true, not_true_eq_false, not_false_eq_true, false_implies, true_implies, List.length_cons, List.length_nil]
      rw [key (by omega), h3] at k
      exact k
theorem sp_X3_fits {E : Ex} {B : Nat × Nat} {S : Stat} {D : Dat} {w r : Nat} {z : Int} (hw : wS 3 S w r) (hz : wD 1 2 D w z) (hr : 14 ≤ r) (hr2 : r < 1000)
    (k : E (.inl (some (.inl (if (z.natAbs : Int) < 1000 * 1000000000 ^ 13 then 1 else 0)))) B S D) : Wp P_X3_fits E 0 [some (aR w)] [] B S D := by
  obtain ⟨w1, w2, w3⟩ := hw
  obtain ⟨n, a1, a2, a3, a4⟩ := hz
  have yes : (z.natAbs : Int) < 1000 * 1000000000 ^ 13 → Wp P_X3_fits E 1 [] [] B S D := fun h => by
    refine wp_in ?_
    simp only [P_X3_fits, i_kil, i_icon, i_lcon, i_null, i_loadI, i_loadL, i_loadR, i_istore, i_lstore, i_astore, i_iinc, i_dup, i_dup2, i_pop, i_iadd, i_isub, i_imul, i_idiv, i_irem, i_ineg, i_iand, i_ior, i_ishl, i_ishr, i_lxor, i_ladd, i_lsub, i_lmul, i_ldiv, i_lrem, i_lneg, i_lshl, i_lcmp, i_i2l, i_l2i, i_i2b, i_i2s, i_ifeq, i_ifne, i_iflt, i_ifge, i_ifgt, i_ifle, i_cmpeq, i_cmpne, i_cmplt, i_cmpge, i_cmpgt, i_cmple, i_acmpeq, i_acmpne, i_ifnull, i_ifnonnull, i_getI, i_getR, i_putI, i_putZ, i_putR, i_ald, i_ldL, i_ldR, i_ast, i_stL, i_stR, i_alen, i_new, i_newa, i_iret, i_zret, i_lret, i_aret, i_vret, i_raise, i_throw, i_recv, i_objinit, i_tsw3, lget, lset, lput1, lput2, lkil, ltrim, largs, isL, takev, dropv, nthv, pushO, catv, gd, true_and, and_true, Option.some.injEq, Prod.mk.injEq, exists_eq_left', if_true, if_false, reduceCtorEq, Bool.false_eq_true, lcmp_ge, lcmp_lt, lcmp_le, lcmp_gt, lcmp_eq, true_or, or_true, not_true_eq_false, not_false_eq_true, false_implies, true_implies, List.length_cons, List.length_nil]
    refine wp_in ?_
    simp only [P_X3_fits, i_kil, i_icon, i_lcon, i_null, i_loadI, i_loadL, i_loadR, i_istore, i_lstore, i_astore, i_iinc, i_dup, i_dup2, i_pop, i_iadd, i_isub, i_imul, i_idiv, i_irem, i_ineg, i_iand, i_ior, i_ishl, i_ishr, i_lxor, i_ladd, i_lsub, i_lmul, i_ldiv, i_lrem, i_lneg, i_lshl, i_lcmp, i_i2l, i_l2i, i_i2b, i_i2s, i_ifeq, i_ifne, i_iflt, i_ifge, i_ifgt, i_ifle, i_cmpeq, i_cmpne, i_cmplt, i_cmpge, i_cmpgt, i_cmple, i_acmpeq, i_acmpne, i_ifnull, i_ifnonnull, i_getI, i_getR, i_putI, i_putZ, i_putR, i_ald, i_ldL, i_ldR, i_ast, i_stL, i_stR, i_alen, i_new, i_newa, i_iret, i_zret, i_lret, i_aret, i_vret, i_raise, i_throw, i_recv, i_objinit, i_tsw3, lget, lset, lput1, lput2, lkil, ltrim, largs, isL, takev, dropv, nthv, pushO, catv, gd, true_and, and_true, Option.some.injEq, Prod.mk.injEq, exists_eq_left', if_true, if_false, reduceCtorEq, Bool.false_eq_true, lcmp_ge, lcmp_lt, lcmp_le, lcmp_gt, lcmp_eq, true_or, or_true, not_true_eq_false, not_false_eq_true, false_implies, true_implies, List.length_cons, List.length_nil]
    rw [if_pos h] at k
    exact k
  have no : ¬ (z.natAbs : Int) < 1000 * 1000000000 ^ 13 → Wp P_X3_fits E 2 [] [] B S D := fun h => by
    refine wp_in ?_
    simp only [P_X3_fits, i_kil, i_icon, i_lcon, i_null, i_loadI, i_loadL, i_loadR, i_istore, i_lstore, i_astore, i_iinc, i_dup, i_dup2, i_pop, i_iadd, i_isub, i_imul, i_idiv, i_irem, i_ineg, i_iand, i_ior, i_ishl, i_ishr, i_lxor, i_ladd, i_lsub, i_lmul, i_ldiv, i_lrem, i_lneg, i_lshl, i_lcmp, i_i2l, i_l2i, i_i2b, i_i2s, i_ifeq, i_ifne, i_iflt, i_ifge, i_ifgt, i_ifle, i_cmpeq, i_cmpne, i_cmplt, i_cmpge, i_cmpgt, i_cmple, i_acmpeq, i_acmpne, i_ifnull, i_ifnonnull, i_getI, i_getR, i_putI, i_putZ, i_putR, i_ald, i_ldL, i_ldR, i_ast, i_stL, i_stR, i_alen, i_new, i_newa, i_iret, i_zret, i_lret, i_aret, i_vret, i_raise, i_throw, i_recv, i_objinit, i_tsw3, lget, lset, lput1, lput2, lkil, ltrim, largs, isL, takev, dropv, nthv, pushO, catv, gd, true_and, and_true, Option.some.injEq, Prod.mk.injEq, exists_eq_left', if_true, if_false, reduceCtorEq, Bool.false_eq_true, lcmp_ge, lcmp_lt, lcmp_le, lcmp_gt, lcmp_eq, true_or, or_true, not_true_eq_false, not_false_eq_true, false_implies, true_implies, List.length_cons, List.length_nil]
    refine wp_in ?_
    simp only [P_X3_fits, i_kil, i_icon, i_lcon, i_null, i_loadI, i_loadL, i_loadR, i_istore, i_lstore, i_astore, i_iinc, i_dup, i_dup2, i_pop, i_iadd, i_isub, i_imul, i_idiv, i_irem, i_ineg, i_iand, i_ior, i_ishl, i_ishr, i_lxor, i_ladd, i_lsub, i_lmul, i_ldiv, i_lrem, i_lneg, i_lshl, i_lcmp, i_i2l, i_l2i, i_i2b, i_i2s, i_ifeq, i_ifne, i_iflt, i_ifge, i_ifgt, i_ifle, i_cmpeq, i_cmpne, i_cmplt, i_cmpge, i_cmpgt, i_cmple, i_acmpeq, i_acmpne, i_ifnull, i_ifnonnull, i_getI, i_getR, i_putI, i_putZ, i_putR, i_ald, i_ldL, i_ldR, i_ast, i_stL, i_stR, i_alen, i_new, i_newa, i_iret, i_zret, i_lret, i_aret, i_vret, i_raise, i_throw, i_recv, i_objinit, i_tsw3, lget, lset, lput1, lput2, lkil, ltrim, largs, isL, takev, dropv, nthv, pushO, catv, gd, true_and, and_true, Option.some.injEq, Prod.mk.injEq, exists_eq_left', if_true, if_false, reduceCtorEq, Bool.false_eq_true, lcmp_ge, lcmp_lt, lcmp_le, lcmp_gt, lcmp_eq, true_or, or_true, not_true_eq_false, not_false_eq_true, false_implies, true_implies, List.length_cons, List.length_nil]
    rw [if_neg h] at k
    exact k
  rw [a4] at yes no
  have h0 := dv_nn a2.1
  refine wp_in ?_
  simp only [P_X3_fits, i_kil, i_icon, i_lcon, i_null, i_loadI, i_loadL, i_loadR, i_istore, i_lstore, i_astore, i_iinc, i_dup, i_dup2, i_pop, i_iadd, i_isub, i_imul, i_idiv, i_irem, i_ineg, i_iand, i_ior, i_ishl, i_ishr, i_lxor, i_ladd, i_lsub, i_lmul, i_ldiv, i_lrem, i_lneg, i_lshl, i_lcmp, i_i2l, i_l2i, i_i2b, i_i2s, i_ifeq, i_ifne, i_iflt, i_ifge, i_ifgt, i_ifle, i_cmpeq, i_cmpne, i_cmplt, i_cmpge, i_cmpgt, i_cmple, i_acmpeq, i_acmpne, i_ifnull, i_ifnonnull, i_getI, i_getR, i_putI, i_putZ, i_putR, i_ald, i_ldL, i_ldR, i_ast, i_stL, i_stR, i_alen, i_new, i_newa, i_iret, i_zret, i_lret, i_aret, i_vret, i_raise, i_throw, i_recv, i_objinit, i_tsw3, lget, lset, lput1, lput2, lkil, ltrim, largs, isL, takev, dropv, nthv, pushO, catv, gd, true_and, and_true, Option.some.injEq, Prod.mk.injEq, exists_eq_left', if_true, if_false, reduceCtorEq, Bool.false_eq_true, lcmp_ge, lcmp_lt, lcmp_le, lcmp_gt, lcmp_eq, true_or, or_true, not_true_eq_false, not_false_eq_true, false_implies, true_implies, List.length_cons, List.length_nil, w1, w2, w3, a1]
  refine ⟨fun h => yes ?_, fun h => ⟨fun h1 => no ?_, fun h1 => ⟨by omega, by omega, fun h2 => no ?_, fun h2 => yes ?_⟩⟩⟩
  · have := pw_mono (show n ≤ 13 by omega)
    omega
  · obtain ⟨m, rfl⟩ : ∃ m, n = m + 1 := ⟨n - 1, by omega⟩
    have h3 := dv_ge a2.1 a2.top
    have h4 := pw_mono (show 14 ≤ m by omega)
    rw [pw_succ 13] at h4
    have := pw_pos 13
    omega
  · have hn : n = 14 := by omega
    subst hn
    have h5 := dv_nn (a2.1.mono (show 13 ≤ 14 by decide))
    have h6 : 1000 * 1000000000 ^ 13 ≤ D (w + 1) 13 * 1000000000 ^ 13 := Int.mul_le_mul_of_nonneg_right h2 (by decide)
    have h7 : dv (D (w + 1)) 14 = dv (D (w + 1)) 13 + D (w + 1) 13 * 1000000000 ^ 13 := rfl
    omega
  · have hn : n = 14 := by omega
    subst hn
    have h5 := dv_nn (a2.1.mono (show 13 ≤ 14 by decide))
    have h6 : D (w + 1) 13 * 1000000000 ^ 13 ≤ 999 * 1000000000 ^ 13 := Int.mul_le_mul_of_nonneg_right (by omega) (by decide)
    have h7 : dv (D (w + 1)) 14 = dv (D (w + 1)) 13 + D (w + 1) 13 * 1000000000 ^ 13 := rfl
    omega
theorem sp_X3_twice {E : Ex} {B : Nat × Nat} {S : Stat} {D : Dat} {w r : Nat} {z b : Int} (hw : wS 3 S w r) (hz : wD 1 2 D w z) (h0 : 0 ≤ z) (hb : b = 0 ∨ b = 1) (hr : 2 * z + b < 1000000000 ^ r) (hr2 : r < 1000)
    (k : ∀ D' : Dat, wO D D' w → wD 1 2 D' w (2 * z + b) → E (.inl none) B S D') : Wp P_X3_twice E 0 [some (aR w), some (aI b)] [] B S D := by
  obtain ⟨w1, w2, w3⟩ := hw
  obtain ⟨n, a1, a2, a3, a4⟩ := hz
  rw [show (z.natAbs : Int) = z by omega] at a4
  have hnr : n ≤ r := a2.size_le (by omega)
  have tail : ∀ (D' : Dat) (m : Nat), (∀ a i, a ≠ w → a ≠ w + 1 → D' a i = D a i) → D' w 1 = m → D' w 2 = Int.sign z → dcan (D' (w + 1)) m → dv (D' (w + 1)) m = 2 * z + b → Wp P_X3_twice E 3 [some (aR w)] [] B S D' := by
    intro D' m hk h1 h2 h3 h4
    have fin : ∀ s : Int, s = Int.sign (2 * z + b) → Wp P_X3_twice E 4 [] [aI s, aR w] B S D' := by
      intro s hs
      refine wp_in ?_
      simp only [P_X3_twice, i_kil, i_icon, i_lcon, i_null, i_loadI, i_loadL, i_loadR, i_istore, i_lstore, i_astore, i_iinc, i_dup, i_dup2, i_pop, i_iadd, i_isub, i_imul, i_idiv, i_irem, i_ineg, i_iand, i_ior, i_ishl, i_ishr, i_lxor, i_ladd, i_lsub, i_lmul, i_ldiv, i_lrem, i_lneg, i_lshl, i_lcmp, i_i2l, i_l2i, i_i2b, i_i2s, i_ifeq, i_ifne, i_iflt, i_ifge, i_ifgt, i_ifle, i_cmpeq, i_cmpne, i_cmplt, i_cmpge, i_cmpgt, i_cmple, i_acmpeq, i_acmpne, i_ifnull, i_ifnonnull, i_getI, i_getR, i_putI, i_putZ, i_putR, i_ald, i_ldL, i_ldR, i_ast, i_stL, i_stR, i_alen, i_new, i_newa, i_iret, i_zret, i_lret, i_aret, i_vret, i_raise, i_throw, i_recv, i_objinit, i_tsw3, lget, lset, lput1, lput2, lkil, ltrim, largs, isL, takev, dropv, nthv, pushO, catv, gd, true_and, and_true, Option.some.injEq, Prod.mk.injEq, exists_eq_left', if_true, if_false, reduceCtorEq, Bool.false_eq_true, lcmp_ge, lcmp_lt, lcmp_le, lcmp_gt, lcmp_eq, true_or, or_true, not_true_eq_false, not_false_eq_true, false_implies, true_implies, List.length_cons, List.length_nil, w1]
      refine k _ (fun a i ha hb => by simp [pmu, ha, hk a i ha hb]) (wD.of (n := m) (g := D' (w + 1)) (by simp [pmu, h1]) (by simp [pmu, hs]) (fun i _ _ => by simp [pmu]) h3 (by rw [h4]; omega))
    refine wp_in ?_
    simp only [P_X3_twice, i_kil, i_icon, i_lcon, i_null, i_loadI, i_loadL, i_loadR, i_istore, i_lstore, i_astore, i_iinc, i_dup, i_dup2, i_pop, i_iadd, i_isub, i_imul, i_idiv, i_irem, i_ineg, i_iand, i_ior, i_ishl, i_ishr, i_lxor, i_ladd, i_lsub, i_lmul, i_ldiv, i_lrem, i_lneg, i_lshl, i_lcmp, i_i2l, i_l2i, i_i2b, i_i2s, i_ifeq, i_ifne, i_iflt, i_ifge, i_ifgt, i_ifle, i_cmpeq, i_cmpne, i_cmplt, i_cmpge, i_cmpgt, i_cmple, i_acmpeq, i_acmpne, i_ifnull, i_ifnonnull, i_getI, i_getR, i_putI, i_putZ, i_putR, i_ald, i_ldL, i_ldR, i_ast, i_stL, i_stR, i_alen, i_new, i_newa, i_iret, i_zret, i_lret, i_aret, i_vret, i_raise, i_throw, i_recv, i_objinit, i_tsw3, lget, lset, lput1, lput2, lkil, ltrim, largs, isL, takev, dropv, nthv, pushO, catv, gd, true_and, and_true, Option.some.injEq, Prod.mk.injEq, exists_eq_left', if_true, if_false, reduceCtorEq, Bool.false_eq_true, lcmp_ge, lcmp_lt, lcmp_le, lcmp_gt, lcmp_eq, true_or, or_true, not_true_eq_false, not_false_eq_true, false_implies, true_implies, List.length_cons, List.length_nil, w1, h1, h2]
    refine ⟨fun h => fin 0 ?_, fun h => ⟨fun h5 => fin 1 ?_, fun h5 => ?_⟩⟩
    · have hm : m = 0 := by omega
      subst hm
      rw [← h4]; rfl
    · rw [Int.sign_eq_one_of_pos]
      rcases Int.lt_or_le 0 (2 * z + b) with q | q
      · exact q
      · have := h3.zero (by omega); omega
    · rcases sgn_cases z with q | q | q <;> omega
  have loop : ∀ (N j : Nat) (over : Int) (D' : Dat), j + N = n → (over = 0 ∨ over = 1) → (∀ a i, a ≠ w + 1 → D' a i = D a i) → (∀ i : Int, j ≤ i → D' (w + 1) i = D (w + 1) i) → dok (D' (w + 1)) j → dv (D' (w + 1)) j + over * 1000000000 ^ j = 2 * dv (D (w + 1)) j + b → (0 < j → over = 0 → D' (w + 1) ((j : Int) - 1) ≠ 0 ∨ D (w + 1) ((j : Int) - 1) = 0) →
      Wp P_X3_twice E 1 [some (aR w), none, some (aI over), some (aI j)] [] B S D' := by
    intro N
    induction N with
    | zero =>
      intro j over D' hj ho hk hu hd hv ht
      have hjn : j = n := by omega
      subst hjn
      refine wp_in ?_
      simp only [P_X3_twice, i_kil, i_icon, i_lcon, i_null, i_loadI, i_loadL, i_loadR, i_istore, i_lstore, i_astore, i_iinc, i_dup, i_dup2, i_pop, i_iadd, i_isub, i_imul, i_idiv, i_irem, i_ineg, i_iand, i_ior, i_ishl, i_ishr, i_lxor, i_ladd, i_lsub, i_lmul, i_ldiv, i_lrem, i_lneg, i_lshl, i_lcmp, i_i2l, i_l2i, i_i2b, i_i2s, i_ifeq, i_ifne, i_iflt, i_ifge, i_ifgt, i_ifle, i_cmpeq, i_cmpne, i_cmplt, i_cmpge, i_cmpgt, i_cmple, i_acmpeq, i_acmpne, i_ifnull, i_ifnonnull, i_getI, i_getR, i_putI, i_putZ, i_putR, i_ald, i_ldL, i_ldR, i_ast, i_stL, i_stR, i_alen, i_new, i_newa, i_iret, i_zret, i_lret, i_aret, i_vret, i_raise, i_throw, i_recv, i_objinit, i_tsw3, lget, lset, lput1, lput2, lkil, ltrim, largs, isL, takev, dropv, nthv, pushO, catv, gd, true_and, and_true, Option.some.injEq, Prod.mk.injEq, exists_eq_left', if_true, if_false, reduceCtorEq, Bool.false_eq_true, lcmp_ge, lcmp_lt, lcmp_le, lcmp_gt, lcmp_eq, true_or, or_true, not_true_eq_false, not_false_eq_true, false_implies, true_implies, List.length_cons, List.length_nil, w1, w2, w3, hk w 1 (by omega), a1]
      refine ⟨fun _ => ⟨fun h => ?_, fun h => ?_⟩, fun h => by omega⟩
      · have ho0 : over = 0 := by omega
        subst ho0
        refine tail D' j (fun a i h1 h2 => hk a i h2) (by rw [hk w 1 (by omega)]; exact a1) (by rw [hk w 2 (by omega)]; exact a3) ⟨hd, fun h1 => ?_⟩ (by rw [a4]; omega)
        rcases ht h1 rfl with q | q
        · exact q
        · exact absurd q (a2.2 h1)
      · have ho1 : over = 1 := by omega
        subst ho1
        have hjr : j < r := by
          have h1 := dv_nn hd
          exact pw_inj (by omega)
        refine ⟨by omega, by omega, by simp [okT], ?_, ?_⟩
        · simp only [pmu]; simp [hk w 1 (by omega), a1]; unfold inI; omega
        · have e1 : ∀ i, (pmu (pmu D' (w + 1) j 1) w 1 (pmu D' (w + 1) j 1 w 1 + 1)) (w + 1) i = if i = j then 1 else D' (w + 1) i := fun i => by simp [pmu]
          refine tail _ (j + 1) (fun a i h1 h2 => by simp [pmu, h1, h2, hk a i h2]) (by simp [pmu, hk w 1 (by omega), a1]) (by simp [pmu, hk w 2 (by omega), a3]) ⟨fun i h1 h2 => ?_, fun _ => ?_⟩ ?_
          · rw [e1]; split
            · omega
            · exact hd i h1 (by omega)
          · rw [e1, if_pos (by omega)]; omega
          · simp only [dv, e1, if_true]
            rw [dv_congr (g := D' (w + 1)) (fun i h2 h3 => by rw [e1, if_neg (by omega)]), a4]
            omega
    | succ N ih =>
      intro j over D' hj ho hk hu hd hv ht
      obtain ⟨c1, c2⟩ := a2.1 j (by omega) (by omega)
      refine wp_in ?_
      simp only [P_X3_twice, i_kil, i_icon, i_lcon, i_null, i_loadI, i_loadL, i_loadR, i_istore, i_lstore, i_astore, i_iinc, i_dup, i_dup2, i_pop, i_iadd, i_isub, i_imul, i_idiv, i_irem, i_ineg, i_iand, i_ior, i_ishl, i_ishr, i_lxor, i_ladd, i_lsub, i_lmul, i_ldiv, i_lrem, i_lneg, i_lshl, i_lcmp, i_i2l, i_l2i, i_i2b, i_i2s, i_ifeq, i_ifne, i_iflt, i_ifge, i_ifgt, i_ifle, i_cmpeq, i_cmpne, i_cmplt, i_cmpge, i_cmpgt, i_cmple, i_acmpeq, i_acmpne, i_ifnull, i_ifnonnull, i_getI, i_getR, i_putI, i_putZ, i_putR, i_ald, i_ldL, i_ldR, i_ast, i_stL, i_stR, i_alen, i_new, i_newa, i_iret, i_zret, i_lret, i_aret, i_vret, i_raise, i_throw, i_recv, i_objinit, i_tsw3, lget, lset, lput1, lput2, lkil, ltrim, largs, isL, takev, dropv, nthv, pushO, catv, gd, true_and, and_true, Option.some.injEq, Prod.mk.injEq, exists_eq_left', if_true, if_false, reduceCtorEq, Bool.false_eq_true, lcmp_ge, lcmp_lt, lcmp_le, lcmp_gt, lcmp_eq, true_or, or_true, not_true_eq_false, not_false_eq_true, false_implies, true_implies, List.length_cons, List.length_nil, w1, w2, w3, hk w 1 (by omega), a1, hu j (Int.le_refl _)]
      refine ⟨fun h => by omega, fun _ => ⟨by omega, by omega, in_small (by omega) (by omega), in_small (by omega) (by omega), fun h => wp_in ?_, fun h => wp_in ?_⟩⟩
      · simp only [P_X3_twice, i_kil, i_icon, i_lcon, i_null, i_loadI, i_loadL, i_loadR, i_istore, i_lstore, i_astore, i_iinc, i_dup, i_dup2, i_pop, i_iadd, i_isub, i_imul, i_idiv, i_irem, i_ineg, i_iand, i_ior, i_ishl, i_ishr, i_lxor, i_ladd, i_lsub, i_lmul, i_ldiv, i_lrem, i_lneg, i_lshl, i_lcmp, i_i2l, i_l2i, i_i2b, i_i2s, i_ifeq, i_ifne, i_iflt, i_ifge, i_ifgt, i_ifle, i_cmpeq, i_cmpne, i_cmplt, i_cmpge, i_cmpgt, i_cmple, i_acmpeq, i_acmpne, i_ifnull, i_ifnonnull, i_getI, i_getR, i_putI, i_putZ, i_putR, i_ald, i_ldL, i_ldR, i_ast, i_stL, i_stR, i_alen, i_new, i_newa, i_iret, i_zret, i_lret, i_aret, i_vret, i_raise, i_throw, i_recv, i_objinit, i_tsw3, lget, lset, lput1, lput2, lkil, ltrim, largs, isL, takev, dropv, nthv, pushO, catv, gd, true_and, and_true, Option.some.injEq, Prod.mk.injEq, exists_eq_left', if_true, if_false, reduceCtorEq, Bool.false_eq_true, lcmp_ge, lcmp_lt, lcmp_le, lcmp_gt, lcmp_eq, true_or, or_true, not_true_eq_false, not_false_eq_true, false_implies, true_implies, List.length_cons, List.length_nil, w1, w2, w3]
        refine ⟨in_small (by omega) (by omega), in_small (by omega) (by omega), by omega, by omega, by simp [okT], in_small (by omega) (by omega), ?_⟩
        have e1 : ∀ i, (pmu D' (w + 1) j (2 * D (w + 1) j + over - 1000000000 * 0)) (w + 1) i = if i = j then 2 * D (w + 1) j + over else D' (w + 1) i := fun i => by simp [pmu]
        refine ih (j + 1) 0 _ (by omega) (Or.inl rfl) (fun a i h1 => by simp [pmu, h1, hk a i h1]) (fun i h1 => by rw [e1, if_neg (by omega)]; exact hu i (by omega)) (fun i h1 h2 => ?_) ?_ (fun _ _ => ?_)
        · rw [e1]; split
          · omega
          · exact hd i h1 (by omega)
        · simp only [dv, e1, if_true]
          rw [dv_congr (g := D' (w + 1)) (fun i h2 h3 => by rw [e1, if_neg (by omega)])]
          grind
        · rw [e1, if_pos (by omega), show ((j + 1 : Nat) : Int) - 1 = j by omega]
          rcases Int.lt_or_le 0 (D (w + 1) j) with q | q
          · left; omega
          · right; omega
      · simp only [P_X3_twice, i_kil, i_icon, i_lcon, i_null, i_loadI, i_loadL, i_loadR, i_istore, i_lstore, i_astore, i_iinc, i_dup, i_dup2, i_pop, i_iadd, i_isub, i_imul, i_idiv, i_irem, i_ineg, i_iand, i_ior, i_ishl, i_ishr, i_lxor, i_ladd, i_lsub, i_lmul, i_ldiv, i_lrem, i_lneg, i_lshl, i_lcmp, i_i2l, i_l2i, i_i2b, i_i2s, i_ifeq, i_ifne, i_iflt, i_ifge, i_ifgt, i_ifle, i_cmpeq, i_cmpne, i_cmplt, i_cmpge, i_cmpgt, i_cmple, i_acmpeq, i_acmpne, i_ifnull, i_ifnonnull, i_getI, i_getR, i_putI, i_putZ, i_putR, i_ald, i_ldL, i_ldR, i_ast, i_stL, i_stR, i_alen, i_new, i_newa, i_iret, i_zret, i_lret, i_aret, i_vret, i_raise, i_throw, i_recv, i_objinit, i_tsw3, lget, lset, lput1, lput2, lkil, ltrim, largs, isL, takev, dropv, nthv, pushO, catv, gd, true_and, and_true, Option.some.injEq, Prod.mk.injEq, exists_eq_left', if_true, if_false, reduceCtorEq, Bool.false_eq_true, lcmp_ge, lcmp_lt, lcmp_le, lcmp_gt, lcmp_eq, true_or, or_true, not_true_eq_false, not_false_eq_true, false_implies, true_implies, List.length_cons, List.length_nil, w1, w2, w3]
        refine ⟨in_small (by omega) (by omega), in_small (by omega) (by omega), by omega, by omega, by simp [okT], in_small (by omega) (by omega), ?_⟩
        have e1 : ∀ i, (pmu D' (w + 1) j (2 * D (w + 1) j + over - 1000000000 * 1)) (w + 1) i = if i = j then 2 * D (w + 1) j + over - 1000000000 else D' (w + 1) i := fun i => by simp [pmu]
        refine ih (j + 1) 1 _ (by omega) (Or.inr rfl) (fun a i h1 => by simp [pmu, h1, hk a i h1]) (fun i h1 => by rw [e1, if_neg (by omega)]; exact hu i (by omega)) (fun i h1 h2 => ?_) ?_ (fun _ h => by omega)
        · rw [e1]; split
          · omega
          · exact hd i h1 (by omega)
        · simp only [dv, e1, if_true]
          rw [dv_congr (g := D' (w + 1)) (fun i h2 h3 => by rw [e1, if_neg (by omega)]), pw_succ]
          grind
  refine wp_in ?_
  simp only [P_X3_twice, i_kil, i_icon, i_lcon, i_null, i_loadI, i_loadL, i_loadR, i_istore, i_lstore, i_astore, i_iinc, i_dup, i_dup2, i_pop, i_iadd, i_isub, i_imul, i_idiv, i_irem, i_ineg, i_iand, i_ior, i_ishl, i_ishr, i_lxor, i_ladd, i_lsub, i_lmul, i_ldiv, i_lrem, i_lneg, i_lshl, i_lcmp, i_i2l, i_l2i, i_i2b, i_i2s, i_ifeq, i_ifne, i_iflt, i_ifge, i_ifgt, i_ifle, i_cmpeq, i_cmpne, i_cmplt, i_cmpge, i_cmpgt, i_cmple, i_acmpeq, i_acmpne, i_ifnull, i_ifnonnull, i_getI, i_getR, i_putI, i_putZ, i_putR, i_ald, i_ldL, i_ldR, i_ast, i_stL, i_stR, i_alen, i_new, i_newa, i_iret, i_zret, i_lret, i_aret, i_vret, i_raise, i_throw, i_recv, i_objinit, i_tsw3, lget, lset, lput1, lput2, lkil, ltrim, largs, isL, takev, dropv, nthv, pushO, catv, gd, true_and, and_true, Option.some.injEq, Prod.mk.injEq, exists_eq_left', if_true, if_false, reduceCtorEq, Bool.false_eq_true, lcmp_ge, lcmp_lt, lcmp_le, lcmp_gt, lcmp_eq, true_or, or_true, not_true_eq_false, not_false_eq_true, false_implies, true_implies, List.length_cons, List.length_nil]
  exact loop n 0 b D (by omega) hb (fun _ _ _ => rfl) (fun _ _ => rfl) (fun i h1 h2 => by omega) (by simp [dv]) (fun h => absurd h (by decide))
/-- a call without new cells whose program is known -/
theorem call0 {K H : Tm} {P : Prg} {n w : Nat} {ls : List (Option PV)} {st : List PV} {B : Nat × Nat} {S : Stat} {D : Dat} (hg : gd st n w) (h : Wp P (fun o _ S' D' => match o with
    | .inl v => K ls (pushO v (dropv st n)) B S' D'
    | .inr a => H ls [.inr (.inr (some a))] B S' D') 0 (largs (takev st n [])) [] (0, 0) S D) : i_call K P n w H ls st B S D :=
  ⟨hg, B.1, B.2, 0, 0, rfl, h⟩
theorem dropv0 (st : List PV) : dropv st 0 = st := by cases st <;> rfl
theorem takev0 (st acc : List PV) : takev st 0 acc = acc := by cases st <;> rfl
def gdb (st : List PV) (n w : Nat) : Bool := Nat.ble n st.length && (Nat.ble (catv (takev st n [])) w && Nat.ble (catv (dropv st n)) 8)
theorem gd_of {st : List PV} {n w : Nat} (h : gdb st n w = true) : gd st n w := by
  simp only [gdb, Bool.and_eq_true, Nat.ble_eq] at h
  exact h
theorem sp_X3_halve {E : Ex} {B : Nat × Nat} {S : Stat} {D : Dat} {w r : Nat} {z : Int} (hw : wS 3 S w r) (hz : wD 1 2 D w z) (hr : (z.natAbs : Int) < 1000000000 ^ r) (hr2 : r < 1000)
    (k : ∀ D' : Dat, wO D D' w → wD 1 2 D' w (z.tdiv 2) → E (.inl none) B S D') : Wp P_X3_halve E 0 [some (aR w)] [] B S D := by
  have hw0 := hw
  obtain ⟨w1, w2, w3⟩ := hw
  obtain ⟨n, a1, a2, a3, a4⟩ := hz
  have hnr : n ≤ r := a2.size_le (by omega)
  have loop : ∀ (m : Nat) (over : Int) (D' : Dat), m ≤ n → (over = 0 ∨ over = 1) → (∀ a i, a ≠ w + 1 → D' a i = D a i) → (∀ i : Int, i < m → D' (w + 1) i = D (w + 1) i) → dok (D' (w + 1)) n → dv (D (w + 1)) n = 2 * (dv (D' (w + 1)) n - dv (D' (w + 1)) m) + over * 1000000000 ^ m + dv (D (w + 1)) m →
      Wp P_X3_halve E 1 [some (aR w), some (aI over), some (aI ((m : Int) - 1))] [] B S D' := by
    intro m
    induction m with
    | zero =>
      intro over D' hm ho hk hu hd hv
      refine wp_in ?_
      simp only [P_X3_halve, i_kil, i_icon, i_lcon, i_null, i_loadI, i_loadL, i_loadR, i_istore, i_lstore, i_astore, i_iinc, i_dup, i_dup2, i_pop, i_iadd, i_isub, i_imul, i_idiv, i_irem, i_ineg, i_iand, i_ior, i_ishl, i_ishr, i_lxor, i_ladd, i_lsub, i_lmul, i_ldiv, i_lrem, i_lneg, i_lshl, i_lcmp, i_i2l, i_l2i, i_i2b, i_i2s, i_ifeq, i_ifne, i_iflt, i_ifge, i_ifgt, i_ifle, i_cmpeq, i_cmpne, i_cmplt, i_cmpge, i_cmpgt, i_cmple, i_acmpeq, i_acmpne, i_ifnull, i_ifnonnull, i_getI, i_getR, i_putI, i_putZ, i_putR, i_ald, i_ldL, i_ldR, i_ast, i_stL, i_stR, i_alen, i_new, i_newa, i_iret, i_zret, i_lret, i_aret, i_vret, i_raise, i_throw, i_recv, i_objinit, i_tsw3, lget, lset, lput1, lput2, lkil, ltrim, largs, isL, takev, dropv, nthv, pushO, catv, gd, true_and, and_true, Option.some.injEq, Prod.mk.injEq, exists_eq_left', if_true, if_false, reduceCtorEq, Bool.false_eq_true, lcmp_ge, lcmp_lt, lcmp_le, lcmp_gt, lcmp_eq, true_or, or_true, not_true_eq_false, not_false_eq_true, false_implies, true_implies, List.length_cons, List.length_nil, w1, w2, w3]
      refine ⟨fun _ => ⟨⟨w, rfl, w1⟩, ?_⟩, fun h => by omega⟩
      refine call0 (gd_of rfl) ?_
      refine sp_X3_trim hw0 n D' (by rw [hk w 1 (by omega)]; exact a1) hnr hr2 hd ?_
      intro D'' q g1 g2 g3 g4 g5 g6
      refine k D'' (fun a i h1 h2 => by rw [g1 a i h1, hk a i h2]) ?_
      simp only [dv] at hv
      have e2 : D'' (w + 1) = D' (w + 1) := by funext i; exact g1 _ i (by omega)
      have hab : ((z.tdiv 2).natAbs : Int) = dv (D' (w + 1)) q := by
        rw [g5]
        have h1 : (z.tdiv 2).natAbs = z.natAbs / 2 := Int.natAbs_tdiv z 2
        omega
      refine ⟨q, g3, by rw [e2]; exact g4, ?_, by rw [e2]; exact hab⟩
      rw [g6, hk w 2 (by omega), a3]
      by_cases hq : q = 0
      · subst hq
        simp only [dv] at hab
        rw [if_pos rfl, show z.tdiv 2 = 0 by omega]; rfl
      · have h0 : z.tdiv 2 ≠ 0 := fun h0 => hq (g4.zero (by rw [← hab, h0]; rfl))
        rw [if_neg hq]
        rcases sgn_cases z with ⟨h1, h2, h3⟩ | ⟨h1, h2⟩ | ⟨h1, h2, h3⟩
        · rw [h1, Int.sign_eq_one_of_pos (by have := Int.tdiv_nonneg (Int.le_of_lt h3) (show (0 : Int) ≤ 2 by decide); omega)]
        · subst h2; exact absurd rfl h0
        · rw [h1, Int.sign_eq_neg_one_of_neg]
          have h4 := Int.neg_tdiv z 2
          have h5 := Int.tdiv_nonneg (show (0 : Int) ≤ -z by omega) (show (0 : Int) ≤ 2 by decide)
          omega
    | succ m ih =>
      intro over D' hm ho hk hu hd hv
      obtain ⟨c1, c2⟩ := a2.1 m (by omega) (by omega)
      have e0 : ((m + 1 : Nat) : Int) - 1 = m := by omega
      rw [e0]
      refine wp_in ?_
      simp only [P_X3_halve, i_kil, i_icon, i_lcon, i_null, i_loadI, i_loadL, i_loadR, i_istore, i_lstore, i_astore, i_iinc, i_dup, i_dup2, i_pop, i_iadd, i_isub, i_imul, i_idiv, i_irem, i_ineg, i_iand, i_ior, i_ishl, i_ishr, i_lxor, i_ladd, i_lsub, i_lmul, i_ldiv, i_lrem, i_lneg, i_lshl, i_lcmp, i_i2l, i_l2i, i_i2b, i_i2s, i_ifeq, i_ifne, i_iflt, i_ifge, i_ifgt, i_ifle, i_cmpeq, i_cmpne, i_cmplt, i_cmpge, i_cmpgt, i_cmple, i_acmpeq, i_acmpne, i_ifnull, i_ifnonnull, i_getI, i_getR, i_putI, i_putZ, i_putR, i_ald, i_ldL, i_ldR, i_ast, i_stL, i_stR, i_alen, i_new, i_newa, i_iret, i_zret, i_lret, i_aret, i_vret, i_raise, i_throw, i_recv, i_objinit, i_tsw3, lget, lset, lput1, lput2, lkil, ltrim, largs, isL, takev, dropv, nthv, pushO, catv, gd, true_and, and_true, Option.some.injEq, Prod.mk.injEq, exists_eq_left', if_true, if_false, reduceCtorEq, Bool.false_eq_true, lcmp_ge, lcmp_lt, lcmp_le, lcmp_gt, lcmp_eq, true_or, or_true, not_true_eq_false, not_false_eq_true, false_implies, true_implies, List.length_cons, List.length_nil, w1, w2, w3, hu m (by omega)]
      have hl : 0 ≤ over * 1000000000 + D (w + 1) m ∧ over * 1000000000 + D (w + 1) m < 2000000000 := by omega
      refine ⟨fun h => by omega, fun _ => ⟨in_small (by omega) (by omega), by omega, by omega, in_small (by omega) (by omega), by omega, by omega, by simp [okT], in_small (by omega) (by omega), ?_⟩⟩
      have hs : shrI (over * 1000000000 + D (w + 1) m) 1 = (over * 1000000000 + D (w + 1) m) / 2 := shr_lit 1 hl.1 (by omega) (by decide)
      rw [and1 hl.1 (by omega), hs]
      generalize hx : over * 1000000000 + D (w + 1) m = x at *
      have e1 : ∀ i, (pmu D' (w + 1) m (x / 2)) (w + 1) i = if i = m then x / 2 else D' (w + 1) i := fun i => by simp [pmu]
      have e3 : dv (pmu D' (w + 1) m (x / 2) (w + 1)) m = dv (D' (w + 1)) m := dv_congr fun i h2 h3 => by rw [e1, if_neg (by omega)]
      have e4 : ∀ q, m + 1 ≤ q → dv (pmu D' (w + 1) m (x / 2) (w + 1)) q - dv (D' (w + 1)) q = (x / 2 - D' (w + 1) m) * 1000000000 ^ m := by
        intro q hq
        induction q with
        | zero => omega
        | succ q ihq =>
          by_cases h : q = m
          · subst h
            simp only [dv, e3, e1, if_true]; grind
          · have := ihq (by omega)
            simp only [dv, e1]
            rw [if_neg (by omega)]; omega
      refine ih _ _ (by omega) (by omega) (fun a i h1 => by simp [pmu, h1, hk a i h1]) (fun i h1 => by rw [e1, if_neg (by omega)]; exact hu i (by omega)) (fun i h1 h2 => ?_) ?_
      · rw [e1]; split
        · omega
        · exact hd i h1 h2
      · have e5 := e4 n hm
        rw [hv, e3]
        simp only [dv, hu m (by omega), pw_succ] at e5 ⊢
        have hx2 : x = 2 * (x / 2) + x % 2 := by omega
        generalize x / 2 = y at *
        generalize x % 2 = o2 at *
        grind
  refine wp_in ?_
  simp only [P_X3_halve, i_kil, i_icon, i_lcon, i_null, i_loadI, i_loadL, i_loadR, i_istore, i_lstore, i_astore, i_iinc, i_dup, i_dup2, i_pop, i_iadd, i_isub, i_imul, i_idiv, i_irem, i_ineg, i_iand, i_ior, i_ishl, i_ishr, i_lxor, i_ladd, i_lsub, i_lmul, i_ldiv, i_lrem, i_lneg, i_lshl, i_lcmp, i_i2l, i_l2i, i_i2b, i_i2s, i_ifeq, i_ifne, i_iflt, i_ifge, i_ifgt, i_ifle, i_cmpeq, i_cmpne, i_cmplt, i_cmpge, i_cmpgt, i_cmple, i_acmpeq, i_acmpne, i_ifnull, i_ifnonnull, i_getI, i_getR, i_putI, i_putZ, i_putR, i_ald, i_ldL, i_ldR, i_ast, i_stL, i_stR, i_alen, i_new, i_newa, i_iret, i_zret, i_lret, i_aret, i_vret, i_raise, i_throw, i_recv, i_objinit, i_tsw3, lget, lset, lput1, lput2, lkil, ltrim, largs, isL, takev, dropv, nthv, pushO, catv, gd, true_and, and_true, Option.some.injEq, Prod.mk.injEq, exists_eq_left', if_true, if_false, reduceCtorEq, Bool.false_eq_true, lcmp_ge, lcmp_lt, lcmp_le, lcmp_gt, lcmp_eq, true_or, or_true, not_true_eq_false, not_false_eq_true, false_implies, true_implies, List.length_cons, List.length_nil, w1, a1]
  refine ⟨in_small (by omega) (by omega), ?_⟩
  exact loop n 0 D (Nat.le_refl _) (Or.inl rfl) (fun _ _ _ => rfl) (fun _ _ => rfl) a2.1 (by omega)
