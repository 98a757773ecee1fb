/-! the model's Num: copy, set, isOne, isBeyond -/
set_option maxRecDepth 100000
set_option linter.unusedVariables false
theorem sp_X17_copy1 {E : Ex} {B : Nat × Nat} {S : Stat} {D : Dat} {w o n m : Nat} {z : Int} (hw : wS 17 S w n) (ho : wS 17 S o m) (hne : w ≠ o) (hz : wD 2 1 D o z) (hn : (z.natAbs : Int) < 1000000000 ^ n) (hm : (z.natAbs : Int) < 1000000000 ^ m) (hn2 : n < 1000)
    (k : ∀ D' : Dat, wO D D' w → wD 2 1 D' w z → E (.inl none) B S D') :
    Wp P_X17_copy E 0 [some (aR w), some (aR o)] [] B S D := by
  obtain ⟨c1, c2, c3⟩ := wS.apart (by decide) (by decide) ho hw (Ne.symm hne)
  obtain ⟨w1, w2, w3⟩ := hw
  obtain ⟨o1, o2, o3⟩ := ho
  obtain ⟨q, a1, a2, a3, a4⟩ := hz
  have hqn : q ≤ n := a2.size_le (by rw [← a4]; exact hn)
  have hqm : q ≤ m := a2.size_le (by rw [← a4]; exact hm)
  have loop : ∀ (N : Nat) (j : Int) (D' : Dat), 0 ≤ j → j + N = q → wO D D' w → D' w 1 = Int.sign z → D' w 2 = q → (∀ i, 0 ≤ i → i < j → D' (w + 1) i = D (o + 1) i) →
      Wp P_X17_copy E 1 [some (aR w), some (aR o), some (aI j)] [] B S D' := by
    intro N
    induction N with
    | zero =>
      intro j D' hj hs hk h1 h2 hd
      refine wp_in ?_
      simp only [P_X17_copy, i_kil, i_icon, i_lcon, i_null, i_loadI, i_loadL, i_loadR, i_istore, i_lstore, i_astore, i_iinc, i_dup, i_dup2, i_pop, i_iadd, i_isub, i_imul, i_idiv, i_irem, i_ineg, i_iand, i_ior, i_ishl, i_ishr, i_lxor, i_ladd, i_lsub, i_lmul, i_ldiv, i_lrem, i_lneg, i_lshl, i_lcmp, i_i2l, i_l2i, i_i2b, i_i2s, i_ifeq, i_ifne, i_iflt, i_ifge, i_ifgt, i_ifle, i_cmpeq, i_cmpne, i_cmplt, i_cmpge, i_cmpgt, i_cmple, i_acmpeq, i_acmpne, i_ifnull, i_ifnonnull, i_getI, i_getR, i_putI, i_putZ, i_putR, i_ald, i_ldL, i_ldR, i_ast, i_stL, i_stR, i_alen, i_new, i_newa, i_iret, i_zret, i_lret, i_aret, i_vret, i_raise, i_throw, i_recv, i_objinit, i_tsw3, lget, lset, lput1, lput2, lkil, ltrim, largs, isL, takev, dropv, nthv, pushO, catv, gd, true_and, and_true, Option.some.injEq, Prod.mk.injEq, exists_eq_left', if_true, if_false, reduceCtorEq, Bool.false_eq_true, lcmp_ge, lcmp_lt, lcmp_le, lcmp_gt, lcmp_eq, true_or, or_true, not_true_eq_false, not_false_eq_true, false_implies, true_implies, List.length_cons, List.length_nil, o1, w1, h2]
      refine ⟨fun h => ?_, fun h => by omega⟩
      exact k _ hk (wD.of (n := q) (g := D (o + 1)) h2 h1 (fun i h0 h1 => hd i h0 (by omega)) a2 a4)
    | succ N ih =>
      intro j D' hj hs hk h1 h2 hd
      refine wp_in ?_
      simp only [P_X17_copy, i_kil, i_icon, i_lcon, i_null, i_loadI, i_loadL, i_loadR, i_istore, i_lstore, i_astore, i_iinc, i_dup, i_dup2, i_pop, i_iadd, i_isub, i_imul, i_idiv, i_irem, i_ineg, i_iand, i_ior, i_ishl, i_ishr, i_lxor, i_ladd, i_lsub, i_lmul, i_ldiv, i_lrem, i_lneg, i_lshl, i_lcmp, i_i2l, i_l2i, i_i2b, i_i2s, i_ifeq, i_ifne, i_iflt, i_ifge, i_ifgt, i_ifle, i_cmpeq, i_cmpne, i_cmplt, i_cmpge, i_cmpgt, i_cmple, i_acmpeq, i_acmpne, i_ifnull, i_ifnonnull, i_getI, i_getR, i_putI, i_putZ, i_putR, i_ald, i_ldL, i_ldR, i_ast, i_stL, i_stR, i_alen, i_new, i_newa, i_iret, i_zret, i_lret, i_aret, i_vret, i_raise, i_throw, i_recv, i_objinit, i_tsw3, lget, lset, lput1, lput2, lkil, ltrim, largs, isL, takev, dropv, nthv, pushO, catv, gd, true_and, and_true, Option.some.injEq, Prod.mk.injEq, exists_eq_left', if_true, if_false, reduceCtorEq, Bool.false_eq_true, lcmp_ge, lcmp_lt, lcmp_le, lcmp_gt, lcmp_eq, true_or, or_true, not_true_eq_false, not_false_eq_true, false_implies, true_implies, List.length_cons, List.length_nil, o1, o2, o3, w1, w2, w3, h2]
      refine ⟨fun h => by omega, fun h => ⟨hj, by omega, hj, by omega, by simp [okT], in_small (by omega) (by omega), ?_⟩⟩
      refine ih _ _ (by omega) (by omega) ?_ (by simp [pmu, h1]) (by simp [pmu, h2]) ?_
      · intro a i ha hb; simp [pmu, hb, hk a i ha hb]
      · intro i hi hlt
        simp only [pmu, true_and]
        split
        · subst_vars; exact hk _ _ c2 c3
        · exact hd i hi (by omega)
  refine wp_in ?_
  simp only [P_X17_copy, i_kil, i_icon, i_lcon, i_null, i_loadI, i_loadL, i_loadR, i_istore, i_lstore, i_astore, i_iinc, i_dup, i_dup2, i_pop, i_iadd, i_isub, i_imul, i_idiv, i_irem, i_ineg, i_iand, i_ior, i_ishl, i_ishr, i_lxor, i_ladd, i_lsub, i_lmul, i_ldiv, i_lrem, i_lneg, i_lshl, i_lcmp, i_i2l, i_l2i, i_i2b, i_i2s, i_ifeq, i_ifne, i_iflt, i_ifge, i_ifgt, i_ifle, i_cmpeq, i_cmpne, i_cmplt, i_cmpge, i_cmpgt, i_cmple, i_acmpeq, i_acmpne, i_ifnull, i_ifnonnull, i_getI, i_getR, i_putI, i_putZ, i_putR, i_ald, i_ldL, i_ldR, i_ast, i_stL, i_stR, i_alen, i_new, i_newa, i_iret, i_zret, i_lret, i_aret, i_vret, i_raise, i_throw, i_recv, i_objinit, i_tsw3, lget, lset, lput1, lput2, lkil, ltrim, largs, isL, takev, dropv, nthv, pushO, catv, gd, true_and, and_true, Option.some.injEq, Prod.mk.injEq, exists_eq_left', if_true, if_false, reduceCtorEq, Bool.false_eq_true, lcmp_ge, lcmp_lt, lcmp_le, lcmp_gt, lcmp_eq, true_or, or_true, not_true_eq_false, not_false_eq_true, false_implies, true_implies, List.length_cons, List.length_nil, o1, o2, o3, w1, w2, w3]
  refine loop q 0 _ (Int.le_refl _) (by omega) (fun a i h1 h2 => by simp [pmu, h1]) ?_ ?_ (fun i h1 h2 => by omega)
  · simp [pmu, a3]
  · simp [pmu, Ne.symm hne, hne, a1]
theorem sp_X17_copy2 {E : Ex} {B : Nat × Nat} {S : Stat} {D : Dat} {w n : Nat} {z : Int} (hw : wS 17 S w n) (hz : wD 2 1 D w z) (hn : (z.natAbs : Int) < 1000000000 ^ n) (hn2 : n < 1000)
    (k : ∀ D' : Dat, wO D D' w → wD 2 1 D' w z → E (.inl none) B S D') :
    Wp P_X17_copy E 0 [some (aR w), some (aR w)] [] B S D := by
  have hz0 := hz
  obtain ⟨w1, w2, w3⟩ := hw
  obtain ⟨q, a1, a2, a3, a4⟩ := hz
  have hqn : q ≤ n := a2.size_le (by rw [← a4]; exact hn)
  have loop : ∀ (N : Nat) (j : Int) (D' : Dat), 0 ≤ j → j + N = q → (∀ a i, D' a i = D a i) →
      Wp P_X17_copy E 1 [some (aR w), some (aR w), some (aI j)] [] B S D' := by
    intro N
    induction N with
    | zero =>
      intro j D' hj hs hk
      refine wp_in ?_
      simp only [P_X17_copy, i_kil, i_icon, i_lcon, i_null, i_loadI, i_loadL, i_loadR, i_istore, i_lstore, i_astore, i_iinc, i_dup, i_dup2, i_pop, i_iadd, i_isub, i_imul, i_idiv, i_irem, i_ineg, i_iand, i_ior, i_ishl, i_ishr, i_lxor, i_ladd, i_lsub, i_lmul, i_ldiv, i_lrem, i_lneg, i_lshl, i_lcmp, i_i2l, i_l2i, i_i2b, i_i2s, i_ifeq, i_ifne, i_iflt, i_ifge, i_ifgt, i_ifle, i_cmpeq, i_cmpne, i_cmplt, i_cmpge, i_cmpgt, i_cmple, i_acmpeq, i_acmpne, i_ifnull, i_ifnonnull, i_getI, i_getR, i_putI, i_putZ, i_putR, i_ald, i_ldL, i_ldR, i_ast, i_stL, i_stR, i_alen, i_new, i_newa, i_iret, i_zret, i_lret, i_aret, i_vret, i_raise, i_throw, i_recv, i_objinit, i_tsw3, lget, lset, lput1, lput2, lkil, ltrim, largs, isL, takev, dropv, nthv, pushO, catv, gd, true_and, and_true, Option.some.injEq, Prod.mk.injEq, exists_eq_left', if_true, if_false, reduceCtorEq, Bool.false_eq_true, lcmp_ge, lcmp_lt, lcmp_le, lcmp_gt, lcmp_eq, true_or, or_true, not_true_eq_false, not_false_eq_true, false_implies, true_implies, List.length_cons, List.length_nil, w1, hk w 2, a1]
      refine ⟨fun h => ?_, fun h => by omega⟩
      exact k _ (fun a i _ _ => hk a i) (hz0.congr (fun i => hk _ i) (fun i => hk _ i))
    | succ N ih =>
      intro j D' hj hs hk
      refine wp_in ?_
      simp only [P_X17_copy, i_kil, i_icon, i_lcon, i_null, i_loadI, i_loadL, i_loadR, i_istore, i_lstore, i_astore, i_iinc, i_dup, i_dup2, i_pop, i_iadd, i_isub, i_imul, i_idiv, i_irem, i_ineg, i_iand, i_ior, i_ishl, i_ishr, i_lxor, i_ladd, i_lsub, i_lmul, i_ldiv, i_lrem, i_lneg, i_lshl, i_lcmp, i_i2l, i_l2i, i_i2b, i_i2s, i_ifeq, i_ifne, i_iflt, i_ifge, i_ifgt, i_ifle, i_cmpeq, i_cmpne, i_cmplt, i_cmpge, i_cmpgt, i_cmple, i_acmpeq, i_acmpne, i_ifnull, i_ifnonnull, i_getI, i_getR, i_putI, i_putZ, i_putR, i_ald, i_ldL, i_ldR, i_ast, i_stL, i_stR, i_alen, i_new, i_newa, i_iret, i_zret, i_lret, i_aret, i_vret, i_raise, i_throw, i_recv, i_objinit, i_tsw3, lget, lset, lput1, lput2, lkil, ltrim, largs, isL, takev, dropv, nthv, pushO, catv, gd, true_and, and_true, Option.some.injEq, Prod.mk.injEq, exists_eq_left', if_true, if_false, reduceCtorEq, Bool.false_eq_true, lcmp_ge, lcmp_lt, lcmp_le, lcmp_gt, lcmp_eq, true_or, or_true, not_true_eq_false, not_false_eq_true, false_implies, true_implies, List.length_cons, List.length_nil, w1, w2, w3, hk w 2, a1]
      refine ⟨fun h => by omega, fun h => ⟨hj, by omega, hj, by omega, by simp [okT], in_small (by omega) (by omega), ?_⟩⟩
      refine ih _ _ (by omega) (by omega) fun a i => ?_
      simp only [pmu]
      split
      · rename_i h; rw [h.1, h.2]; exact hk _ _
      · exact hk a i
  refine wp_in ?_
  simp only [P_X17_copy, i_kil, i_icon, i_lcon, i_null, i_loadI, i_loadL, i_loadR, i_istore, i_lstore, i_astore, i_iinc, i_dup, i_dup2, i_pop, i_iadd, i_isub, i_imul, i_idiv, i_irem, i_ineg, i_iand, i_ior, i_ishl, i_ishr, i_lxor, i_ladd, i_lsub, i_lmul, i_ldiv, i_lrem, i_lneg, i_lshl, i_lcmp, i_i2l, i_l2i, i_i2b, i_i2s, i_ifeq, i_ifne, i_iflt, i_ifge, i_ifgt, i_ifle, i_cmpeq, i_cmpne, i_cmplt, i_cmpge, i_cmpgt, i_cmple, i_acmpeq, i_acmpne, i_ifnull, i_ifnonnull, i_getI, i_getR, i_putI, i_putZ, i_putR, i_ald, i_ldL, i_ldR, i_ast, i_stL, i_stR, i_alen, i_new, i_newa, i_iret, i_zret, i_lret, i_aret, i_vret, i_raise, i_throw, i_recv, i_objinit, i_tsw3, lget, lset, lput1, lput2, lkil, ltrim, largs, isL, takev, dropv, nthv, pushO, catv, gd, true_and, and_true, Option.some.injEq, Prod.mk.injEq, exists_eq_left', if_true, if_false, reduceCtorEq, Bool.false_eq_true, lcmp_ge, lcmp_lt, lcmp_le, lcmp_gt, lcmp_eq, true_or, or_true, not_true_eq_false, not_false_eq_true, false_implies, true_implies, List.length_cons, List.length_nil, w1, w2, w3]
  refine loop q 0 _ (Int.le_refl _) (by omega) fun a i => ?_
  simp only [pmu]
  split
  · rename_i h; rw [if_neg (fun g => by omega), h.1, h.2]
  · split
    · rename_i h; rw [h.1, h.2]
    · rfl
theorem sp_X17_copy {E : Ex} {B : Nat × Nat} {S : Stat} {D : Dat} {w o n m : Nat} {z : Int} (hw : wS 17 S w n) (ho : wS 17 S o m) (hz : wD 2 1 D o z) (hn : (z.natAbs : Int) < 1000000000 ^ n) (hm : (z.natAbs : Int) < 1000000000 ^ m) (hn2 : n < 1000)
    (k : ∀ D' : Dat, wO D D' w → wD 2 1 D' w z → E (.inl none) B S D') :
    Wp P_X17_copy E 0 [some (aR w), some (aR o)] [] B S D := by
  by_cases h : w = o
  · subst h; exact sp_X17_copy2 hw hz hn hn2 k
  · exact sp_X17_copy1 hw ho h hz hn hm hn2 k
theorem sp_X17_set {E : Ex} {B : Nat × Nat} {S : Stat} {D : Dat} {w r : Nat} {v : Int} (hw : wS 17 S w r) (hr : 3 ≤ r) (hr2 : r < 1000) (hv : -9223372036854775808 ≤ v ∧ v ≤ 9223372036854775807)
    (k : ∀ D' : Dat, wO D D' w → wD 2 1 D' w v → E (.inl none) B S D') : Wp P_X17_set E 0 [some (aR w), some (aL v), none] [] B S D := by
  obtain ⟨w1, w2, w3⟩ := hw
  have loop : ∀ (N j : Nat) (rest : Int) (D' : Dat), 0 ≤ rest → rest < 1000000000 ^ N → j + N = 3 → (∀ a i, a ≠ w → a ≠ w + 1 → D' a i = D a i) → D' w 2 = j → D' w 1 = Int.sign v → dok (D' (w + 1)) j → dv (D' (w + 1)) j + rest * 1000000000 ^ j = v.natAbs → (rest = 0 → dcan (D' (w + 1)) j) →
      Wp P_X17_set E 3 [some (aR w), none, none, some (aL (-rest))] [] B S D' := by
    intro N
    induction N with
    | zero =>
      intro j rest D' h0 h1 hj hk ha hb hc hd he
      have hr0 : rest = 0 := by simp at h1; omega
      subst hr0
      refine wp_in ?_
      simp only [P_X17_set, i_kil, i_icon, i_lcon, i_null, i_loadI, i_loadL, i_loadR, i_istore, i_lstore, i_astore, i_iinc, i_dup, i_dup2, i_pop, i_iadd, i_isub, i_imul, i_idiv, i_irem, i_ineg, i_iand, i_ior, i_ishl, i_ishr, i_lxor, i_ladd, i_lsub, i_lmul, i_ldiv, i_lrem, i_lneg, i_lshl, i_lcmp, i_i2l, i_l2i, i_i2b, i_i2s, i_ifeq, i_ifne, i_iflt, i_ifge, i_ifgt, i_ifle, i_cmpeq, i_cmpne, i_cmplt, i_cmpge, i_cmpgt, i_cmple, i_acmpeq, i_acmpne, i_ifnull, i_ifnonnull, i_getI, i_getR, i_putI, i_putZ, i_putR, i_ald, i_ldL, i_ldR, i_ast, i_stL, i_stR, i_alen, i_new, i_newa, i_iret, i_zret, i_lret, i_aret, i_vret, i_raise, i_throw, i_recv, i_objinit, i_tsw3, lget, lset, lput1, lput2, lkil, ltrim, largs, isL, takev, dropv, nthv, pushO, catv, gd, true_and, and_true, Option.some.injEq, Prod.mk.injEq, exists_eq_left', if_true, if_false, reduceCtorEq, Bool.false_eq_true, lcmp_ge, lcmp_lt, lcmp_le, lcmp_gt, lcmp_eq, true_or, or_true, not_true_eq_false, not_false_eq_true, false_implies, true_implies, List.length_cons, List.length_nil, w1, w2, w3]
      refine ⟨fun _ => k _ hk (wD.of ha hb (fun _ _ _ => rfl) (he rfl) (by omega)), fun h => by omega⟩
    | succ N ih =>
      intro j rest D' h0 h1 hj hk ha hb hc hd he
      refine wp_in ?_
      simp only [P_X17_set, i_kil, i_icon, i_lcon, i_null, i_loadI, i_loadL, i_loadR, i_istore, i_lstore, i_astore, i_iinc, i_dup, i_dup2, i_pop, i_iadd, i_isub, i_imul, i_idiv, i_irem, i_ineg, i_iand, i_ior, i_ishl, i_ishr, i_lxor, i_ladd, i_lsub, i_lmul, i_ldiv, i_lrem, i_lneg, i_lshl, i_lcmp, i_i2l, i_l2i, i_i2b, i_i2s, i_ifeq, i_ifne, i_iflt, i_ifge, i_ifgt, i_ifle, i_cmpeq, i_cmpne, i_cmplt, i_cmpge, i_cmpgt, i_cmple, i_acmpeq, i_acmpne, i_ifnull, i_ifnonnull, i_getI, i_getR, i_putI, i_putZ, i_putR, i_ald, i_ldL, i_ldR, i_ast, i_stL, i_stR, i_alen, i_new, i_newa, i_iret, i_zret, i_lret, i_aret, i_vret, i_raise, i_throw, i_recv, i_objinit, i_tsw3, lget, lset, lput1, lput2, lkil, ltrim, largs, isL, takev, dropv, nthv, pushO, catv, gd, true_and, and_true, Option.some.injEq, Prod.mk.injEq, exists_eq_left', if_true, if_false, reduceCtorEq, Bool.false_eq_true, lcmp_ge, lcmp_lt, lcmp_le, lcmp_gt, lcmp_eq, true_or, or_true, not_true_eq_false, not_false_eq_true, false_implies, true_implies, List.length_cons, List.length_nil, w1, w2, w3, ha]
      refine ⟨fun h => ?_, fun h => ?_⟩
      · have hr0 : rest = 0 := by omega
        subst hr0
        exact k _ hk (wD.of ha hb (fun _ _ _ => rfl) (he rfl) (by omega))
      · rw [Int.neg_tdiv, Int.neg_tmod, tdiv_nn h0, tmod_nn h0, Int.neg_neg]
        have hm := Int.emod_nonneg rest (show (1000000000 : Int) ≠ 0 by decide)
        have hm2 := Int.emod_lt_of_pos rest (show (0 : Int) < 1000000000 by decide)
        have hq : rest < 10000000000000000000 := by
          have h4 := dv_nn hc
          have h5 := Int.mul_le_mul_of_nonneg_left (show (1 : Int) ≤ 1000000000 ^ j by have := pw_pos j; omega) h0
          omega
        have hlim : 0 ≤ rest / 1000000000 ∧ rest / 1000000000 < 1000000000 ^ N := by rw [pw_succ] at h1; omega
        have e1 : ∀ i, (pmu (pmu D' (w + 1) j (rest % 1000000000)) w 2 (pmu D' (w + 1) j (rest % 1000000000) w 2 + 1)) (w + 1) i = if i = j then rest % 1000000000 else D' (w + 1) i := fun i => by simp [pmu]
        have L : Wp P_X17_set E 3 [some (aR w), none, none, some (aL (-(rest / 1000000000)))] [] B S (pmu (pmu D' (w + 1) j (rest % 1000000000)) w 2 (pmu D' (w + 1) j (rest % 1000000000) w 2 + 1)) := by
          refine ih (j + 1) _ _ hlim.1 hlim.2 (by omega) ?_ (by simp [pmu, ha]) (by simp [pmu, hb]) ?_ ?_ ?_
          · intro a i h2 h3; simp [pmu, h2, h3, hk a i h2 h3]
          · intro i h2 h3; rw [e1]; split
            · exact ⟨hm, hm2⟩
            · exact hc i h2 (by omega)
          · simp only [dv, e1, if_true]
            rw [dv_congr (g := D' (w + 1)) (fun i h2 h3 => by rw [e1, if_neg (by omega)]), pw_succ, ← hd]
            have h6 := Int.emod_add_mul_ediv rest 1000000000
            generalize rest % 1000000000 = a at *
            generalize rest / 1000000000 = b at *
            generalize (1000000000 : Int) ^ j = p at *
            subst h6
            grind
          · intro h7
            refine ⟨fun i h2 h3 => ?_, fun _ => ?_⟩
            · rw [e1]; split
              · exact ⟨hm, hm2⟩
              · exact hc i h2 (by omega)
            · rw [e1, if_pos (by omega)]; omega
        refine ⟨by decide, by unfold inL; omega, by unfold inL; omega, by unfold inI; omega, by omega, by omega, by simp [okT], ?_, by decide, by unfold inL; omega, L⟩
        simp only [pmu]; simp [ha]; unfold inI; omega
  have L1 : Wp P_X17_set E 1 [some (aR w), some (aL v)] [aI (Int.sign v), aR w] B S D := by
    have L2 : ∀ D', D' = pmu (pmu D w 1 (Int.sign v)) w 2 0 → Wp P_X17_set E 2 [some (aR w)] [aL (-v.natAbs)] B S D' := by
      intro D' hD
      refine wp_in ?_
      simp only [P_X17_set, i_kil, i_icon, i_lcon, i_null, i_loadI, i_loadL, i_loadR, i_istore, i_lstore, i_astore, i_iinc, i_dup, i_dup2, i_pop, i_iadd, i_isub, i_imul, i_idiv, i_irem, i_ineg, i_iand, i_ior, i_ishl, i_ishr, i_lxor, i_ladd, i_lsub, i_lmul, i_ldiv, i_lrem, i_lneg, i_lshl, i_lcmp, i_i2l, i_l2i, i_i2b, i_i2s, i_ifeq, i_ifne, i_iflt, i_ifge, i_ifgt, i_ifle, i_cmpeq, i_cmpne, i_cmplt, i_cmpge, i_cmpgt, i_cmple, i_acmpeq, i_acmpne, i_ifnull, i_ifnonnull, i_getI, i_getR, i_putI, i_putZ, i_putR, i_ald, i_ldL, i_ldR, i_ast, i_stL, i_stR, i_alen, i_new, i_newa, i_iret, i_zret, i_lret, i_aret, i_vret, i_raise, i_throw, i_recv, i_objinit, i_tsw3, lget, lset, lput1, lput2, lkil, ltrim, largs, isL, takev, dropv, nthv, pushO, catv, gd, true_and, and_true, Option.some.injEq, Prod.mk.injEq, exists_eq_left', if_true, if_false, reduceCtorEq, Bool.false_eq_true, lcmp_ge, lcmp_lt, lcmp_le, lcmp_gt, lcmp_eq, true_or, or_true, not_true_eq_false, not_false_eq_true, false_implies, true_implies, List.length_cons, List.length_nil, w1, w2, w3]
      subst hD
      refine loop 3 0 _ _ (by omega) (by have : (1000000000 : Int) ^ 3 = 1000000000000000000000000000 := by decide
                                         omega) rfl ?_ (by simp [pmu]) (by simp [pmu]) (fun i h1 h2 => by omega) (by simp [dv]) (fun _ => ⟨fun i h1 h2 => by omega, fun h => absurd h (by decide)⟩)
      intro a i h1 h2; simp [pmu, h1]
    refine wp_in ?_
    simp only [P_X17_set, i_kil, i_icon, i_lcon, i_null, i_loadI, i_loadL, i_loadR, i_istore, i_lstore, i_astore, i_iinc, i_dup, i_dup2, i_pop, i_iadd, i_isub, i_imul, i_idiv, i_irem, i_ineg, i_iand, i_ior, i_ishl, i_ishr, i_lxor, i_ladd, i_lsub, i_lmul, i_ldiv, i_lrem, i_lneg, i_lshl, i_lcmp, i_i2l, i_l2i, i_i2b, i_i2s, i_ifeq, i_ifne, i_iflt, i_ifge, i_ifgt, i_ifle, i_cmpeq, i_cmpne, i_cmplt, i_cmpge, i_cmpgt, i_cmple, i_acmpeq, i_acmpne, i_ifnull, i_ifnonnull, i_getI, i_getR, i_putI, i_putZ, i_putR, i_ald, i_ldL, i_ldR, i_ast, i_stL, i_stR, i_alen, i_new, i_newa, i_iret, i_zret, i_lret, i_aret, i_vret, i_raise, i_throw, i_recv, i_objinit, i_tsw3, lget, lset, lput1, lput2, lkil, ltrim, largs, isL, takev, dropv, nthv, pushO, catv, gd, true_and, and_true, Option.some.injEq, Prod.mk.injEq, exists_eq_left', if_true, if_false, reduceCtorEq, Bool.false_eq_true, lcmp_ge, lcmp_lt, lcmp_le, lcmp_gt, lcmp_eq, true_or, or_true, not_true_eq_false, not_false_eq_true, false_implies, true_implies, List.length_cons, List.length_nil, w1, w2, w3]
    have L3 := L2 _ rfl
    refine ⟨fun h => ⟨by unfold inL; omega, ?_⟩, fun h => ?_⟩
    · rw [show (v.natAbs : Int) = v by omega] at L3; exact L3
    · rw [show -(v.natAbs : Int) = v by omega] at L3; exact L3
  refine wp_in ?_
  simp only [P_X17_set, i_kil, i_icon, i_lcon, i_null, i_loadI, i_loadL, i_loadR, i_istore, i_lstore, i_astore, i_iinc, i_dup, i_dup2, i_pop, i_iadd, i_isub, i_imul, i_idiv, i_irem, i_ineg, i_iand, i_ior, i_ishl, i_ishr, i_lxor, i_ladd, i_lsub, i_lmul, i_ldiv, i_lrem, i_lneg, i_lshl, i_lcmp, i_i2l, i_l2i, i_i2b, i_i2s, i_ifeq, i_ifne, i_iflt, i_ifge, i_ifgt, i_ifle, i_cmpeq, i_cmpne, i_cmplt, i_cmpge, i_cmpgt, i_cmple, i_acmpeq, i_acmpne, i_ifnull, i_ifnonnull, i_getI, i_getR, i_putI, i_putZ, i_putR, i_ald, i_ldL, i_ldR, i_ast, i_stL, i_stR, i_alen, i_new, i_newa, i_iret, i_zret, i_lret, i_aret, i_vret, i_raise, i_throw, i_recv, i_objinit, i_tsw3, lget, lset, lput1, lput2, lkil, ltrim, largs, isL, takev, dropv, nthv, pushO, catv, gd, true_and, and_true, Option.some.injEq, Prod.mk.injEq, exists_eq_left', if_true, if_false, reduceCtorEq, Bool.false_eq_true, lcmp_ge, lcmp_lt, lcmp_le, lcmp_gt, lcmp_eq, true_or, or_true, not_true_eq_false, not_false_eq_true, false_implies, true_implies, List.length_cons, List.length_nil, w1, w2, w3]
  rcases sgn_cases v with ⟨h1, h2, h3⟩ | ⟨h1, h2⟩ | ⟨h1, h2, h3⟩
  · rw [h1] at L1
    exact ⟨fun _ => ⟨fun h => by omega, fun _ => L1⟩, fun h => by omega⟩
  · rw [h1] at L1
    exact ⟨fun _ => ⟨fun _ => L1, fun h => by omega⟩, fun h => by omega⟩
  · rw [h1] at L1
    exact ⟨fun h => by omega, fun _ => L1⟩
theorem sp_X17_isOne {E : Ex} {B : Nat × Nat} {S : Stat} {D : Dat} {w r : Nat} {z : Int} (hw : wS 17 S w r) (hz : wD 2 1 D w z) (hr : 1 ≤ r) (hr2 : r < 1000)
    (k : E (.inl (some (.inl (if z = 1 then 1 else 0)))) B S D) : Wp P_X17_isOne E 0 [some (aR w)] [] B S D := by
  obtain ⟨w1, w2, w3⟩ := hw
  obtain ⟨n, a1, a2, a3, a4⟩ := hz
  have no : ¬ z = 1 → Wp P_X17_isOne E 1 [] [] B S D := fun h => by
    refine wp_in ?_
    simp only [P_X17_isOne, i_kil, i_icon, i_lcon, i_null, i_loadI, i_loadL, i_loadR, i_istore, i_lstore, i_astore, i_iinc, i_dup, i_dup2, i_pop, i_iadd, i_isub, i_imul, i_idiv, i_irem, i_ineg, i_iand, i_ior, i_ishl, i_ishr, i_lxor, i_ladd, i_lsub, i_lmul, i_ldiv, i_lrem, i_lneg, i_lshl, i_lcmp, i_i2l, i_l2i, i_i2b, i_i2s, i_ifeq, i_ifne, i_iflt, i_ifge, i_ifgt, i_ifle, i_cmpeq, i_cmpne, i_cmplt, i_cmpge, i_cmpgt, i_cmple, i_acmpeq, i_acmpne, i_ifnull, i_ifnonnull, i_getI, i_getR, i_putI, i_putZ, i_putR, i_ald, i_ldL, i_ldR, i_ast, i_stL, i_stR, i_alen, i_new, i_newa, i_iret, i_zret, i_lret, i_aret, i_vret, i_raise, i_throw, i_recv, i_objinit, i_tsw3, lget, lset, lput1, lput2, lkil, ltrim, largs, isL, takev, dropv, nthv, pushO, catv, gd, true_and, and_true, Option.some.injEq, Prod.mk.injEq, exists_eq_left', if_true, if_false, reduceCtorEq, Bool.false_eq_true, lcmp_ge, lcmp_lt, lcmp_le, lcmp_gt, lcmp_eq, true_or, or_true, not_true_eq_false, not_false_eq_true, false_implies, true_implies, List.length_cons, List.length_nil]
    refine wp_in ?_
    simp only [P_X17_isOne, i_kil, i_icon, i_lcon, i_null, i_loadI, i_loadL, i_loadR, i_istore, i_lstore, i_astore, i_iinc, i_dup, i_dup2, i_pop, i_iadd, i_isub, i_imul, i_idiv, i_irem, i_ineg, i_iand, i_ior, i_ishl, i_ishr, i_lxor, i_ladd, i_lsub, i_lmul, i_ldiv, i_lrem, i_lneg, i_lshl, i_lcmp, i_i2l, i_l2i, i_i2b, i_i2s, i_ifeq, i_ifne, i_iflt, i_ifge, i_ifgt, i_ifle, i_cmpeq, i_cmpne, i_cmplt, i_cmpge, i_cmpgt, i_cmple, i_acmpeq, i_acmpne, i_ifnull, i_ifnonnull, i_getI, i_getR, i_putI, i_putZ, i_putR, i_ald, i_ldL, i_ldR, i_ast, i_stL, i_stR, i_alen, i_new, i_newa, i_iret, i_zret, i_lret, i_aret, i_vret, i_raise, i_throw, i_recv, i_objinit, i_tsw3, lget, lset, lput1, lput2, lkil, ltrim, largs, isL, takev, dropv, nthv, pushO, catv, gd, true_and, and_true, Option.some.injEq, Prod.mk.injEq, exists_eq_left', if_true, if_false, reduceCtorEq, Bool.false_eq_true, lcmp_ge, lcmp_lt, lcmp_le, lcmp_gt, lcmp_eq, true_or, or_true, not_true_eq_false, not_false_eq_true, false_implies, true_implies, List.length_cons, List.length_nil]
    rw [if_neg h] at k
    exact k
  refine wp_in ?_
  simp only [P_X17_isOne, i_kil, i_icon, i_lcon, i_null, i_loadI, i_loadL, i_loadR, i_istore, i_lstore, i_astore, i_iinc, i_dup, i_dup2, i_pop, i_iadd, i_isub, i_imul, i_idiv, i_irem, i_ineg, i_iand, i_ior, i_ishl, i_ishr, i_lxor, i_ladd, i_lsub, i_lmul, i_ldiv, i_lrem, i_lneg, i_lshl, i_lcmp, i_i2l, i_l2i, i_i2b, i_i2s, i_ifeq, i_ifne, i_iflt, i_ifge, i_ifgt, i_ifle, i_cmpeq, i_cmpne, i_cmplt, i_cmpge, i_cmpgt, i_cmple, i_acmpeq, i_acmpne, i_ifnull, i_ifnonnull, i_getI, i_getR, i_putI, i_putZ, i_putR, i_ald, i_ldL, i_ldR, i_ast, i_stL, i_stR, i_alen, i_new, i_newa, i_iret, i_zret, i_lret, i_aret, i_vret, i_raise, i_throw, i_recv, i_objinit, i_tsw3, lget, lset, lput1, lput2, lkil, ltrim, largs, isL, takev, dropv, nthv, pushO, catv, gd, true_and, and_true, Option.some.injEq, Prod.mk.injEq, exists_eq_left', if_true, if_false, reduceCtorEq, Bool.false_eq_true, lcmp_ge, lcmp_lt, lcmp_le, lcmp_gt, lcmp_eq, true_or, or_true, not_true_eq_false, not_false_eq_true, false_implies, true_implies, List.length_cons, List.length_nil, w1, w2, w3, a1, a3]
  refine ⟨fun h => no fun q => h (by rw [q]; rfl), fun h => ⟨fun h1 => no fun q => ?_, fun h1 => ⟨by omega, by omega, fun h2 => no fun q => ?_, fun h2 => wp_in ?_⟩⟩⟩
  · subst q
    have h3 : dv (D (w + 1)) n = 1 := by rw [← a4]; rfl
    have h4 := a2.size_le (r := 1) (by rw [h3]; decide)
    have h5 : n ≠ 0 := fun q => by subst q; simp [dv] at h3
    exact h1 (by omega)
  · subst q
    have hn1 : n = 1 := by omega
    subst hn1
    simp [dv] at a4
    exact h2 a4.symm
  · simp only [P_X17_isOne, i_kil, i_icon, i_lcon, i_null, i_loadI, i_loadL, i_loadR, i_istore, i_lstore, i_astore, i_iinc, i_dup, i_dup2, i_pop, i_iadd, i_isub, i_imul, i_idiv, i_irem, i_ineg, i_iand, i_ior, i_ishl, i_ishr, i_lxor, i_ladd, i_lsub, i_lmul, i_ldiv, i_lrem, i_lneg, i_lshl, i_lcmp, i_i2l, i_l2i, i_i2b, i_i2s, i_ifeq, i_ifne, i_iflt, i_ifge, i_ifgt, i_ifle, i_cmpeq, i_cmpne, i_cmplt, i_cmpge, i_cmpgt, i_cmple, i_acmpeq, i_acmpne, i_ifnull, i_ifnonnull, i_getI, i_getR, i_putI, i_putZ, i_putR, i_ald, i_ldL, i_ldR, i_ast, i_stL, i_stR, i_alen, i_new, i_newa, i_iret, i_zret, i_lret, i_aret, i_vret, i_raise, i_throw, i_recv, i_objinit, i_tsw3, lget, lset, lput1, lput2, lkil, ltrim, largs, isL, takev, dropv, nthv, pushO, catv, gd, true_and, and_true, Option.some.injEq, Prod.mk.injEq, exists_eq_left', if_true, if_false, reduceCtorEq, Bool.false_eq_true, lcmp_ge, lcmp_lt, lcmp_le, lcmp_gt, lcmp_eq, true_or, or_true, not_true_eq_false, not_false_eq_true, false_implies, true_implies, List.length_cons, List.length_nil]
    have hn1 : n = 1 := by omega
    subst hn1
    simp [dv, h2] at a4
    have hz1 : z = 1 := by rcases sgn_cases z with q | q | q <;> omega
    rw [if_pos hz1] at k
    exact k
theorem sp_X17_isBeyond {E : Ex} {B : Nat × Nat} {S : Stat} {D : Dat} {w r : Nat} {z : Int} (hw : wS 17 S w r) (hz : wD 2 1 D w z) (hr : 14 ≤ r) (hr2 : r < 1000)
    (k : E (.inl (some (.inl (if (z.natAbs : Int) < 1000 * 1000000000 ^ 13 then 0 else 1)))) B S D) : Wp P_X17_isBeyond E 0 [some (aR w)] [] B S D := by
  obtain ⟨w1, w2, w3⟩ := hw
  obtain ⟨n, a1, a2, a3, a4⟩ := hz
  have no : (z.natAbs : Int) < 1000 * 1000000000 ^ 13 → Wp P_X17_isBeyond E 2 [] [] B S D := fun h => by
    refine wp_in ?_
    simp only [P_X17_isBeyond, i_kil, i_icon, i_lcon, i_null, i_loadI, i_loadL, i_loadR, i_istore, i_lstore, i_astore, i_iinc, i_dup, i_dup2, i_pop, i_iadd, i_isub, i_imul, i_idiv, i_irem, i_ineg, i_iand, i_ior, i_ishl, i_ishr, i_lxor, i_ladd, i_lsub, i_lmul, i_ldiv, i_lrem, i_lneg, i_lshl, i_lcmp, i_i2l, i_l2i, i_i2b, i_i2s, i_ifeq, i_ifne, i_iflt, i_ifge, i_ifgt, i_ifle, i_cmpeq, i_cmpne, i_cmplt, i_cmpge, i_cmpgt, i_cmple, i_acmpeq, i_acmpne, i_ifnull, i_ifnonnull, i_getI, i_getR, i_putI, i_putZ, i_putR, i_ald, i_ldL, i_ldR, i_ast, i_stL, i_stR, i_alen, i_new, i_newa, i_iret, i_zret, i_lret, i_aret, i_vret, i_raise, i_throw, i_recv, i_objinit, i_tsw3, lget, lset, lput1, lput2, lkil, ltrim, largs, isL, takev, dropv, nthv, pushO, catv, gd, true_and, and_true, Option.some.injEq, Prod.mk.injEq, exists_eq_left', if_true, if_false, reduceCtorEq, Bool.false_eq_true, lcmp_ge, lcmp_lt, lcmp_le, lcmp_gt, lcmp_eq, true_or, or_true, not_true_eq_false, not_false_eq_true, false_implies, true_implies, List.length_cons, List.length_nil]
    refine wp_in ?_
    simp only [P_X17_isBeyond, i_kil, i_icon, i_lcon, i_null, i_loadI, i_loadL, i_loadR, i_istore, i_lstore, i_astore, i_iinc, i_dup, i_dup2, i_pop, i_iadd, i_isub, i_imul, i_idiv, i_irem, i_ineg, i_iand, i_ior, i_ishl, i_ishr, i_lxor, i_ladd, i_lsub, i_lmul, i_ldiv, i_lrem, i_lneg, i_lshl, i_lcmp, i_i2l, i_l2i, i_i2b, i_i2s, i_ifeq, i_ifne, i_iflt, i_ifge, i_ifgt, i_ifle, i_cmpeq, i_cmpne, i_cmplt, i_cmpge, i_cmpgt, i_cmple, i_acmpeq, i_acmpne, i_ifnull, i_ifnonnull, i_getI, i_getR, i_putI, i_putZ, i_putR, i_ald, i_ldL, i_ldR, i_ast, i_stL, i_stR, i_alen, i_new, i_newa, i_iret, i_zret, i_lret, i_aret, i_vret, i_raise, i_throw, i_recv, i_objinit, i_tsw3, lget, lset, lput1, lput2, lkil, ltrim, largs, isL, takev, dropv, nthv, pushO, catv, gd, true_and, and_true, Option.some.injEq, Prod.mk.injEq, exists_eq_left', if_true, if_false, reduceCtorEq, Bool.false_eq_true, lcmp_ge, lcmp_lt, lcmp_le, lcmp_gt, lcmp_eq, true_or, or_true, not_true_eq_false, not_false_eq_true, false_implies, true_implies, List.length_cons, List.length_nil]
    rw [if_pos h] at k
    exact k
  have yes : ¬ (z.natAbs : Int) < 1000 * 1000000000 ^ 13 → Wp P_X17_isBeyond E 1 [] [] B S D := fun h => by
    refine wp_in ?_
    simp only [P_X17_isBeyond, i_kil, i_icon, i_lcon, i_null, i_loadI, i_loadL, i_loadR, i_istore, i_lstore, i_astore, i_iinc, i_dup, i_dup2, i_pop, i_iadd, i_isub, i_imul, i_idiv, i_irem, i_ineg, i_iand, i_ior, i_ishl, i_ishr, i_lxor, i_ladd, i_lsub, i_lmul, i_ldiv, i_lrem, i_lneg, i_lshl, i_lcmp, i_i2l, i_l2i, i_i2b, i_i2s, i_ifeq, i_ifne, i_iflt, i_ifge, i_ifgt, i_ifle, i_cmpeq, i_cmpne, i_cmplt, i_cmpge, i_cmpgt, i_cmple, i_acmpeq, i_acmpne, i_ifnull, i_ifnonnull, i_getI, i_getR, i_putI, i_putZ, i_putR, i_ald, i_ldL, i_ldR, i_ast, i_stL, i_stR, i_alen, i_new, i_newa, i_iret, i_zret, i_lret, i_aret, i_vret, i_raise, i_throw, i_recv, i_objinit, i_tsw3, lget, lset, lput1, lput2, lkil, ltrim, largs, isL, takev, dropv, nthv, pushO, catv, gd, true_and, and_true, Option.some.injEq, Prod.mk.injEq, exists_eq_left', if_true, if_false, reduceCtorEq, Bool.false_eq_true, lcmp_ge, lcmp_lt, lcmp_le, lcmp_gt, lcmp_eq, true_or, or_true, not_true_eq_false, not_false_eq_true, false_implies, true_implies, List.length_cons, List.length_nil]
    refine wp_in ?_
    simp only [P_X17_isBeyond, i_kil, i_icon, i_lcon, i_null, i_loadI, i_loadL, i_loadR, i_istore, i_lstore, i_astore, i_iinc, i_dup, i_dup2, i_pop, i_iadd, i_isub, i_imul, i_idiv, i_irem, i_ineg, i_iand, i_ior, i_ishl, i_ishr, i_lxor, i_ladd, i_lsub, i_lmul, i_ldiv, i_lrem, i_lneg, i_lshl, i_lcmp, i_i2l, i_l2i, i_i2b, i_i2s, i_ifeq, i_ifne, i_iflt, i_ifge, i_ifgt, i_ifle, i_cmpeq, i_cmpne, i_cmplt, i_cmpge, i_cmpgt, i_cmple, i_acmpeq, i_acmpne, i_ifnull, i_ifnonnull, i_getI, i_getR, i_putI, i_putZ, i_putR, i_ald, i_ldL, i_ldR, i_ast, i_stL, i_stR, i_alen, i_new, i_newa, i_iret, i_zret, i_lret, i_aret, i_vret, i_raise, i_throw, i_recv, i_objinit, i_tsw3, lget, lset, lput1, lput2, lkil, ltrim, largs, isL, takev, dropv, nthv, pushO, catv, gd, true_and, and_true, Option.some.injEq, Prod.mk.injEq, exists_eq_left', if_true, if_false, reduceCtorEq, Bool.false_eq_true, lcmp_ge, lcmp_lt, lcmp_le, lcmp_gt, lcmp_eq, true_or, or_true, not_true_eq_false, not_false_eq_true, false_implies, true_implies, List.length_cons, List.length_nil]
    rw [if_neg h] at k
    exact k
  rw [a4] at yes no
  have h0 := dv_nn a2.1
  refine wp_in ?_
  simp only [P_X17_isBeyond, i_kil, i_icon, i_lcon, i_null, i_loadI, i_loadL, i_loadR, i_istore, i_lstore, i_astore, i_iinc, i_dup, i_dup2, i_pop, i_iadd, i_isub, i_imul, i_idiv, i_irem, i_ineg, i_iand, i_ior, i_ishl, i_ishr, i_lxor, i_ladd, i_lsub, i_lmul, i_ldiv, i_lrem, i_lneg, i_lshl, i_lcmp, i_i2l, i_l2i, i_i2b, i_i2s, i_ifeq, i_ifne, i_iflt, i_ifge, i_ifgt, i_ifle, i_cmpeq, i_cmpne, i_cmplt, i_cmpge, i_cmpgt, i_cmple, i_acmpeq, i_acmpne, i_ifnull, i_ifnonnull, i_getI, i_getR, i_putI, i_putZ, i_putR, i_ald, i_ldL, i_ldR, i_ast, i_stL, i_stR, i_alen, i_new, i_newa, i_iret, i_zret, i_lret, i_aret, i_vret, i_raise, i_throw, i_recv, i_objinit, i_tsw3, lget, lset, lput1, lput2, lkil, ltrim, largs, isL, takev, dropv, nthv, pushO, catv, gd, true_and, and_true, Option.some.injEq, Prod.mk.injEq, exists_eq_left', if_true, if_false, reduceCtorEq, Bool.false_eq_true, lcmp_ge, lcmp_lt, lcmp_le, lcmp_gt, lcmp_eq, true_or, or_true, not_true_eq_false, not_false_eq_true, false_implies, true_implies, List.length_cons, List.length_nil, w1, w2, w3, a1]
  refine ⟨fun h1 => yes ?_, fun h => ⟨fun h => no ?_, fun h1 => ⟨by omega, by omega, fun h2 => no ?_, fun h2 => yes ?_⟩⟩⟩
  · obtain ⟨m, rfl⟩ : ∃ m, n = m + 1 := ⟨n - 1, by omega⟩
    have h3 := dv_ge a2.1 a2.top
    have h4 := pw_mono (show 14 ≤ m by omega)
    rw [pw_succ 13] at h4
    have := pw_pos 13
    omega
  · have := pw_mono (show n ≤ 13 by omega)
    omega
  · have hn : n = 14 := by omega
    subst hn
    have h5 := dv_nn (a2.1.mono (show 13 ≤ 14 by decide))
    have h6 : D (w + 1) 13 * 1000000000 ^ 13 ≤ 999 * 1000000000 ^ 13 := Int.mul_le_mul_of_nonneg_right (by omega) (by decide)
    have h7 : dv (D (w + 1)) 14 = dv (D (w + 1)) 13 + D (w + 1) 13 * 1000000000 ^ 13 := rfl
    omega
  · have hn : n = 14 := by omega
    subst hn
    have h5 := dv_nn (a2.1.mono (show 13 ≤ 14 by decide))
    have h6 : 1000 * 1000000000 ^ 13 ≤ D (w + 1) 13 * 1000000000 ^ 13 := Int.mul_le_mul_of_nonneg_right h2 (by decide)
    have h7 : dv (D (w + 1)) 14 = dv (D (w + 1)) 13 + D (w + 1) 13 * 1000000000 ^ 13 := rfl
    omega
theorem sp_X17_isLike {E : Ex} {B : Nat × Nat} {S : Stat} {D : Dat} {w o n m : Nat} {y z : Int} (hw : wS 17 S w n) (ho : wS 17 S o m) (hy : wD 2 1 D w y) (hz : wD 2 1 D o z) (hn : (y.natAbs : Int) < 1000000000 ^ n) (hm : (z.natAbs : Int) < 1000000000 ^ m) (hn2 : n < 1000)
    (k : E (.inl (some (.inl (if y = z then 1 else 0)))) B S D) :
    Wp P_X17_isLike E 0 [some (aR w), some (aR o)] [] B S D := by
  obtain ⟨w1, w2, w3⟩ := hw
  obtain ⟨o1, o2, o3⟩ := ho
  obtain ⟨p, a1, a2, a3, a4⟩ := hy
  obtain ⟨q, b1, b2, b3, b4⟩ := hz
  have hpn : p ≤ n := a2.size_le (by rw [← a4]; exact hn)
  have hqm : q ≤ m := b2.size_le (by rw [← b4]; exact hm)
  have fin : ∀ v l1 l2, v = (if y = z then (1 : Int) else 0) → Wp P_X17_isLike E 5 [l1, l2, some (aI v)] [] B S D := by
    intro v l1 l2 hv
    refine wp_in ?_
    simp only [P_X17_isLike, i_kil, i_icon, i_lcon, i_null, i_loadI, i_loadL, i_loadR, i_istore, i_lstore, i_astore, i_iinc, i_dup, i_dup2, i_pop, i_iadd, i_isub, i_imul, i_idiv, i_irem, i_ineg, i_iand, i_ior, i_ishl, i_ishr, i_lxor, i_ladd, i_lsub, i_lmul, i_ldiv, i_lrem, i_lneg, i_lshl, i_lcmp, i_i2l, i_l2i, i_i2b, i_i2s, i_ifeq, i_ifne, i_iflt, i_ifge, i_ifgt, i_ifle, i_cmpeq, i_cmpne, i_cmplt, i_cmpge, i_cmpgt, i_cmple, i_acmpeq, i_acmpne, i_ifnull, i_ifnonnull, i_getI, i_getR, i_putI, i_putZ, i_putR, i_ald, i_ldL, i_ldR, i_ast, i_stL, i_stR, i_alen, i_new, i_newa, i_iret, i_zret, i_lret, i_aret, i_vret, i_raise, i_throw, i_recv, i_objinit, i_tsw3, lget, lset, lput1, lput2, lkil, ltrim, largs, isL, takev, dropv, nthv, pushO, catv, gd, true_and, and_true, Option.some.injEq, Prod.mk.injEq, exists_eq_left', if_true, if_false, reduceCtorEq, Bool.false_eq_true, lcmp_ge, lcmp_lt, lcmp_le, lcmp_gt, lcmp_eq, true_or, or_true, not_true_eq_false, not_false_eq_true, false_implies, true_implies, List.length_cons, List.length_nil]
    rw [hv]
    refine ⟨?_, k⟩
    split
    · exact .inr rfl
    · exact .inl rfl
  have late : ∀ j : Int, y ≠ z → Wp P_X17_isLike E 3 [some (aR w), some (aR o), some (aI 0), some (aI j)] [] B S D := by
    intro j hne
    refine wp_in ?_
    simp only [P_X17_isLike, i_kil, i_icon, i_lcon, i_null, i_loadI, i_loadL, i_loadR, i_istore, i_lstore, i_astore, i_iinc, i_dup, i_dup2, i_pop, i_iadd, i_isub, i_imul, i_idiv, i_irem, i_ineg, i_iand, i_ior, i_ishl, i_ishr, i_lxor, i_ladd, i_lsub, i_lmul, i_ldiv, i_lrem, i_lneg, i_lshl, i_lcmp, i_i2l, i_l2i, i_i2b, i_i2s, i_ifeq, i_ifne, i_iflt, i_ifge, i_ifgt, i_ifle, i_cmpeq, i_cmpne, i_cmplt, i_cmpge, i_cmpgt, i_cmple, i_acmpeq, i_acmpne, i_ifnull, i_ifnonnull, i_getI, i_getR, i_putI, i_putZ, i_putR, i_ald, i_ldL, i_ldR, i_ast, i_stL, i_stR, i_alen, i_new, i_newa, i_iret, i_zret, i_lret, i_aret, i_vret, i_raise, i_throw, i_recv, i_objinit, i_tsw3, lget, lset, lput1, lput2, lkil, ltrim, largs, isL, takev, dropv, nthv, pushO, catv, gd, true_and, and_true, Option.some.injEq, Prod.mk.injEq, exists_eq_left', if_true, if_false, reduceCtorEq, Bool.false_eq_true, lcmp_ge, lcmp_lt, lcmp_le, lcmp_gt, lcmp_eq, true_or, or_true, not_true_eq_false, not_false_eq_true, false_implies, true_implies, List.length_cons, List.length_nil, o1, o2, o3, w1, w2, w3, a1]
    exact ⟨fun _ => fin 0 _ _ (by rw [if_neg hne]), fun _ => fin 0 _ _ (by rw [if_neg hne])⟩
  have loop : ∀ (N : Nat) (j : Int), 0 ≤ j → j + N = p → p = q → Int.sign y = Int.sign z → (∀ i, 0 ≤ i → i < j → D (w + 1) i = D (o + 1) i) → Wp P_X17_isLike E 3 [some (aR w), some (aR o), some (aI 1), some (aI j)] [] B S D := by
    intro N
    induction N with
    | zero =>
      intro j hj hs hpq hsg hd
      refine wp_in ?_
      simp only [P_X17_isLike, i_kil, i_icon, i_lcon, i_null, i_loadI, i_loadL, i_loadR, i_istore, i_lstore, i_astore, i_iinc, i_dup, i_dup2, i_pop, i_iadd, i_isub, i_imul, i_idiv, i_irem, i_ineg, i_iand, i_ior, i_ishl, i_ishr, i_lxor, i_ladd, i_lsub, i_lmul, i_ldiv, i_lrem, i_lneg, i_lshl, i_lcmp, i_i2l, i_l2i, i_i2b, i_i2s, i_ifeq, i_ifne, i_iflt, i_ifge, i_ifgt, i_ifle, i_cmpeq, i_cmpne, i_cmplt, i_cmpge, i_cmpgt, i_cmple, i_acmpeq, i_acmpne, i_ifnull, i_ifnonnull, i_getI, i_getR, i_putI, i_putZ, i_putR, i_ald, i_ldL, i_ldR, i_ast, i_stL, i_stR, i_alen, i_new, i_newa, i_iret, i_zret, i_lret, i_aret, i_vret, i_raise, i_throw, i_recv, i_objinit, i_tsw3, lget, lset, lput1, lput2, lkil, ltrim, largs, isL, takev, dropv, nthv, pushO, catv, gd, true_and, and_true, Option.some.injEq, Prod.mk.injEq, exists_eq_left', if_true, if_false, reduceCtorEq, Bool.false_eq_true, lcmp_ge, lcmp_lt, lcmp_le, lcmp_gt, lcmp_eq, true_or, or_true, not_true_eq_false, not_false_eq_true, false_implies, true_implies, List.length_cons, List.length_nil, o1, o2, o3, w1, w2, w3, a1]
      refine ⟨fun _ => fin 1 _ _ ?_, fun h => by omega⟩
      subst hpq
      have h1 : dv (D (w + 1)) p = dv (D (o + 1)) p := dv_congr fun i h0 h1 => hd i h0 (by omega)
      rw [if_pos]
      rw [sgn_mul_abs y, sgn_mul_abs z, hsg, a4, b4, h1]
    | succ N ih =>
      intro j hj hs hpq hsg hd
      refine wp_in ?_
      simp only [P_X17_isLike, i_kil, i_icon, i_lcon, i_null, i_loadI, i_loadL, i_loadR, i_istore, i_lstore, i_astore, i_iinc, i_dup, i_dup2, i_pop, i_iadd, i_isub, i_imul, i_idiv, i_irem, i_ineg, i_iand, i_ior, i_ishl, i_ishr, i_lxor, i_ladd, i_lsub, i_lmul, i_ldiv, i_lrem, i_lneg, i_lshl, i_lcmp, i_i2l, i_l2i, i_i2b, i_i2s, i_ifeq, i_ifne, i_iflt, i_ifge, i_ifgt, i_ifle, i_cmpeq, i_cmpne, i_cmplt, i_cmpge, i_cmpgt, i_cmple, i_acmpeq, i_acmpne, i_ifnull, i_ifnonnull, i_getI, i_getR, i_putI, i_putZ, i_putR, i_ald, i_ldL, i_ldR, i_ast, i_stL, i_stR, i_alen, i_new, i_newa, i_iret, i_zret, i_lret, i_aret, i_vret, i_raise, i_throw, i_recv, i_objinit, i_tsw3, lget, lset, lput1, lput2, lkil, ltrim, largs, isL, takev, dropv, nthv, pushO, catv, gd, true_and, and_true, Option.some.injEq, Prod.mk.injEq, exists_eq_left', if_true, if_false, reduceCtorEq, Bool.false_eq_true, lcmp_ge, lcmp_lt, lcmp_le, lcmp_gt, lcmp_eq, true_or, or_true, not_true_eq_false, not_false_eq_true, false_implies, true_implies, List.length_cons, List.length_nil, o1, o2, o3, w1, w2, w3, a1]
      refine ⟨fun h => by omega, fun _ => ⟨fun h => by omega, fun _ => ⟨by omega, by omega, by omega, by omega, fun h => wp_in ?_, fun h => wp_in ?_⟩⟩⟩
      · simp only [P_X17_isLike, i_kil, i_icon, i_lcon, i_null, i_loadI, i_loadL, i_loadR, i_istore, i_lstore, i_astore, i_iinc, i_dup, i_dup2, i_pop, i_iadd, i_isub, i_imul, i_idiv, i_irem, i_ineg, i_iand, i_ior, i_ishl, i_ishr, i_lxor, i_ladd, i_lsub, i_lmul, i_ldiv, i_lrem, i_lneg, i_lshl, i_lcmp, i_i2l, i_l2i, i_i2b, i_i2s, i_ifeq, i_ifne, i_iflt, i_ifge, i_ifgt, i_ifle, i_cmpeq, i_cmpne, i_cmplt, i_cmpge, i_cmpgt, i_cmple, i_acmpeq, i_acmpne, i_ifnull, i_ifnonnull, i_getI, i_getR, i_putI, i_putZ, i_putR, i_ald, i_ldL, i_ldR, i_ast, i_stL, i_stR, i_alen, i_new, i_newa, i_iret, i_zret, i_lret, i_aret, i_vret, i_raise, i_throw, i_recv, i_objinit, i_tsw3, lget, lset, lput1, lput2, lkil, ltrim, largs, isL, takev, dropv, nthv, pushO, catv, gd, true_and, and_true, Option.some.injEq, Prod.mk.injEq, exists_eq_left', if_true, if_false, reduceCtorEq, Bool.false_eq_true, lcmp_ge, lcmp_lt, lcmp_le, lcmp_gt, lcmp_eq, true_or, or_true, not_true_eq_false, not_false_eq_true, false_implies, true_implies, List.length_cons, List.length_nil]
        refine ⟨in_small (by omega) (by omega), late _ fun hyz => h ?_⟩
        subst hyz
        subst hpq
        exact dv_inj a2.1 b2.1 (by rw [← a4, ← b4]) j hj (by omega)
      · simp only [P_X17_isLike, i_kil, i_icon, i_lcon, i_null, i_loadI, i_loadL, i_loadR, i_istore, i_lstore, i_astore, i_iinc, i_dup, i_dup2, i_pop, i_iadd, i_isub, i_imul, i_idiv, i_irem, i_ineg, i_iand, i_ior, i_ishl, i_ishr, i_lxor, i_ladd, i_lsub, i_lmul, i_ldiv, i_lrem, i_lneg, i_lshl, i_lcmp, i_i2l, i_l2i, i_i2b, i_i2s, i_ifeq, i_ifne, i_iflt, i_ifge, i_ifgt, i_ifle, i_cmpeq, i_cmpne, i_cmplt, i_cmpge, i_cmpgt, i_cmple, i_acmpeq, i_acmpne, i_ifnull, i_ifnonnull, i_getI, i_getR, i_putI, i_putZ, i_putR, i_ald, i_ldL, i_ldR, i_ast, i_stL, i_stR, i_alen, i_new, i_newa, i_iret, i_zret, i_lret, i_aret, i_vret, i_raise, i_throw, i_recv, i_objinit, i_tsw3, lget, lset, lput1, lput2, lkil, ltrim, largs, isL, takev, dropv, nthv, pushO, catv, gd, true_and, and_true, Option.some.injEq, Prod.mk.injEq, exists_eq_left', if_true, if_false, reduceCtorEq, Bool.false_eq_true, lcmp_ge, lcmp_lt, lcmp_le, lcmp_gt, lcmp_eq, true_or, or_true, not_true_eq_false, not_false_eq_true, false_implies, true_implies, List.length_cons, List.length_nil]
        refine ⟨in_small (by omega) (by omega), ih (j + 1) (by omega) (by omega) hpq hsg fun i h0 h1 => ?_⟩
        by_cases hi : i = j
        · rw [hi]; exact h
        · exact hd i h0 (by omega)
  have no : y ≠ z → Wp P_X17_isLike E 1 [some (aR w), some (aR o)] [] B S D := fun hne => by
    refine wp_in ?_
    simp only [P_X17_isLike, i_kil, i_icon, i_lcon, i_null, i_loadI, i_loadL, i_loadR, i_istore, i_lstore, i_astore, i_iinc, i_dup, i_dup2, i_pop, i_iadd, i_isub, i_imul, i_idiv, i_irem, i_ineg, i_iand, i_ior, i_ishl, i_ishr, i_lxor, i_ladd, i_lsub, i_lmul, i_ldiv, i_lrem, i_lneg, i_lshl, i_lcmp, i_i2l, i_l2i, i_i2b, i_i2s, i_ifeq, i_ifne, i_iflt, i_ifge, i_ifgt, i_ifle, i_cmpeq, i_cmpne, i_cmplt, i_cmpge, i_cmpgt, i_cmple, i_acmpeq, i_acmpne, i_ifnull, i_ifnonnull, i_getI, i_getR, i_putI, i_putZ, i_putR, i_ald, i_ldL, i_ldR, i_ast, i_stL, i_stR, i_alen, i_new, i_newa, i_iret, i_zret, i_lret, i_aret, i_vret, i_raise, i_throw, i_recv, i_objinit, i_tsw3, lget, lset, lput1, lput2, lkil, ltrim, largs, isL, takev, dropv, nthv, pushO, catv, gd, true_and, and_true, Option.some.injEq, Prod.mk.injEq, exists_eq_left', if_true, if_false, reduceCtorEq, Bool.false_eq_true, lcmp_ge, lcmp_lt, lcmp_le, lcmp_gt, lcmp_eq, true_or, or_true, not_true_eq_false, not_false_eq_true, false_implies, true_implies, List.length_cons, List.length_nil]
    refine wp_in ?_
    simp only [P_X17_isLike, i_kil, i_icon, i_lcon, i_null, i_loadI, i_loadL, i_loadR, i_istore, i_lstore, i_astore, i_iinc, i_dup, i_dup2, i_pop, i_iadd, i_isub, i_imul, i_idiv, i_irem, i_ineg, i_iand, i_ior, i_ishl, i_ishr, i_lxor, i_ladd, i_lsub, i_lmul, i_ldiv, i_lrem, i_lneg, i_lshl, i_lcmp, i_i2l, i_l2i, i_i2b, i_i2s, i_ifeq, i_ifne, i_iflt, i_ifge, i_ifgt, i_ifle, i_cmpeq, i_cmpne, i_cmplt, i_cmpge, i_cmpgt, i_cmple, i_acmpeq, i_acmpne, i_ifnull, i_ifnonnull, i_getI, i_getR, i_putI, i_putZ, i_putR, i_ald, i_ldL, i_ldR, i_ast, i_stL, i_stR, i_alen, i_new, i_newa, i_iret, i_zret, i_lret, i_aret, i_vret, i_raise, i_throw, i_recv, i_objinit, i_tsw3, lget, lset, lput1, lput2, lkil, ltrim, largs, isL, takev, dropv, nthv, pushO, catv, gd, true_and, and_true, Option.some.injEq, Prod.mk.injEq, exists_eq_left', if_true, if_false, reduceCtorEq, Bool.false_eq_true, lcmp_ge, lcmp_lt, lcmp_le, lcmp_gt, lcmp_eq, true_or, or_true, not_true_eq_false, not_false_eq_true, false_implies, true_implies, List.length_cons, List.length_nil]
    exact late 0 hne
  refine wp_in ?_
  simp only [P_X17_isLike, i_kil, i_icon, i_lcon, i_null, i_loadI, i_loadL, i_loadR, i_istore, i_lstore, i_astore, i_iinc, i_dup, i_dup2, i_pop, i_iadd, i_isub, i_imul, i_idiv, i_irem, i_ineg, i_iand, i_ior, i_ishl, i_ishr, i_lxor, i_ladd, i_lsub, i_lmul, i_ldiv, i_lrem, i_lneg, i_lshl, i_lcmp, i_i2l, i_l2i, i_i2b, i_i2s, i_ifeq, i_ifne, i_iflt, i_ifge, i_ifgt, i_ifle, i_cmpeq, i_cmpne, i_cmplt, i_cmpge, i_cmpgt, i_cmple, i_acmpeq, i_acmpne, i_ifnull, i_ifnonnull, i_getI, i_getR, i_putI, i_putZ, i_putR, i_ald, i_ldL, i_ldR, i_ast, i_stL, i_stR, i_alen, i_new, i_newa, i_iret, i_zret, i_lret, i_aret, i_vret, i_raise, i_throw, i_recv, i_objinit, i_tsw3, lget, lset, lput1, lput2, lkil, ltrim, largs, isL, takev, dropv, nthv, pushO, catv, gd, true_and, and_true, Option.some.injEq, Prod.mk.injEq, exists_eq_left', if_true, if_false, reduceCtorEq, Bool.false_eq_true, lcmp_ge, lcmp_lt, lcmp_le, lcmp_gt, lcmp_eq, true_or, or_true, not_true_eq_false, not_false_eq_true, false_implies, true_implies, List.length_cons, List.length_nil, o1, o2, o3, w1, w2, w3, a1, a3, b1, b3]
  refine ⟨fun h => no fun g => h (by rw [g]), fun h => ⟨fun h1 => no fun g => ?_, fun h1 => wp_in ?_⟩⟩
  · subst g
    rcases Nat.lt_trichotomy p q with h2 | h2 | h2
    · have := dv_lt_of_size a2 b2 h2; omega
    · omega
    · have := dv_lt_of_size b2 a2 h2; omega
  · simp only [P_X17_isLike, i_kil, i_icon, i_lcon, i_null, i_loadI, i_loadL, i_loadR, i_istore, i_lstore, i_astore, i_iinc, i_dup, i_dup2, i_pop, i_iadd, i_isub, i_imul, i_idiv, i_irem, i_ineg, i_iand, i_ior, i_ishl, i_ishr, i_lxor, i_ladd, i_lsub, i_lmul, i_ldiv, i_lrem, i_lneg, i_lshl, i_lcmp, i_i2l, i_l2i, i_i2b, i_i2s, i_ifeq, i_ifne, i_iflt, i_ifge, i_ifgt, i_ifle, i_cmpeq, i_cmpne, i_cmplt, i_cmpge, i_cmpgt, i_cmple, i_acmpeq, i_acmpne, i_ifnull, i_ifnonnull, i_getI, i_getR, i_putI, i_putZ, i_putR, i_ald, i_ldL, i_ldR, i_ast, i_stL, i_stR, i_alen, i_new, i_newa, i_iret, i_zret, i_lret, i_aret, i_vret, i_raise, i_throw, i_recv, i_objinit, i_tsw3, lget, lset, lput1, lput2, lkil, ltrim, largs, isL, takev, dropv, nthv, pushO, catv, gd, true_and, and_true, Option.some.injEq, Prod.mk.injEq, exists_eq_left', if_true, if_false, reduceCtorEq, Bool.false_eq_true, lcmp_ge, lcmp_lt, lcmp_le, lcmp_gt, lcmp_eq, true_or, or_true, not_true_eq_false, not_false_eq_true, false_implies, true_implies, List.length_cons, List.length_nil]
    exact loop p 0 (by omega) (by omega) (by omega) h fun i h0 h1 => by omega
