/-! the component's polynomials: slots read -/
set_option maxRecDepth 100000
set_option linter.unusedVariables false
set_option maxHeartbeats 1000000 in
theorem sp_X5_load {E : Ex} {B : Nat × Nat} {S : Stat} {D : Dat} {p w r a : Nat} {z : Int} (hp : pS S p) (hw : wS 3 S w r) (hpw : p + 1 ≠ w + 1) (hz : slot (D (p + 1)) a z) (hr : 14 ≤ r) (hr2 : r < 1000) (ha : a + 15 ≤ 13650)
    (k : ∀ D' : Dat, wO D D' w → wD 1 2 D' w z → E (.inl none) B S D') : Wp P_X5_load E 0 [some (aR p), some (aI a), some (aR w)] [] B S D := by
  obtain ⟨p1, p2, p3⟩ := hp
  obtain ⟨w1, w2, w3⟩ := hw
  have hzz := hz.zero
  obtain ⟨n, hn, z1, z2, z3⟩ := hz
  have npw : p + 1 ≠ w := fun h => by rw [← h, p3] at w1; simp at w1
  have hn0 : (n = 0 ∧ z = 0) ∨ (0 < n ∧ z ≠ 0) := by
    rcases Nat.eq_zero_or_pos n with h | h
    · subst h
      simp only [dv] at z3
      exact .inl ⟨rfl, by omega⟩
    · refine .inr ⟨h, fun g => ?_⟩
      obtain ⟨q, rfl⟩ : ∃ q, n = q + 1 := ⟨n - 1, by omega⟩
      have h1 := z2.2 h
      have h2 := z2.1 (((q + 1 : Nat) : Int) - 1) (by omega) (by omega)
      have h3 := dv_nn (z2.1.mono (Nat.le_succ q))
      rw [g] at z3
      rw [show ((q + 1 : Nat) : Int) - 1 = q by omega] at h1 h2
      have h4 : 0 < (fun i => D (p + 1) ((a : Int) + 1 + i)) (q : Int) * 1000000000 ^ q := Int.mul_pos (by omega) (pw_pos q)
      simp only [dv] at z3
      simp only [] at h4 h3
      omega
  have hab : ((D (p + 1) a).natAbs : Int) = n := by
    rw [z1]
    rcases sgn_cases z with g | g | g
    · rw [g.1]; omega
    · rw [g.1]; omega
    · rw [g.1]; omega
  have loop : ∀ (L j : Nat) (D' : Dat), j + L = n → wO D D' w → D' w 1 = n → D' w 2 = Int.sign z → (∀ i : Int, 0 ≤ i → i < j → D' (w + 1) i = D (p + 1) (a + 1 + i)) → Wp P_X5_load E 2 [some (aR p), some (aI a), some (aR w), some (aI j)] [] B S D' := by
    intro L
    induction L with
    | zero =>
      intro j D' hj hf h1 h2 hd
      have hjn : j = n := by omega
      subst hjn
      refine wp_in ?_
      simp only [P_X5_load, i_kil, i_icon, i_lcon, i_null, i_loadI, i_loadL, i_loadR, i_istore, i_lstore, i_astore, i_iinc, i_dup, i_dup2, i_pop, i_iadd, i_isub, i_imul, i_idiv, i_irem, i_ineg, i_iand, i_ior, i_ishl, i_ishr, i_lxor, i_ladd, i_lsub, i_lmul, i_ldiv, i_lrem, i_lneg, i_lshl, i_lcmp, i_i2l, i_l2i, i_i2b, i_i2s, i_ifeq, i_ifne, i_iflt, i_ifge, i_ifgt, i_ifle, i_cmpeq, i_cmpne, i_cmplt, i_cmpge, i_cmpgt, i_cmple, i_acmpeq, i_acmpne, i_ifnull, i_ifnonnull, i_getI, i_getR, i_putI, i_putZ, i_putR, i_ald, i_ldL, i_ldR, i_ast, i_stL, i_stR, i_alen, i_new, i_newa, i_iret, i_zret, i_lret, i_aret, i_vret, i_raise, i_throw, i_recv, i_objinit, i_tsw3, lget, lset, lput1, lput2, lkil, ltrim, largs, isL, takev, dropv, nthv, pushO, catv, gd, true_and, and_true, Option.some.injEq, Prod.mk.injEq, exists_eq_left', if_true, if_false, reduceCtorEq, Bool.false_eq_true, lcmp_ge, lcmp_lt, lcmp_le, lcmp_gt, lcmp_eq, true_or, or_true, not_true_eq_false, not_false_eq_true, false_implies, true_implies, List.length_cons, List.length_nil, p1, p2, p3, w1, w2, w3, h1]
      refine ⟨fun _ => k D' hf ⟨j, h1, ⟨fun i g1 g2 => ?_, fun g => ?_⟩, h2, ?_⟩, fun h => absurd h (Int.lt_irrefl _)⟩
      · rw [hd i g1 g2]; exact z2.1 i g1 g2
      · rw [hd _ (by omega) (by omega)]; exact z2.2 g
      · rw [z3]; exact dv_congr fun i g1 g2 => (hd i g1 g2).symm
    | succ L ih =>
      intro j D' hj hf h1 h2 hd
      have e2 : D' (p + 1) ((a : Int) + 1 + j) = D (p + 1) ((a : Int) + 1 + j) := hf _ _ npw hpw
      refine wp_in ?_
      simp only [P_X5_load, i_kil, i_icon, i_lcon, i_null, i_loadI, i_loadL, i_loadR, i_istore, i_lstore, i_astore, i_iinc, i_dup, i_dup2, i_pop, i_iadd, i_isub, i_imul, i_idiv, i_irem, i_ineg, i_iand, i_ior, i_ishl, i_ishr, i_lxor, i_ladd, i_lsub, i_lmul, i_ldiv, i_lrem, i_lneg, i_lshl, i_lcmp, i_i2l, i_l2i, i_i2b, i_i2s, i_ifeq, i_ifne, i_iflt, i_ifge, i_ifgt, i_ifle, i_cmpeq, i_cmpne, i_cmplt, i_cmpge, i_cmpgt, i_cmple, i_acmpeq, i_acmpne, i_ifnull, i_ifnonnull, i_getI, i_getR, i_putI, i_putZ, i_putR, i_ald, i_ldL, i_ldR, i_ast, i_stL, i_stR, i_alen, i_new, i_newa, i_iret, i_zret, i_lret, i_aret, i_vret, i_raise, i_throw, i_recv, i_objinit, i_tsw3, lget, lset, lput1, lput2, lkil, ltrim, largs, isL, takev, dropv, nthv, pushO, catv, gd, true_and, and_true, Option.some.injEq, Prod.mk.injEq, exists_eq_left', if_true, if_false, reduceCtorEq, Bool.false_eq_true, lcmp_ge, lcmp_lt, lcmp_le, lcmp_gt, lcmp_eq, true_or, or_true, not_true_eq_false, not_false_eq_true, false_implies, true_implies, List.length_cons, List.length_nil, p1, p2, p3, w1, w2, w3, h1, e2]
      refine ⟨fun h => by omega, fun _ => ⟨in_small (by omega) (by omega), in_small (by omega) (by omega), by omega, by omega, by omega, by omega, by simp [okT], in_small (by omega) (by omega), ?_⟩⟩
      refine ih (j + 1) _ (by omega) (fun c i c1 c2 => ?_) ?_ ?_ (fun i g1 g2 => ?_)
      · simp only [pmu]
        rw [if_neg (fun g => c2 g.1)]
        exact hf c i c1 c2
      · simp only [pmu]
        rw [if_neg (fun g => by omega)]
        exact h1
      · simp only [pmu]
        rw [if_neg (fun g => by omega)]
        exact h2
      · simp only [pmu, true_and]
        split
        · rename_i hi
          rw [hi]
        · exact hd i g1 (by omega)
  have mid : Wp P_X5_load E 1 [some (aR p), some (aI a), some (aR w)] [aI (Int.sign z), aR w] B S (pmu D w 1 n) := by
    refine wp_in ?_
    simp only [P_X5_load, i_kil, i_icon, i_lcon, i_null, i_loadI, i_loadL, i_loadR, i_istore, i_lstore, i_astore, i_iinc, i_dup, i_dup2, i_pop, i_iadd, i_isub, i_imul, i_idiv, i_irem, i_ineg, i_iand, i_ior, i_ishl, i_ishr, i_lxor, i_ladd, i_lsub, i_lmul, i_ldiv, i_lrem, i_lneg, i_lshl, i_lcmp, i_i2l, i_l2i, i_i2b, i_i2s, i_ifeq, i_ifne, i_iflt, i_ifge, i_ifgt, i_ifle, i_cmpeq, i_cmpne, i_cmplt, i_cmpge, i_cmpgt, i_cmple, i_acmpeq, i_acmpne, i_ifnull, i_ifnonnull, i_getI, i_getR, i_putI, i_putZ, i_putR, i_ald, i_ldL, i_ldR, i_ast, i_stL, i_stR, i_alen, i_new, i_newa, i_iret, i_zret, i_lret, i_aret, i_vret, i_raise, i_throw, i_recv, i_objinit, i_tsw3, lget, lset, lput1, lput2, lkil, ltrim, largs, isL, takev, dropv, nthv, pushO, catv, gd, true_and, and_true, Option.some.injEq, Prod.mk.injEq, exists_eq_left', if_true, if_false, reduceCtorEq, Bool.false_eq_true, lcmp_ge, lcmp_lt, lcmp_le, lcmp_gt, lcmp_eq, true_or, or_true, not_true_eq_false, not_false_eq_true, false_implies, true_implies, List.length_cons, List.length_nil, w1]
    refine loop n 0 _ (by omega) (fun c i c1 c2 => by simp [pmu, c1]) (by simp [pmu]) (by simp [pmu]) (fun i g1 g2 => by omega)
  refine wp_in ?_
  simp only [P_X5_load, i_kil, i_icon, i_lcon, i_null, i_loadI, i_loadL, i_loadR, i_istore, i_lstore, i_astore, i_iinc, i_dup, i_dup2, i_pop, i_iadd, i_isub, i_imul, i_idiv, i_irem, i_ineg, i_iand, i_ior, i_ishl, i_ishr, i_lxor, i_ladd, i_lsub, i_lmul, i_ldiv, i_lrem, i_lneg, i_lshl, i_lcmp, i_i2l, i_l2i, i_i2b, i_i2s, i_ifeq, i_ifne, i_iflt, i_ifge, i_ifgt, i_ifle, i_cmpeq, i_cmpne, i_cmplt, i_cmpge, i_cmpgt, i_cmple, i_acmpeq, i_acmpne, i_ifnull, i_ifnonnull, i_getI, i_getR, i_putI, i_putZ, i_putR, i_ald, i_ldL, i_ldR, i_ast, i_stL, i_stR, i_alen, i_new, i_newa, i_iret, i_zret, i_lret, i_aret, i_vret, i_raise, i_throw, i_recv, i_objinit, i_tsw3, lget, lset, lput1, lput2, lkil, ltrim, largs, isL, takev, dropv, nthv, pushO, catv, gd, true_and, and_true, Option.some.injEq, Prod.mk.injEq, exists_eq_left', if_true, if_false, reduceCtorEq, Bool.false_eq_true, lcmp_ge, lcmp_lt, lcmp_le, lcmp_gt, lcmp_eq, true_or, or_true, not_true_eq_false, not_false_eq_true, false_implies, true_implies, List.length_cons, List.length_nil, p1, p2, p3, w1, w2, w3]
  have hs : -14 ≤ D (p + 1) a ∧ D (p + 1) a ≤ 14 := by omega
  refine ⟨by omega, by omega, call0 (gd_of rfl) ?_⟩
  refine sp_J9_abs (by omega) (by omega) ?_
  simp only [P_X5_load, i_kil, i_icon, i_lcon, i_null, i_loadI, i_loadL, i_loadR, i_istore, i_lstore, i_astore, i_iinc, i_dup, i_dup2, i_pop, i_iadd, i_isub, i_imul, i_idiv, i_irem, i_ineg, i_iand, i_ior, i_ishl, i_ishr, i_lxor, i_ladd, i_lsub, i_lmul, i_ldiv, i_lrem, i_lneg, i_lshl, i_lcmp, i_i2l, i_l2i, i_i2b, i_i2s, i_ifeq, i_ifne, i_iflt, i_ifge, i_ifgt, i_ifle, i_cmpeq, i_cmpne, i_cmplt, i_cmpge, i_cmpgt, i_cmple, i_acmpeq, i_acmpne, i_ifnull, i_ifnonnull, i_getI, i_getR, i_putI, i_putZ, i_putR, i_ald, i_ldL, i_ldR, i_ast, i_stL, i_stR, i_alen, i_new, i_newa, i_iret, i_zret, i_lret, i_aret, i_vret, i_raise, i_throw, i_recv, i_objinit, i_tsw3, lget, lset, lput1, lput2, lkil, ltrim, largs, isL, takev, dropv, nthv, pushO, catv, gd, true_and, and_true, Option.some.injEq, Prod.mk.injEq, exists_eq_left', if_true, if_false, reduceCtorEq, Bool.false_eq_true, lcmp_ge, lcmp_lt, lcmp_le, lcmp_gt, lcmp_eq, true_or, or_true, not_true_eq_false, not_false_eq_true, false_implies, true_implies, List.length_cons, List.length_nil, p1, p2, p3, w1, w2, w3]
  have e3 : pmu D w 1 ((D (p + 1) a).natAbs : Int) (p + 1) a = D (p + 1) a := by simp only [pmu]; rw [if_neg (fun g => npw g.1)]
  rw [hab] at e3 ⊢
  rw [e3]
  have hsz : (z = 0 → Int.sign z = 0) ∧ (0 < D (p + 1) a → Int.sign z = 1) ∧ (D (p + 1) a < 0 → Int.sign z = -1) := by
    refine ⟨fun h => by rw [h]; rfl, fun h => ?_, fun h => ?_⟩
    · rcases sgn_cases z with g | g | g
      · exact g.1
      · rw [g.1] at z1; omega
      · rw [g.1] at z1; omega
    · rcases sgn_cases z with g | g | g
      · rw [g.1] at z1; omega
      · rw [g.1] at z1; omega
      · exact g.1
  refine ⟨by omega, by omega, fun h => ⟨by omega, by omega, fun h2 => ?_, fun h2 => ?_⟩, fun h => ?_⟩
  · have h0 := hsz.1 (hzz.mp (by omega))
    rw [h0] at mid; exact mid
  · have h0 := hsz.2.1 (by omega)
    rw [h0] at mid; exact mid
  · have h0 := hsz.2.2 (by omega)
    rw [h0] at mid; exact mid
