/-! the model's divide: the rest unscaled -/
set_option maxRecDepth 100000
set_option linter.unusedVariables false
set_option maxHeartbeats 1000000 in
theorem sp_X16_div9 {E : Ex} {B : Nat × Nat} {S : Stat} {D3 : Dat} {M u v r rr d : Nat} {f sx R : Int} (hM : mR S M u v) (hr : wS 17 S r rr) (hru : u ≠ r + 1) (hd : d + 1 ≤ rr) (hd4 : d + 1 ≤ 266) (m2 : rr < 1000) (hf : 1 ≤ f ∧ f ≤ 500000000) (hu3 : dok (D3 u) (d + 1)) (hR : dv (D3 u) (d + 1) = R * f) (hs : sx = 1 ∨ sx = -1)
    (k : ∀ D' : Dat, wO D3 D' r → wD 2 1 D' r (sx * R) → E (.inl none) B S D') :
    ∀ (l : Nat) (left : Int) (D' : Dat), l ≤ d + 1 → (0 ≤ left ∧ left < f) → (∀ c i, c ≠ r + 1 → D' c i = D3 c i) → (∀ i : Int, l ≤ i → i < (d + 1 : Nat) → 0 ≤ D' (r + 1) i ∧ D' (r + 1) i < 1000000000) → dv (sh (D3 u) l) (d + 1 - l) = dv (sh (D' (r + 1)) l) (d + 1 - l) * f + left →
        Wp P_X16_divide E 9 [some (aR M), none, some (aR r), none, none, some (aI sx), none, some (aI ((d + 1 : Nat) : Int)), none, some (aL f), none, none, none, some (aL left), none, some (aI ((l : Int) - 1))] [] B S D' := by
  have hr0 := hr
  obtain ⟨m1, m2', m3, m4, m5, m6⟩ := hM
  obtain ⟨r1, r2, r3⟩ := hr
  intro l
  induction l with
  | zero =>
    intro left D' hl hlf hk hrd hval
    have e0 : ∀ g : Int → Int, sh g 0 = g := fun g => by funext i; simp [sh]
    simp only [show ((0 : Nat) : Int) = 0 from rfl, e0, Nat.sub_zero] at hval hrd
    have hrok : dok (D' (r + 1)) (d + 1) := fun i h0 h1 => hrd i h0 h1
    have hzero : left = (R - dv (D' (r + 1)) (d + 1)) * f := by rw [Int.sub_mul, ← hR, hval]; omega
    have hl0 : R - dv (D' (r + 1)) (d + 1) = 0 := by
      rw [hzero] at hlf
      have h1 : 0 * f ≤ (R - dv (D' (r + 1)) (d + 1)) * f := by rw [Int.zero_mul]; exact hlf.1
      have h2 : (R - dv (D' (r + 1)) (d + 1)) * f < 1 * f := by rw [Int.one_mul]; exact hlf.2
      have h3 := Int.le_of_mul_le_mul_right h1 (by omega)
      have h4 := Int.lt_of_mul_lt_mul_right h2 (by omega)
      omega
    refine wp_in ?_
    simp only [P_X16_divide, i_kil, i_icon, i_lcon, i_null, i_loadI, i_loadL, i_loadR, i_istore, i_lstore, i_astore, i_iinc, i_dup, i_dup2, i_pop, i_iadd, i_isub, i_imul, i_idiv, i_irem, i_ineg, i_iand, i_ior, i_ishl, i_ishr, i_lxor, i_ladd, i_lsub, i_lmul, i_ldiv, i_lrem, i_lneg, i_lshl, i_lcmp, i_i2l, i_l2i, i_i2b, i_i2s, i_ifeq, i_ifne, i_iflt, i_ifge, i_ifgt, i_ifle, i_cmpeq, i_cmpne, i_cmplt, i_cmpge, i_cmpgt, i_cmple, i_acmpeq, i_acmpne, i_ifnull, i_ifnonnull, i_getI, i_getR, i_putI, i_putZ, i_putR, i_ald, i_ldL, i_ldR, i_ast, i_stL, i_stR, i_alen, i_new, i_newa, i_iret, i_zret, i_lret, i_aret, i_vret, i_raise, i_throw, i_recv, i_objinit, i_tsw3, lget, lset, lput1, lput2, lkil, ltrim, largs, isL, takev, dropv, nthv, pushO, catv, gd, true_and, and_true, Option.some.injEq, Prod.mk.injEq, exists_eq_left', if_true, if_false, reduceCtorEq, Bool.false_eq_true, lcmp_ge, lcmp_lt, lcmp_le, lcmp_gt, lcmp_eq, true_or, or_true, not_true_eq_false, not_false_eq_true, false_implies, true_implies, List.length_cons, List.length_nil, r1, r2, r3, m1]
    refine ⟨fun _ => call0 (gd_of rfl) ?_, fun h => by omega⟩
    refine sp_X16_trim0 hr0 hd m2 hrok ?_
    intro D'' q' f1 f2 f3 f4 f5 f6
    have last : ∀ s : Int, (q' = 0 ∧ s = 0) ∨ (0 < q' ∧ s = sx) → Wp P_X16_divide E 10 [] [aI s, aR r] B S D'' := by
      intro s hsq
      refine wp_in ?_
      simp only [P_X16_divide, i_kil, i_icon, i_lcon, i_null, i_loadI, i_loadL, i_loadR, i_istore, i_lstore, i_astore, i_iinc, i_dup, i_dup2, i_pop, i_iadd, i_isub, i_imul, i_idiv, i_irem, i_ineg, i_iand, i_ior, i_ishl, i_ishr, i_lxor, i_ladd, i_lsub, i_lmul, i_ldiv, i_lrem, i_lneg, i_lshl, i_lcmp, i_i2l, i_l2i, i_i2b, i_i2s, i_ifeq, i_ifne, i_iflt, i_ifge, i_ifgt, i_ifle, i_cmpeq, i_cmpne, i_cmplt, i_cmpge, i_cmpgt, i_cmple, i_acmpeq, i_acmpne, i_ifnull, i_ifnonnull, i_getI, i_getR, i_putI, i_putZ, i_putR, i_ald, i_ldL, i_ldR, i_ast, i_stL, i_stR, i_alen, i_new, i_newa, i_iret, i_zret, i_lret, i_aret, i_vret, i_raise, i_throw, i_recv, i_objinit, i_tsw3, lget, lset, lput1, lput2, lkil, ltrim, largs, isL, takev, dropv, nthv, pushO, catv, gd, true_and, and_true, Option.some.injEq, Prod.mk.injEq, exists_eq_left', if_true, if_false, reduceCtorEq, Bool.false_eq_true, lcmp_ge, lcmp_lt, lcmp_le, lcmp_gt, lcmp_eq, true_or, or_true, not_true_eq_false, not_false_eq_true, false_implies, true_implies, List.length_cons, List.length_nil, r1, r2, r3]
      refine wp_in ?_
      simp only [P_X16_divide, i_kil, i_icon, i_lcon, i_null, i_loadI, i_loadL, i_loadR, i_istore, i_lstore, i_astore, i_iinc, i_dup, i_dup2, i_pop, i_iadd, i_isub, i_imul, i_idiv, i_irem, i_ineg, i_iand, i_ior, i_ishl, i_ishr, i_lxor, i_ladd, i_lsub, i_lmul, i_ldiv, i_lrem, i_lneg, i_lshl, i_lcmp, i_i2l, i_l2i, i_i2b, i_i2s, i_ifeq, i_ifne, i_iflt, i_ifge, i_ifgt, i_ifle, i_cmpeq, i_cmpne, i_cmplt, i_cmpge, i_cmpgt, i_cmple, i_acmpeq, i_acmpne, i_ifnull, i_ifnonnull, i_getI, i_getR, i_putI, i_putZ, i_putR, i_ald, i_ldL, i_ldR, i_ast, i_stL, i_stR, i_alen, i_new, i_newa, i_iret, i_zret, i_lret, i_aret, i_vret, i_raise, i_throw, i_recv, i_objinit, i_tsw3, lget, lset, lput1, lput2, lkil, ltrim, largs, isL, takev, dropv, nthv, pushO, catv, gd, true_and, and_true, Option.some.injEq, Prod.mk.injEq, exists_eq_left', if_true, if_false, reduceCtorEq, Bool.false_eq_true, lcmp_ge, lcmp_lt, lcmp_le, lcmp_gt, lcmp_eq, true_or, or_true, not_true_eq_false, not_false_eq_true, false_implies, true_implies, List.length_cons, List.length_nil, r1, r2, r3]
      refine k _ (fun c i c1 c2 => by simp [pmu, c1, f1 c i c1, hk c i c2]) ?_
      have e2 : pmu D'' r 1 s (r + 1) = D' (r + 1) := by funext i; simp only [pmu]; rw [if_neg (fun h => by omega)]; exact f1 _ i (by omega)
      have h := wD.mk (kn := 2) (ks := 1) (D := pmu D'' r 1 s) (w := r) (n := q') (s := s) (by simp [pmu, f3]) (by rw [e2]; exact f4) (by simp [pmu]) (by
        rcases hsq with h | ⟨h, h'⟩
        · exact .inl h
        · exact .inr ⟨h, by rw [h']; exact hs⟩)
      rw [e2, f5, show dv (D' (r + 1)) (d + 1) = R by omega] at h
      rcases hsq with ⟨h1, h2⟩ | ⟨h1, h2⟩
      · have hz : R = 0 := by rw [show R = dv (D' (r + 1)) (d + 1) by omega, ← f5, h1]; rfl
        rw [hz, Int.mul_zero] at h ⊢
        exact h
      · rw [h2] at h ⊢
        exact h
    simp only [P_X16_divide, i_kil, i_icon, i_lcon, i_null, i_loadI, i_loadL, i_loadR, i_istore, i_lstore, i_astore, i_iinc, i_dup, i_dup2, i_pop, i_iadd, i_isub, i_imul, i_idiv, i_irem, i_ineg, i_iand, i_ior, i_ishl, i_ishr, i_lxor, i_ladd, i_lsub, i_lmul, i_ldiv, i_lrem, i_lneg, i_lshl, i_lcmp, i_i2l, i_l2i, i_i2b, i_i2s, i_ifeq, i_ifne, i_iflt, i_ifge, i_ifgt, i_ifle, i_cmpeq, i_cmpne, i_cmplt, i_cmpge, i_cmpgt, i_cmple, i_acmpeq, i_acmpne, i_ifnull, i_ifnonnull, i_getI, i_getR, i_putI, i_putZ, i_putR, i_ald, i_ldL, i_ldR, i_ast, i_stL, i_stR, i_alen, i_new, i_newa, i_iret, i_zret, i_lret, i_aret, i_vret, i_raise, i_throw, i_recv, i_objinit, i_tsw3, lget, lset, lput1, lput2, lkil, ltrim, largs, isL, takev, dropv, nthv, pushO, catv, gd, true_and, and_true, Option.some.injEq, Prod.mk.injEq, exists_eq_left', if_true, if_false, reduceCtorEq, Bool.false_eq_true, lcmp_ge, lcmp_lt, lcmp_le, lcmp_gt, lcmp_eq, true_or, or_true, not_true_eq_false, not_false_eq_true, false_implies, true_implies, List.length_cons, List.length_nil, r1, r2, r3, m1, f3]
    exact ⟨fun h => last sx (.inr ⟨by omega, rfl⟩), fun h => last 0 (.inl ⟨by omega, rfl⟩)⟩
  | succ j ih =>
    intro left D' hl hlf hk hrd hval
    rw [show ((j + 1 : Nat) : Int) - 1 = j by omega]
    refine wp_in ?_
    simp only [P_X16_divide, i_kil, i_icon, i_lcon, i_null, i_loadI, i_loadL, i_loadR, i_istore, i_lstore, i_astore, i_iinc, i_dup, i_dup2, i_pop, i_iadd, i_isub, i_imul, i_idiv, i_irem, i_ineg, i_iand, i_ior, i_ishl, i_ishr, i_lxor, i_ladd, i_lsub, i_lmul, i_ldiv, i_lrem, i_lneg, i_lshl, i_lcmp, i_i2l, i_l2i, i_i2b, i_i2s, i_ifeq, i_ifne, i_iflt, i_ifge, i_ifgt, i_ifle, i_cmpeq, i_cmpne, i_cmplt, i_cmpge, i_cmpgt, i_cmple, i_acmpeq, i_acmpne, i_ifnull, i_ifnonnull, i_getI, i_getR, i_putI, i_putZ, i_putR, i_ald, i_ldL, i_ldR, i_ast, i_stL, i_stR, i_alen, i_new, i_newa, i_iret, i_zret, i_lret, i_aret, i_vret, i_raise, i_throw, i_recv, i_objinit, i_tsw3, lget, lset, lput1, lput2, lkil, ltrim, largs, isL, takev, dropv, nthv, pushO, catv, gd, true_and, and_true, Option.some.injEq, Prod.mk.injEq, exists_eq_left', if_true, if_false, reduceCtorEq, Bool.false_eq_true, lcmp_ge, lcmp_lt, lcmp_le, lcmp_gt, lcmp_eq, true_or, or_true, not_true_eq_false, not_false_eq_true, false_implies, true_implies, List.length_cons, List.length_nil, m1, m2', m3, m4, m5, r1, r2, r3]
    have euj : D' u j = D3 u j := hk u j hru
    have cuj := hu3 j (by omega) (by omega)
    rw [euj]
    obtain ⟨s, hs⟩ : ∃ s, s = left * 1000000000 + D3 u j := ⟨_, rfl⟩
    rw [← hs]
    have hs0 : 0 ≤ s ∧ s < f * 1000000000 := by
      have : left * 1000000000 ≤ (f - 1) * 1000000000 := Int.mul_le_mul_of_nonneg_right (by omega) (by omega)
      omega
    have t1 := Int.ediv_mul_le s (show f ≠ 0 by omega)
    have t2 := Int.lt_ediv_add_one_mul_self s (show 0 < f by omega)
    have t3 : 0 ≤ s / f := Int.ediv_nonneg hs0.1 (by omega)
    have t4 : s / f < 1000000000 := (Int.ediv_lt_iff_lt_mul (by omega)).mpr (by rw [Int.mul_comm]; exact hs0.2)
    have t5 : s = s / f * f + s % f := by rw [Int.mul_comm]; exact (Int.mul_ediv_add_emod s f).symm
    have t6 := Int.emod_nonneg s (show f ≠ 0 by omega)
    have t7 := Int.emod_lt_of_pos s (show 0 < f by omega)
    rw [tdiv_nn hs0.1, tmod_nn hs0.1]
    refine ⟨fun h => by omega, fun _ => ⟨by unfold inL; omega, by omega, by omega, by unfold inL; omega, by omega, by unfold inL; omega, in_small (by omega) (by omega), by omega, by omega, by simp [okT], by omega, by unfold inL; omega, in_small (by omega) (by omega), ?_⟩⟩
    have ez : ∀ i, pmu D' (r + 1) j (s / f) (r + 1) i = if i = j then s / f else D' (r + 1) i := fun i => by simp [pmu]
    refine ih (s % f) _ (by omega) ⟨t6, t7⟩ (fun c i c1 => ?_) (fun i h0 h1 => ?_) ?_
    · simp only [pmu]; rw [if_neg (fun h => c1 h.1)]; exact hk c i c1
    · rw [ez]; split
      · exact ⟨t3, t4⟩
      · exact hrd i (by omega) h1
    · obtain ⟨z, hz⟩ : ∃ z, d + 1 - j = z + 1 := ⟨d - j, by omega⟩
      rw [show d + 1 - (j + 1) = z by omega] at hval
      rw [hz, dv_head, dv_head, sh_sh, sh_sh]
      have e1 : dv (sh (pmu D' (r + 1) j (s / f) (r + 1)) (j + 1)) z = dv (sh (D' (r + 1)) ((j + 1 : Nat) : Int)) z := by
        refine dv_congr fun i h0 h1 => ?_
        simp only [sh]
        rw [ez, if_neg (by omega)]
        congr 1
      rw [e1, show (j : Int) + 1 = ((j + 1 : Nat) : Int) by omega, hval]
      simp only [sh, Int.add_zero]
      rw [ez, if_pos rfl]
      grind
