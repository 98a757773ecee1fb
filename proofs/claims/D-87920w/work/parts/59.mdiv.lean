/-! the model's divide: scaling and the main loop -/
set_option maxRecDepth 100000
set_option linter.unusedVariables false
set_option maxHeartbeats 1000000 in
theorem sp_X16_div3 {E : Ex} {B : Nat × Nat} {S : Stat} {D : Dat} {M u v a ra na : Nat} {f : Int} {l1 l2 l4 l5 l6 l7 l8 : PV} (hM : mR S M u v) (ha : wS 17 S a ra) (hau : u ≠ a + 1) (hna : D a 2 = na) (hd : dok (D (a + 1)) na) (hra : na ≤ ra) (hna2 : na < 266) (hf : 1 ≤ f ∧ f ≤ 500000000)
    (K : ∀ (D' : Dat) (ca : Int), 0 ≤ ca ∧ ca < f → (∀ c l, c ≠ u → D' c l = D c l) → dok (D' u) na → dv (D' u) na + ca * 1000000000 ^ na = f * dv (D (a + 1)) na →
      Wp P_X16_divide E 3 [some (aR M), some l1, some l2, some (aR a), some l4, some l5, some l6, some l7, some l8, some (aL f), none, some (aL ca), none, some (aI na)] [] B S D') :
    ∀ (L i : Nat) (ca : Int) (D' : Dat), i + L = na → 0 ≤ ca ∧ ca < f → (∀ c l, c ≠ u → D' c l = D c l) → dok (D' u) i → dv (D' u) i + ca * 1000000000 ^ i = f * dv (D (a + 1)) i →
      Wp P_X16_divide E 3 [some (aR M), some l1, some l2, some (aR a), some l4, some l5, some l6, some l7, some l8, some (aL f), none, some (aL ca), none, some (aI i)] [] B S D' := by
  obtain ⟨m1, m2, m3, m4, m5, m6⟩ := hM
  obtain ⟨a1, a2, a3⟩ := ha
  have nau : a ≠ u := fun g => by rw [g, m3] at a1; simp at a1
  intro L
  induction L with
  | zero =>
    intro i ca D' hi hca hk hdd hval
    have hin : i = na := by omega
    subst hin
    exact K D' ca hca hk hdd hval
  | succ L ih =>
    intro i ca D' hi hca hk hdd hval
    have e1 : D' a 2 = na := by rw [hk a 2 nau, hna]
    have e2 : D' (a + 1) i = D (a + 1) i := hk _ _ (Ne.symm hau)
    have cd := hd i (by omega) (by omega)
    refine wp_in ?_
    simp only [P_X16_divide, i_kil, i_icon, i_lcon, i_null, i_loadI, i_loadL, i_loadR, i_istore, i_lstore, i_astore, i_iinc, i_dup, i_dup2, i_pop, i_iadd, i_isub, i_imul, i_idiv, i_irem, i_ineg, i_iand, i_ior, i_ishl, i_ishr, i_lxor, i_ladd, i_lsub, i_lmul, i_ldiv, i_lrem, i_lneg, i_lshl, i_lcmp, i_i2l, i_l2i, i_i2b, i_i2s, i_ifeq, i_ifne, i_iflt, i_ifge, i_ifgt, i_ifle, i_cmpeq, i_cmpne, i_cmplt, i_cmpge, i_cmpgt, i_cmple, i_acmpeq, i_acmpne, i_ifnull, i_ifnonnull, i_getI, i_getR, i_putI, i_putZ, i_putR, i_ald, i_ldL, i_ldR, i_ast, i_stL, i_stR, i_alen, i_new, i_newa, i_iret, i_zret, i_lret, i_aret, i_vret, i_raise, i_throw, i_recv, i_objinit, i_tsw3, lget, lset, lput1, lput2, lkil, ltrim, largs, isL, takev, dropv, nthv, pushO, catv, gd, true_and, and_true, Option.some.injEq, Prod.mk.injEq, exists_eq_left', if_true, if_false, reduceCtorEq, Bool.false_eq_true, lcmp_ge, lcmp_lt, lcmp_le, lcmp_gt, lcmp_eq, true_or, or_true, not_true_eq_false, not_false_eq_true, false_implies, true_implies, List.length_cons, List.length_nil, m1, m2, m3, m4, m5, a1, a2, a3, e1, e2]
    have hm0 : 0 ≤ D (a + 1) i * f := Int.mul_nonneg cd.1 (by omega)
    have hm1 : D (a + 1) i * f ≤ 999999999 * f := Int.mul_le_mul_of_nonneg_right (by omega) (by omega)
    generalize hT : ca + D (a + 1) i * f = T
    rw [tdiv_nn (by omega), tmod_nn (by omega)]
    have hTq : T / 1000000000 < f := (Int.ediv_lt_iff_lt_mul (by decide)).mpr (by omega)
    refine ⟨fun h => by omega, fun _ => ⟨by omega, by omega, by unfold inL; omega, by unfold inL; omega, by decide, by unfold inL; omega, by unfold inI; omega, by omega, by omega, by simp [okT], by decide, by unfold inL; omega, in_small (by omega) (by omega), ?_⟩⟩
    have ez : ∀ l, pmu D' u i (T % 1000000000) u l = if l = i then T % 1000000000 else D' u l := fun l => by simp [pmu]
    refine ih (i + 1) (T / 1000000000) _ (by omega) ⟨by omega, hTq⟩ (fun c l h => ?_) (fun l g1 g2 => ?_) ?_
    · simp only [pmu]
      rw [if_neg (fun g => h g.1)]
      exact hk c l h
    · rw [ez]; split
      · omega
      · exact hdd l g1 (by omega)
    · have e3 : dv (pmu D' u i (T % 1000000000) u) i = dv (D' u) i := dv_congr fun l g1 g2 => by rw [ez, if_neg (by omega)]
      simp only [dv]
      rw [e3, pw_succ, ez, if_pos rfl]
      have h6 := Int.emod_add_mul_ediv T 1000000000
      generalize T % 1000000000 = q1 at *
      generalize T / 1000000000 = q2 at *
      generalize D (a + 1) (i : Int) = wv at *
      generalize dv (D' u) i = z1 at *
      generalize dv (D (a + 1)) i = z2 at *
      generalize (1000000000 : Int) ^ i = pi at *
      clear hk hd hdd ih K ez e3 hm0 hm1 e1 e2
      grind
set_option maxHeartbeats 1000000 in
theorem sp_X16_div4 {E : Ex} {B : Nat × Nat} {S : Stat} {D : Dat} {M u v a ra na : Nat} {f : Int} {l1 l2 l5 l6 l8 : PV} (hM : mR S M u v) (ha : wS 17 S a ra) (hau : v ≠ a + 1) (hd : dok (D (a + 1)) na) (hra : na ≤ ra) (hna2 : na < 266) (hf : 1 ≤ f ∧ f ≤ 500000000)
    (K : ∀ (D' : Dat) (ca : Int), 0 ≤ ca ∧ ca < f → (∀ c l, c ≠ v → D' c l = D c l) → dok (D' v) na → dv (D' v) na + ca * 1000000000 ^ na = f * dv (D (a + 1)) na →
      Wp P_X16_divide E 4 [some (aR M), some l1, some l2, none, some (aR a), some l5, some l6, some (aI na), some l8, some (aL f), none, some (aL ca), none, some (aI na)] [] B S D') :
    ∀ (L i : Nat) (ca : Int) (D' : Dat), i + L = na → 0 ≤ ca ∧ ca < f → (∀ c l, c ≠ v → D' c l = D c l) → dok (D' v) i → dv (D' v) i + ca * 1000000000 ^ i = f * dv (D (a + 1)) i →
      Wp P_X16_divide E 4 [some (aR M), some l1, some l2, none, some (aR a), some l5, some l6, some (aI na), some l8, some (aL f), none, some (aL ca), none, some (aI i)] [] B S D' := by
  obtain ⟨m1, m2, m3, m4, m5, m6⟩ := hM
  obtain ⟨a1, a2, a3⟩ := ha
  have nau : a ≠ v := fun g => by rw [g, m5] at a1; simp at a1
  intro L
  induction L with
  | zero =>
    intro i ca D' hi hca hk hdd hval
    have hin : i = na := by omega
    subst hin
    exact K D' ca hca hk hdd hval
  | succ L ih =>
    intro i ca D' hi hca hk hdd hval
    have e2 : D' (a + 1) i = D (a + 1) i := hk _ _ (Ne.symm hau)
    have cd := hd i (by omega) (by omega)
    refine wp_in ?_
    simp only [P_X16_divide, i_kil, i_icon, i_lcon, i_null, i_loadI, i_loadL, i_loadR, i_istore, i_lstore, i_astore, i_iinc, i_dup, i_dup2, i_pop, i_iadd, i_isub, i_imul, i_idiv, i_irem, i_ineg, i_iand, i_ior, i_ishl, i_ishr, i_lxor, i_ladd, i_lsub, i_lmul, i_ldiv, i_lrem, i_lneg, i_lshl, i_lcmp, i_i2l, i_l2i, i_i2b, i_i2s, i_ifeq, i_ifne, i_iflt, i_ifge, i_ifgt, i_ifle, i_cmpeq, i_cmpne, i_cmplt, i_cmpge, i_cmpgt, i_cmple, i_acmpeq, i_acmpne, i_ifnull, i_ifnonnull, i_getI, i_getR, i_putI, i_putZ, i_putR, i_ald, i_ldL, i_ldR, i_ast, i_stL, i_stR, i_alen, i_new, i_newa, i_iret, i_zret, i_lret, i_aret, i_vret, i_raise, i_throw, i_recv, i_objinit, i_tsw3, lget, lset, lput1, lput2, lkil, ltrim, largs, isL, takev, dropv, nthv, pushO, catv, gd, true_and, and_true, Option.some.injEq, Prod.mk.injEq, exists_eq_left', if_true, if_false, reduceCtorEq, Bool.false_eq_true, lcmp_ge, lcmp_lt, lcmp_le, lcmp_gt, lcmp_eq, true_or, or_true, not_true_eq_false, not_false_eq_true, false_implies, true_implies, List.length_cons, List.length_nil, m1, m2, m3, m4, m5, a1, a2, a3, e2]
    have hm0 : 0 ≤ D (a + 1) i * f := Int.mul_nonneg cd.1 (by omega)
    have hm1 : D (a + 1) i * f ≤ 999999999 * f := Int.mul_le_mul_of_nonneg_right (by omega) (by omega)
    generalize hT : ca + D (a + 1) i * f = T
    rw [tdiv_nn (by omega), tmod_nn (by omega)]
    have hTq : T / 1000000000 < f := (Int.ediv_lt_iff_lt_mul (by decide)).mpr (by omega)
    refine ⟨fun h => by omega, fun _ => ⟨by omega, by omega, by unfold inL; omega, by unfold inL; omega, by decide, by unfold inL; omega, by unfold inI; omega, by omega, by omega, by simp [okT], by decide, by unfold inL; omega, in_small (by omega) (by omega), ?_⟩⟩
    have ez : ∀ l, pmu D' v i (T % 1000000000) v l = if l = i then T % 1000000000 else D' v l := fun l => by simp [pmu]
    refine ih (i + 1) (T / 1000000000) _ (by omega) ⟨by omega, hTq⟩ (fun c l h => ?_) (fun l g1 g2 => ?_) ?_
    · simp only [pmu]
      rw [if_neg (fun g => h g.1)]
      exact hk c l h
    · rw [ez]; split
      · omega
      · exact hdd l g1 (by omega)
    · have e3 : dv (pmu D' v i (T % 1000000000) v) i = dv (D' v) i := dv_congr fun l g1 g2 => by rw [ez, if_neg (by omega)]
      simp only [dv]
      rw [e3, pw_succ, ez, if_pos rfl]
      have h6 := Int.emod_add_mul_ediv T 1000000000
      generalize T % 1000000000 = q1 at *
      generalize T / 1000000000 = q2 at *
      generalize D (a + 1) (i : Int) = wv at *
      generalize dv (D' v) i = z1 at *
      generalize dv (D (a + 1)) i = z2 at *
      generalize (1000000000 : Int) ^ i = pi at *
      clear hk hd hdd ih K ez e3 hm0 hm1 e2
      grind
