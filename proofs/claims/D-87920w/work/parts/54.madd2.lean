/-! the model's add, whole -/
set_option maxRecDepth 100000
set_option linter.unusedVariables false
theorem wp_J9_max2 {K : Tm} {ls : List (Option PV)} {st : List PV} {B : Nat × Nat} {S : Stat} {D : Dat} {x y : Int} (hc : gdb (.inl y :: .inl x :: st) 2 2 = true) (h : K ls (.inl (if x < y then y else x) :: st) B S D) : i_call K P_J9_max 2 2 i_none ls (.inl y :: .inl x :: st) B S D := wp_J9_max hc h
theorem wD.resign {kn ks : Int} {D : Dat} {w : Nat} {z : Int} (h : wD kn ks D w z) (hk : kn ≠ ks) {s : Int} (hs : (s = 1 ∨ s = -1) ∨ z = 0 ∧ s = 0) (hz : z ≠ 0 ∨ s = 0) : wD kn ks (pmu D w ks s) w (s * z.natAbs) := by
  obtain ⟨n, h1, h2, h3, h4⟩ := h
  have e : pmu D w ks s (w + 1) = D (w + 1) := by funext i; simp [pmu]
  refine ⟨n, by simp [pmu, hk, h1], by rw [e]; exact h2, ?_, ?_⟩
  · simp only [pmu, and_self, if_true]
    rcases hs with (h | h) | ⟨h, h'⟩
    · subst h; rw [Int.one_mul, Int.sign_eq_one_of_pos]; omega
    · subst h; rw [Int.neg_one_mul, Int.sign_eq_neg_one_of_neg]; omega
    · subst h'; simp
  · rw [e, ← h4]
    rcases hs with (h | h) | ⟨h, h'⟩
    · subst h; omega
    · subst h; omega
    · subst h'; subst h; rfl
set_option maxHeartbeats 1000000 in
theorem sp_X16_add {E : Ex} {B : Nat × Nat} {S : Stat} {D : Dat} {t a b r ra rb : Nat} {x y w : Int} (ht : wS 17 S t r) (ha : wS 17 S a ra) (hb : wS 17 S b rb) (hx : wD 2 1 D a x) (hy : wD 2 1 D b y) (hw : w = 1 ∨ w = -1) (hla : (x.natAbs : Int) < 1000000000 ^ ra) (hlb : (y.natAbs : Int) < 1000000000 ^ rb) (hl : (x.natAbs : Int) + y.natAbs < 1000000000 ^ r) (h0 : r < 1000) (h1 : ra < 1000) (h2 : rb < 1000)
    (k : ∀ D' : Dat, wO D D' t → wD 2 1 D' t (x + w * y) → E (.inl none) B S D') : Wp P_X16_add E 0 [some (aR t), some (aR a), some (aR b), some (aI w)] [] B S D := by
  have ht0 := ht
  have ha0 := ha
  have hb0 := hb
  obtain ⟨n, hnr, a1, a2, a3, a4⟩ := hx.nat hla
  obtain ⟨m, hmr, b1, b2, b3, b4⟩ := hy.nat hlb
  obtain ⟨t1, t2, t3⟩ := ht
  obtain ⟨u1, u2, u3⟩ := ha
  obtain ⟨v1, v2, v3⟩ := hb
  have hsx := sgn_cases x
  have hsy := sgn_cases y
  have hbs : Int.sign y * w = 0 ∧ y = 0 ∨ Int.sign y * w = 1 ∧ w * y = y.natAbs ∧ y ≠ 0 ∨ Int.sign y * w = -1 ∧ w * y = -y.natAbs ∧ y ≠ 0 := by
    rcases hw with rfl | rfl <;> rcases hsy with q | q | q <;> omega
  have part0 : (x = 0 ∨ y = 0) → Wp P_X16_add E 1 [some (aR t), some (aR a), some (aR b), none, some (aI (Int.sign y * w))] [] B S D := by
    intro hxy
    have fin3 : ∀ (c rc : Nat) (z s : Int) (l3 l4 : Option PV), wS 17 S c rc → wD 2 1 D c z → rc < 1000 → (z.natAbs : Int) < 1000000000 ^ rc → (z.natAbs : Int) < 1000000000 ^ r → ((s = 1 ∨ s = -1) ∨ z = 0 ∧ s = 0) → (z ≠ 0 ∨ s = 0) → s * z.natAbs = x + w * y → Wp P_X16_add E 3 [some (aR t), none, none, l3, l4, some (aI s)] [aR c, aR t] B S D := by
      intro c rc z s l3 l4 hc hcz hrc hb1 hb2 hs hz0 hz
      refine wp_in ?_
      simp only [P_X16_add, i_kil, i_icon, i_lcon, i_null, i_loadI, i_loadL, i_loadR, i_istore, i_lstore, i_astore, i_iinc, i_dup, i_dup2, i_pop, i_iadd, i_isub, i_imul, i_idiv, i_irem, i_ineg, i_iand, i_ior, i_ishl, i_ishr, i_lxor, i_ladd, i_lsub, i_lmul, i_ldiv, i_lrem, i_lneg, i_lshl, i_lcmp, i_i2l, i_l2i, i_i2b, i_i2s, i_ifeq, i_ifne, i_iflt, i_ifge, i_ifgt, i_ifle, i_cmpeq, i_cmpne, i_cmplt, i_cmpge, i_cmpgt, i_cmple, i_acmpeq, i_acmpne, i_ifnull, i_ifnonnull, i_getI, i_getR, i_putI, i_putZ, i_putR, i_ald, i_ldL, i_ldR, i_ast, i_stL, i_stR, i_alen, i_new, i_newa, i_iret, i_zret, i_lret, i_aret, i_vret, i_raise, i_throw, i_recv, i_objinit, i_tsw3, lget, lset, lput1, lput2, lkil, ltrim, largs, isL, takev, dropv, nthv, pushO, catv, gd, true_and, and_true, Option.some.injEq, Prod.mk.injEq, exists_eq_left', if_true, if_false, reduceCtorEq, Bool.false_eq_true, lcmp_ge, lcmp_lt, lcmp_le, lcmp_gt, lcmp_eq, true_or, or_true, not_true_eq_false, not_false_eq_true, false_implies, true_implies, List.length_cons, List.length_nil, t1, t2, t3]
      refine ⟨⟨t, rfl, t1⟩, call0 (gd_of rfl) ?_⟩
      refine sp_X17_copy ht0 hc hcz hb2 hb1 h0 fun D1 g1 g2 => ?_
      simp only [P_X16_add, i_kil, i_icon, i_lcon, i_null, i_loadI, i_loadL, i_loadR, i_istore, i_lstore, i_astore, i_iinc, i_dup, i_dup2, i_pop, i_iadd, i_isub, i_imul, i_idiv, i_irem, i_ineg, i_iand, i_ior, i_ishl, i_ishr, i_lxor, i_ladd, i_lsub, i_lmul, i_ldiv, i_lrem, i_lneg, i_lshl, i_lcmp, i_i2l, i_l2i, i_i2b, i_i2s, i_ifeq, i_ifne, i_iflt, i_ifge, i_ifgt, i_ifle, i_cmpeq, i_cmpne, i_cmplt, i_cmpge, i_cmpgt, i_cmple, i_acmpeq, i_acmpne, i_ifnull, i_ifnonnull, i_getI, i_getR, i_putI, i_putZ, i_putR, i_ald, i_ldL, i_ldR, i_ast, i_stL, i_stR, i_alen, i_new, i_newa, i_iret, i_zret, i_lret, i_aret, i_vret, i_raise, i_throw, i_recv, i_objinit, i_tsw3, lget, lset, lput1, lput2, lkil, ltrim, largs, isL, takev, dropv, nthv, pushO, catv, gd, true_and, and_true, Option.some.injEq, Prod.mk.injEq, exists_eq_left', if_true, if_false, reduceCtorEq, Bool.false_eq_true, lcmp_ge, lcmp_lt, lcmp_le, lcmp_gt, lcmp_eq, true_or, or_true, not_true_eq_false, not_false_eq_true, false_implies, true_implies, List.length_cons, List.length_nil, t1, t2, t3]
      refine k _ (fun c i c1 c2 => by simp [pmu, c1, g1 c i c1 c2]) ?_
      have h := g2.resign (s := s) (by decide) hs hz0
      rw [hz] at h
      exact h
    refine wp_in ?_
    simp only [P_X16_add, i_kil, i_icon, i_lcon, i_null, i_loadI, i_loadL, i_loadR, i_istore, i_lstore, i_astore, i_iinc, i_dup, i_dup2, i_pop, i_iadd, i_isub, i_imul, i_idiv, i_irem, i_ineg, i_iand, i_ior, i_ishl, i_ishr, i_lxor, i_ladd, i_lsub, i_lmul, i_ldiv, i_lrem, i_lneg, i_lshl, i_lcmp, i_i2l, i_l2i, i_i2b, i_i2s, i_ifeq, i_ifne, i_iflt, i_ifge, i_ifgt, i_ifle, i_cmpeq, i_cmpne, i_cmplt, i_cmpge, i_cmpgt, i_cmple, i_acmpeq, i_acmpne, i_ifnull, i_ifnonnull, i_getI, i_getR, i_putI, i_putZ, i_putR, i_ald, i_ldL, i_ldR, i_ast, i_stL, i_stR, i_alen, i_new, i_newa, i_iret, i_zret, i_lret, i_aret, i_vret, i_raise, i_throw, i_recv, i_objinit, i_tsw3, lget, lset, lput1, lput2, lkil, ltrim, largs, isL, takev, dropv, nthv, pushO, catv, gd, true_and, and_true, Option.some.injEq, Prod.mk.injEq, exists_eq_left', if_true, if_false, reduceCtorEq, Bool.false_eq_true, lcmp_ge, lcmp_lt, lcmp_le, lcmp_gt, lcmp_eq, true_or, or_true, not_true_eq_false, not_false_eq_true, false_implies, true_implies, List.length_cons, List.length_nil, t1, u1, v1, a3, b3]
    refine ⟨fun hx0 => wp_in ?_, fun hx0 => wp_in ?_⟩
    · simp only [P_X16_add, i_kil, i_icon, i_lcon, i_null, i_loadI, i_loadL, i_loadR, i_istore, i_lstore, i_astore, i_iinc, i_dup, i_dup2, i_pop, i_iadd, i_isub, i_imul, i_idiv, i_irem, i_ineg, i_iand, i_ior, i_ishl, i_ishr, i_lxor, i_ladd, i_lsub, i_lmul, i_ldiv, i_lrem, i_lneg, i_lshl, i_lcmp, i_i2l, i_l2i, i_i2b, i_i2s, i_ifeq, i_ifne, i_iflt, i_ifge, i_ifgt, i_ifle, i_cmpeq, i_cmpne, i_cmplt, i_cmpge, i_cmpgt, i_cmple, i_acmpeq, i_acmpne, i_ifnull, i_ifnonnull, i_getI, i_getR, i_putI, i_putZ, i_putR, i_ald, i_ldL, i_ldR, i_ast, i_stL, i_stR, i_alen, i_new, i_newa, i_iret, i_zret, i_lret, i_aret, i_vret, i_raise, i_throw, i_recv, i_objinit, i_tsw3, lget, lset, lput1, lput2, lkil, ltrim, largs, isL, takev, dropv, nthv, pushO, catv, gd, true_and, and_true, Option.some.injEq, Prod.mk.injEq, exists_eq_left', if_true, if_false, reduceCtorEq, Bool.false_eq_true, lcmp_ge, lcmp_lt, lcmp_le, lcmp_gt, lcmp_eq, true_or, or_true, not_true_eq_false, not_false_eq_true, false_implies, true_implies, List.length_cons, List.length_nil, t1, u1, v1, a3, b3]
      have hxn : x ≠ 0 := fun h => hx0 (by rw [h]; rfl)
      refine ⟨fun h => ?_, fun h => absurd h hx0⟩
      refine fin3 a ra x (Int.sign x) _ _ ha0 hx h1 hla (by omega) (by omega) (.inl hxn) ?_
      have hy0 : y = 0 := by rcases hxy with h | h; · exact absurd h hxn
                             · exact h
      rw [← sgn_mul_abs, hy0, Int.mul_zero, Int.add_zero]
    · simp only [P_X16_add, i_kil, i_icon, i_lcon, i_null, i_loadI, i_loadL, i_loadR, i_istore, i_lstore, i_astore, i_iinc, i_dup, i_dup2, i_pop, i_iadd, i_isub, i_imul, i_idiv, i_irem, i_ineg, i_iand, i_ior, i_ishl, i_ishr, i_lxor, i_ladd, i_lsub, i_lmul, i_ldiv, i_lrem, i_lneg, i_lshl, i_lcmp, i_i2l, i_l2i, i_i2b, i_i2s, i_ifeq, i_ifne, i_iflt, i_ifge, i_ifgt, i_ifle, i_cmpeq, i_cmpne, i_cmplt, i_cmpge, i_cmpgt, i_cmple, i_acmpeq, i_acmpne, i_ifnull, i_ifnonnull, i_getI, i_getR, i_putI, i_putZ, i_putR, i_ald, i_ldL, i_ldR, i_ast, i_stL, i_stR, i_alen, i_new, i_newa, i_iret, i_zret, i_lret, i_aret, i_vret, i_raise, i_throw, i_recv, i_objinit, i_tsw3, lget, lset, lput1, lput2, lkil, ltrim, largs, isL, takev, dropv, nthv, pushO, catv, gd, true_and, and_true, Option.some.injEq, Prod.mk.injEq, exists_eq_left', if_true, if_false, reduceCtorEq, Bool.false_eq_true, lcmp_ge, lcmp_lt, lcmp_le, lcmp_gt, lcmp_eq, true_or, or_true, not_true_eq_false, not_false_eq_true, false_implies, true_implies, List.length_cons, List.length_nil, t1, u1, v1, a3, b3]
      have hxn : x = 0 := Int.sign_eq_zero_iff_zero.mp hx0
      refine ⟨fun h => absurd hx0 h, fun h => ?_⟩
      refine fin3 b rb y (Int.sign y * w) _ _ hb0 hy h2 hlb (by omega) (by omega) (by omega) ?_
      rw [hxn, Int.zero_add]
      rcases hbs with ⟨q1, q2⟩ | ⟨q1, q2, q3⟩ | ⟨q1, q2, q3⟩
      · rw [q2]; simp
      · rw [q1, q2, Int.one_mul]
      · rw [q1, q2, Int.neg_one_mul]
  refine wp_in ?_
  simp only [P_X16_add, i_kil, i_icon, i_lcon, i_null, i_loadI, i_loadL, i_loadR, i_istore, i_lstore, i_astore, i_iinc, i_dup, i_dup2, i_pop, i_iadd, i_isub, i_imul, i_idiv, i_irem, i_ineg, i_iand, i_ior, i_ishl, i_ishr, i_lxor, i_ladd, i_lsub, i_lmul, i_ldiv, i_lrem, i_lneg, i_lshl, i_lcmp, i_i2l, i_l2i, i_i2b, i_i2s, i_ifeq, i_ifne, i_iflt, i_ifge, i_ifgt, i_ifle, i_cmpeq, i_cmpne, i_cmplt, i_cmpge, i_cmpgt, i_cmple, i_acmpeq, i_acmpne, i_ifnull, i_ifnonnull, i_getI, i_getR, i_putI, i_putZ, i_putR, i_ald, i_ldL, i_ldR, i_ast, i_stL, i_stR, i_alen, i_new, i_newa, i_iret, i_zret, i_lret, i_aret, i_vret, i_raise, i_throw, i_recv, i_objinit, i_tsw3, lget, lset, lput1, lput2, lkil, ltrim, largs, isL, takev, dropv, nthv, pushO, catv, gd, true_and, and_true, Option.some.injEq, Prod.mk.injEq, exists_eq_left', if_true, if_false, reduceCtorEq, Bool.false_eq_true, lcmp_ge, lcmp_lt, lcmp_le, lcmp_gt, lcmp_eq, true_or, or_true, not_true_eq_false, not_false_eq_true, false_implies, true_implies, List.length_cons, List.length_nil, t1, u1, v1, a1, b1, a3, b3]
  refine ⟨by unfold inI; omega, fun h => part0 (.inr (by omega)), fun h => ⟨fun g => ⟨fun hne => ?_, fun he => ?_⟩, fun g => part0 (.inl (Int.sign_eq_zero_iff_zero.mp g))⟩⟩
  · refine call0 (gd_of rfl) ?_
    refine sp_X16_compare ha0 hb0 hx hy hla hlb h1 h2 fun c hc1 hc2 => ?_
    simp only [P_X16_add, i_kil, i_icon, i_lcon, i_null, i_loadI, i_loadL, i_loadR, i_istore, i_lstore, i_astore, i_iinc, i_dup, i_dup2, i_pop, i_iadd, i_isub, i_imul, i_idiv, i_irem, i_ineg, i_iand, i_ior, i_ishl, i_ishr, i_lxor, i_ladd, i_lsub, i_lmul, i_ldiv, i_lrem, i_lneg, i_lshl, i_lcmp, i_i2l, i_l2i, i_i2b, i_i2s, i_ifeq, i_ifne, i_iflt, i_ifge, i_ifgt, i_ifle, i_cmpeq, i_cmpne, i_cmplt, i_cmpge, i_cmpgt, i_cmple, i_acmpeq, i_acmpne, i_ifnull, i_ifnonnull, i_getI, i_getR, i_putI, i_putZ, i_putR, i_ald, i_ldL, i_ldR, i_ast, i_stL, i_stR, i_alen, i_new, i_newa, i_iret, i_zret, i_lret, i_aret, i_vret, i_raise, i_throw, i_recv, i_objinit, i_tsw3, lget, lset, lput1, lput2, lkil, ltrim, largs, isL, takev, dropv, nthv, pushO, catv, gd, true_and, and_true, Option.some.injEq, Prod.mk.injEq, exists_eq_left', if_true, if_false, reduceCtorEq, Bool.false_eq_true, lcmp_ge, lcmp_lt, lcmp_le, lcmp_gt, lcmp_eq, true_or, or_true, not_true_eq_false, not_false_eq_true, false_implies, true_implies, List.length_cons, List.length_nil, t1, u1, v1, a1, b1, a3, b3]
    have partB : ∀ (g s : Nat) (p q rg rs : Nat) (zg : Int), wS 17 S g rg → wS 17 S s rs → D g 2 = p → dcan (D (g + 1)) p → p ≤ rg → p ≤ r → rg < 1000 → D s 2 = q → dcan (D (s + 1)) q → q ≤ rs → dv (D (s + 1)) q < dv (D (g + 1)) p → (zg = 1 ∨ zg = -1) → x + w * y = zg * (dv (D (g + 1)) p - dv (D (s + 1)) q) →
        Wp P_X16_add E 10 [some (aR t), none, none, none, none, none, some (aR g), some (aR s)] [aI zg] B S D := by
      intro g s p q rg rs zg hg hs p1 p2 p3 p4 p5 q1 q2 q3 hle hz hres
      refine wp_in ?_
      simp only [P_X16_add, i_kil, i_icon, i_lcon, i_null, i_loadI, i_loadL, i_loadR, i_istore, i_lstore, i_astore, i_iinc, i_dup, i_dup2, i_pop, i_iadd, i_isub, i_imul, i_idiv, i_irem, i_ineg, i_iand, i_ior, i_ishl, i_ishr, i_lxor, i_ladd, i_lsub, i_lmul, i_ldiv, i_lrem, i_lneg, i_lshl, i_lcmp, i_i2l, i_l2i, i_i2b, i_i2s, i_ifeq, i_ifne, i_iflt, i_ifge, i_ifgt, i_ifle, i_cmpeq, i_cmpne, i_cmplt, i_cmpge, i_cmpgt, i_cmple, i_acmpeq, i_acmpne, i_ifnull, i_ifnonnull, i_getI, i_getR, i_putI, i_putZ, i_putR, i_ald, i_ldL, i_ldR, i_ast, i_stL, i_stR, i_alen, i_new, i_newa, i_iret, i_zret, i_lret, i_aret, i_vret, i_raise, i_throw, i_recv, i_objinit, i_tsw3, lget, lset, lput1, lput2, lkil, ltrim, largs, isL, takev, dropv, nthv, pushO, catv, gd, true_and, and_true, Option.some.injEq, Prod.mk.injEq, exists_eq_left', if_true, if_false, reduceCtorEq, Bool.false_eq_true, lcmp_ge, lcmp_lt, lcmp_le, lcmp_gt, lcmp_eq, true_or, or_true, not_true_eq_false, not_false_eq_true, false_implies, true_implies, List.length_cons, List.length_nil, hg.1, hs.1, p1, q1]
      exact sp_X16_addB ht0 hg hs p1 p2 p3 p4 p5 h0 q1 q2 q3 hle hz hres k p 0 0 D (by omega) (.inl rfl) (fun _ _ _ => rfl) (fun _ _ => rfl) (fun i h1 h2 => by omega) (by simp [dv])
    have hsg : (0 < x ∧ Int.sign y * w = -1) ∨ (x < 0 ∧ Int.sign y * w = 1) := by
      rcases hsx with q | q | q <;> omega
    have hnr2 : n ≤ r := a2.size_le (by omega)
    have hmr2 : m ≤ r := b2.size_le (by omega)
    refine ⟨fun hc => ⟨fun hc0 => wp_in ?_, fun hc0 => wp_in ?_⟩, fun hc => ?_⟩
    · simp only [P_X16_add, i_kil, i_icon, i_lcon, i_null, i_loadI, i_loadL, i_loadR, i_istore, i_lstore, i_astore, i_iinc, i_dup, i_dup2, i_pop, i_iadd, i_isub, i_imul, i_idiv, i_irem, i_ineg, i_iand, i_ior, i_ishl, i_ishr, i_lxor, i_ladd, i_lsub, i_lmul, i_ldiv, i_lrem, i_lneg, i_lshl, i_lcmp, i_i2l, i_l2i, i_i2b, i_i2s, i_ifeq, i_ifne, i_iflt, i_ifge, i_ifgt, i_ifle, i_cmpeq, i_cmpne, i_cmplt, i_cmpge, i_cmpgt, i_cmple, i_acmpeq, i_acmpne, i_ifnull, i_ifnonnull, i_getI, i_getR, i_putI, i_putZ, i_putR, i_ald, i_ldL, i_ldR, i_ast, i_stL, i_stR, i_alen, i_new, i_newa, i_iret, i_zret, i_lret, i_aret, i_vret, i_raise, i_throw, i_recv, i_objinit, i_tsw3, lget, lset, lput1, lput2, lkil, ltrim, largs, isL, takev, dropv, nthv, pushO, catv, gd, true_and, and_true, Option.some.injEq, Prod.mk.injEq, exists_eq_left', if_true, if_false, reduceCtorEq, Bool.false_eq_true, lcmp_ge, lcmp_lt, lcmp_le, lcmp_gt, lcmp_eq, true_or, or_true, not_true_eq_false, not_false_eq_true, false_implies, true_implies, List.length_cons, List.length_nil, t1, u1, v1, a3, b3]
      refine ⟨fun _ => wp_in ?_, fun h => by omega⟩
      simp only [P_X16_add, i_kil, i_icon, i_lcon, i_null, i_loadI, i_loadL, i_loadR, i_istore, i_lstore, i_astore, i_iinc, i_dup, i_dup2, i_pop, i_iadd, i_isub, i_imul, i_idiv, i_irem, i_ineg, i_iand, i_ior, i_ishl, i_ishr, i_lxor, i_ladd, i_lsub, i_lmul, i_ldiv, i_lrem, i_lneg, i_lshl, i_lcmp, i_i2l, i_l2i, i_i2b, i_i2s, i_ifeq, i_ifne, i_iflt, i_ifge, i_ifgt, i_ifle, i_cmpeq, i_cmpne, i_cmplt, i_cmpge, i_cmpgt, i_cmple, i_acmpeq, i_acmpne, i_ifnull, i_ifnonnull, i_getI, i_getR, i_putI, i_putZ, i_putR, i_ald, i_ldL, i_ldR, i_ast, i_stL, i_stR, i_alen, i_new, i_newa, i_iret, i_zret, i_lret, i_aret, i_vret, i_raise, i_throw, i_recv, i_objinit, i_tsw3, lget, lset, lput1, lput2, lkil, ltrim, largs, isL, takev, dropv, nthv, pushO, catv, gd, true_and, and_true, Option.some.injEq, Prod.mk.injEq, exists_eq_left', if_true, if_false, reduceCtorEq, Bool.false_eq_true, lcmp_ge, lcmp_lt, lcmp_le, lcmp_gt, lcmp_eq, true_or, or_true, not_true_eq_false, not_false_eq_true, false_implies, true_implies, List.length_cons, List.length_nil, t1, u1, v1, a3, b3]
      refine ⟨fun _ => ?_, fun h => by omega⟩
      refine partB b a m n rb ra _ hb0 ha0 b1 b2 hmr hmr2 h2 a1 a2 hnr (by omega) (by omega) ?_
      rw [← a4, ← b4]
      rcases hsg with ⟨q1, q2⟩ | ⟨q1, q2⟩ <;> rw [q2] <;> omega
    · simp only [P_X16_add, i_kil, i_icon, i_lcon, i_null, i_loadI, i_loadL, i_loadR, i_istore, i_lstore, i_astore, i_iinc, i_dup, i_dup2, i_pop, i_iadd, i_isub, i_imul, i_idiv, i_irem, i_ineg, i_iand, i_ior, i_ishl, i_ishr, i_lxor, i_ladd, i_lsub, i_lmul, i_ldiv, i_lrem, i_lneg, i_lshl, i_lcmp, i_i2l, i_l2i, i_i2b, i_i2s, i_ifeq, i_ifne, i_iflt, i_ifge, i_ifgt, i_ifle, i_cmpeq, i_cmpne, i_cmplt, i_cmpge, i_cmpgt, i_cmple, i_acmpeq, i_acmpne, i_ifnull, i_ifnonnull, i_getI, i_getR, i_putI, i_putZ, i_putR, i_ald, i_ldL, i_ldR, i_ast, i_stL, i_stR, i_alen, i_new, i_newa, i_iret, i_zret, i_lret, i_aret, i_vret, i_raise, i_throw, i_recv, i_objinit, i_tsw3, lget, lset, lput1, lput2, lkil, ltrim, largs, isL, takev, dropv, nthv, pushO, catv, gd, true_and, and_true, Option.some.injEq, Prod.mk.injEq, exists_eq_left', if_true, if_false, reduceCtorEq, Bool.false_eq_true, lcmp_ge, lcmp_lt, lcmp_le, lcmp_gt, lcmp_eq, true_or, or_true, not_true_eq_false, not_false_eq_true, false_implies, true_implies, List.length_cons, List.length_nil, t1, u1, v1, a3, b3]
      refine ⟨fun h => by omega, fun _ => wp_in ?_⟩
      simp only [P_X16_add, i_kil, i_icon, i_lcon, i_null, i_loadI, i_loadL, i_loadR, i_istore, i_lstore, i_astore, i_iinc, i_dup, i_dup2, i_pop, i_iadd, i_isub, i_imul, i_idiv, i_irem, i_ineg, i_iand, i_ior, i_ishl, i_ishr, i_lxor, i_ladd, i_lsub, i_lmul, i_ldiv, i_lrem, i_lneg, i_lshl, i_lcmp, i_i2l, i_l2i, i_i2b, i_i2s, i_ifeq, i_ifne, i_iflt, i_ifge, i_ifgt, i_ifle, i_cmpeq, i_cmpne, i_cmplt, i_cmpge, i_cmpgt, i_cmple, i_acmpeq, i_acmpne, i_ifnull, i_ifnonnull, i_getI, i_getR, i_putI, i_putZ, i_putR, i_ald, i_ldL, i_ldR, i_ast, i_stL, i_stR, i_alen, i_new, i_newa, i_iret, i_zret, i_lret, i_aret, i_vret, i_raise, i_throw, i_recv, i_objinit, i_tsw3, lget, lset, lput1, lput2, lkil, ltrim, largs, isL, takev, dropv, nthv, pushO, catv, gd, true_and, and_true, Option.some.injEq, Prod.mk.injEq, exists_eq_left', if_true, if_false, reduceCtorEq, Bool.false_eq_true, lcmp_ge, lcmp_lt, lcmp_le, lcmp_gt, lcmp_eq, true_or, or_true, not_true_eq_false, not_false_eq_true, false_implies, true_implies, List.length_cons, List.length_nil, t1, u1, v1, a3, b3]
      refine ⟨fun h => by omega, fun _ => ?_⟩
      refine partB a b n m ra rb _ ha0 hb0 a1 a2 hnr hnr2 h1 b1 b2 hmr (by omega) (by rcases hsx with q | q | q <;> omega) ?_
      rw [← a4, ← b4]
      rcases hsg with ⟨q1, q2⟩ | ⟨q1, q2⟩ <;> rcases hsx with ⟨q3, q4, q5⟩ | ⟨q3, q4⟩ | ⟨q3, q4, q5⟩ <;> rw [q3] <;> omega
    · refine k _ (fun c i c1 c2 => by simp [pmu, c1]) ?_
      have h3 : x + w * y = 0 := by rcases hsg with ⟨q1, q2⟩ | ⟨q1, q2⟩ <;> omega
      rw [h3]
      exact ⟨0, by simp [pmu], ⟨fun i h0 h1 => by omega, fun h => absurd h (by decide)⟩, by simp [pmu], rfl⟩
  · refine wp_J9_max rfl ?_
    simp only [P_X16_add, i_kil, i_icon, i_lcon, i_null, i_loadI, i_loadL, i_loadR, i_istore, i_lstore, i_astore, i_iinc, i_dup, i_dup2, i_pop, i_iadd, i_isub, i_imul, i_idiv, i_irem, i_ineg, i_iand, i_ior, i_ishl, i_ishr, i_lxor, i_ladd, i_lsub, i_lmul, i_ldiv, i_lrem, i_lneg, i_lshl, i_lcmp, i_i2l, i_l2i, i_i2b, i_i2s, i_ifeq, i_ifne, i_iflt, i_ifge, i_ifgt, i_ifle, i_cmpeq, i_cmpne, i_cmplt, i_cmpge, i_cmpgt, i_cmple, i_acmpeq, i_acmpne, i_ifnull, i_ifnonnull, i_getI, i_getR, i_putI, i_putZ, i_putR, i_ald, i_ldL, i_ldR, i_ast, i_stL, i_stR, i_alen, i_new, i_newa, i_iret, i_zret, i_lret, i_aret, i_vret, i_raise, i_throw, i_recv, i_objinit, i_tsw3, lget, lset, lput1, lput2, lkil, ltrim, largs, isL, takev, dropv, nthv, pushO, catv, gd, true_and, and_true, Option.some.injEq, Prod.mk.injEq, exists_eq_left', if_true, if_false, reduceCtorEq, Bool.false_eq_true, lcmp_ge, lcmp_lt, lcmp_le, lcmp_gt, lcmp_eq, true_or, or_true, not_true_eq_false, not_false_eq_true, false_implies, true_implies, List.length_cons, List.length_nil, t1, u1, v1, a1, b1, a3, b3]
    obtain ⟨N, hN⟩ : ∃ N : Nat, N = if n < m then m else n := ⟨_, rfl⟩
    have e : (if (n : Int) < m then (m : Int) else n) = N := by rw [hN]; split <;> split <;> omega
    rw [e]
    exact sp_X16_addA ht0 ha0 hb0 a1 a2 a3 a4 b1 b2 b4 hnr hmr hw he (fun h => g (by rw [h]; rfl)) hl h0 h1 h2 k N hN N 0 0 D (by omega) (.inl rfl) (fun _ _ _ => rfl) (fun _ _ => rfl) (fun i h1 h2 => by omega) (by simp [dv])
