/-! the component's polynomials: a number put -/
set_option maxRecDepth 100000
set_option linter.unusedVariables false
theorem save_at {E : Ex} {B : Nat × Nat} {S : Stat} {D : Dat} {p w r a : Nat} {z y : Int} (hp : pS S p) (hw : wS 3 S w r) (hpw : p + 1 ≠ w + 1) (hz : wD 1 2 D w z) (hb : (z.natAbs : Int) < 1000000000 ^ 14) (hr : 14 ≤ r) (ha : a + 15 ≤ 13650) (hy : y = a)
    (k : ∀ D' : Dat, (∀ c i, ¬ (c = p + 1 ∧ y ≤ i ∧ i < y + 15) → D' c i = D c i) → slot (D' (p + 1)) y z → E (.inl none) B S D') : Wp P_X5_save E 0 [some (aR p), some (aI y), some (aR w)] [] B S D := by
  subst hy
  exact sp_X5_save hp hw hpw hz hb hr ha k
theorem qFb_lim {x : Rat} (h : ¬ qFb x = 0) : (x.num.natAbs : Int) < 1000000000 ^ 14 ∧ (((x.den : Int)).natAbs : Int) < 1000000000 ^ 14 := by
  unfold qFb at h
  have e : (1000 : Int) * 1000000000 ^ 13 < 1000000000 ^ 14 := by decide
  by_cases h1 : (x.num.natAbs : Int) < 1000 * 1000000000 ^ 13
  · rw [if_pos h1] at h
    by_cases h2 : (x.den : Int) < 1000 * 1000000000 ^ 13
    · exact ⟨Int.lt_trans h1 e, by rw [natAbs_nat]; exact Int.lt_trans h2 e⟩
    · rw [if_neg h2] at h; exact absurd rfl h
  · rw [if_neg h1] at h; exact absurd rfl h
set_option maxHeartbeats 2000000 in
theorem sp_X5_put {E : Ex} {B : Nat × Nat} {S : Stat} {D : Dat} {p t o e : Nat} {φ : Nat → Rat} {x : Rat} (hp : pS S p) (hD : pD D p φ) (ht : t < 455) (he : qS S o e) (hx : qD D e x) (hne : p + 1 < e ∨ e + 8 < p)
    (k0 : qFb x = 0 → E (.inl (some (.inl 0))) B S D) (k1 : ¬ qFb x = 0 → ∀ D' : Dat, pO D D' p → pD D' p (pupd φ t x) → E (.inl (some (.inl 1))) B S D') : Wp P_X5_put E 0 [some (aR p), some (aI t), some (aR e)] [] B S D := by
  have hp0 := hp
  have he0 := he
  obtain ⟨p1, p2, p3⟩ := hp
  obtain ⟨e1, e2, e3, e4, e5, e6, -⟩ := he
  refine wp_in ?_
  simp only [P_X5_put, i_kil, i_icon, i_lcon, i_null, i_loadI, i_loadL, i_loadR, i_istore, i_lstore, i_astore, i_iinc, i_dup, i_dup2, i_pop, i_iadd, i_isub, i_imul, i_idiv, i_irem, i_ineg, i_iand, i_ior, i_ishl, i_ishr, i_lxor, i_ladd, i_lsub, i_lmul, i_ldiv, i_lrem, i_lneg, i_lshl, i_lcmp, i_i2l, i_l2i, i_i2b, i_i2s, i_ifeq, i_ifne, i_iflt, i_ifge, i_ifgt, i_ifle, i_cmpeq, i_cmpne, i_cmplt, i_cmpge, i_cmpgt, i_cmple, i_acmpeq, i_acmpne, i_ifnull, i_ifnonnull, i_getI, i_getR, i_putI, i_putZ, i_putR, i_ald, i_ldL, i_ldR, i_ast, i_stL, i_stR, i_alen, i_new, i_newa, i_iret, i_zret, i_lret, i_aret, i_vret, i_raise, i_throw, i_recv, i_objinit, i_tsw3, lget, lset, lput1, lput2, lkil, ltrim, largs, isL, takev, dropv, nthv, pushO, catv, gd, true_and, and_true, Option.some.injEq, Prod.mk.injEq, exists_eq_left', if_true, if_false, reduceCtorEq, Bool.false_eq_true, lcmp_ge, lcmp_lt, lcmp_le, lcmp_gt, lcmp_eq, true_or, or_true, not_true_eq_false, not_false_eq_true, false_implies, true_implies, List.length_cons, List.length_nil, p1, e1]
  refine ⟨⟨e, rfl, e1⟩, call0 (gd_of rfl) ?_⟩
  refine sp_X6_fits he0 hx ?_
  simp only [P_X5_put, i_kil, i_icon, i_lcon, i_null, i_loadI, i_loadL, i_loadR, i_istore, i_lstore, i_astore, i_iinc, i_dup, i_dup2, i_pop, i_iadd, i_isub, i_imul, i_idiv, i_irem, i_ineg, i_iand, i_ior, i_ishl, i_ishr, i_lxor, i_ladd, i_lsub, i_lmul, i_ldiv, i_lrem, i_lneg, i_lshl, i_lcmp, i_i2l, i_l2i, i_i2b, i_i2s, i_ifeq, i_ifne, i_iflt, i_ifge, i_ifgt, i_ifle, i_cmpeq, i_cmpne, i_cmplt, i_cmpge, i_cmpgt, i_cmple, i_acmpeq, i_acmpne, i_ifnull, i_ifnonnull, i_getI, i_getR, i_putI, i_putZ, i_putR, i_ald, i_ldL, i_ldR, i_ast, i_stL, i_stR, i_alen, i_new, i_newa, i_iret, i_zret, i_lret, i_aret, i_vret, i_raise, i_throw, i_recv, i_objinit, i_tsw3, lget, lset, lput1, lput2, lkil, ltrim, largs, isL, takev, dropv, nthv, pushO, catv, gd, true_and, and_true, Option.some.injEq, Prod.mk.injEq, exists_eq_left', if_true, if_false, reduceCtorEq, Bool.false_eq_true, lcmp_ge, lcmp_lt, lcmp_le, lcmp_gt, lcmp_eq, true_or, or_true, not_true_eq_false, not_false_eq_true, false_implies, true_implies, List.length_cons, List.length_nil, p1, e1]
  refine ⟨fun hf => ?_, fun hf => k0 hf⟩
  refine ⟨⟨p, rfl, p1⟩, call0 (gd_of rfl) ?_⟩
  refine sp_X5_drop hp0 hD ht fun D1 g1 g2 => ?_
  have hx1 : qD D1 e x := ⟨hx.1.congr (fun i => g1 _ i (by omega) (by omega)) (fun i => g1 _ i (by omega) (by omega)), hx.2.congr (fun i => g1 _ i (by omega) (by omega)) (fun i => g1 _ i (by omega) (by omega))⟩
  have hs := wD_nn hx1.1
  simp only [P_X5_put, i_kil, i_icon, i_lcon, i_null, i_loadI, i_loadL, i_loadR, i_istore, i_lstore, i_astore, i_iinc, i_dup, i_dup2, i_pop, i_iadd, i_isub, i_imul, i_idiv, i_irem, i_ineg, i_iand, i_ior, i_ishl, i_ishr, i_lxor, i_ladd, i_lsub, i_lmul, i_ldiv, i_lrem, i_lneg, i_lshl, i_lcmp, i_i2l, i_l2i, i_i2b, i_i2s, i_ifeq, i_ifne, i_iflt, i_ifge, i_ifgt, i_ifle, i_cmpeq, i_cmpne, i_cmplt, i_cmpge, i_cmpgt, i_cmple, i_acmpeq, i_acmpne, i_ifnull, i_ifnonnull, i_getI, i_getR, i_putI, i_putZ, i_putR, i_ald, i_ldL, i_ldR, i_ast, i_stL, i_stR, i_alen, i_new, i_newa, i_iret, i_zret, i_lret, i_aret, i_vret, i_raise, i_throw, i_recv, i_objinit, i_tsw3, lget, lset, lput1, lput2, lkil, ltrim, largs, isL, takev, dropv, nthv, pushO, catv, gd, true_and, and_true, Option.some.injEq, Prod.mk.injEq, exists_eq_left', if_true, if_false, reduceCtorEq, Bool.false_eq_true, lcmp_ge, lcmp_lt, lcmp_le, lcmp_gt, lcmp_eq, true_or, or_true, not_true_eq_false, not_false_eq_true, false_implies, true_implies, List.length_cons, List.length_nil, p1, e1, e3, e4.1, e5, e6.1, hs]
  refine ⟨fun h => ?_, fun h => ?_⟩
  · have hx0 : x ≠ 0 := fun g => by rw [g] at h; exact h rfl
    refine ⟨in_small (by omega) (by omega), ⟨p, rfl, p1⟩, call0 (gd_of rfl) ?_⟩
    refine save_at (a := 30 * t) hp0 e4 (by omega) hx1.1 (qFb_lim hf).1 (by omega) (by omega) (by omega) fun D2 h1 h2 => ?_
    have hx2 : wD 1 2 D2 (e + 3) (x.den : Int) := hx1.2.congr (fun i => h1 _ i (fun g => by omega)) (fun i => h1 _ i (fun g => by omega))
    simp only [P_X5_put, i_kil, i_icon, i_lcon, i_null, i_loadI, i_loadL, i_loadR, i_istore, i_lstore, i_astore, i_iinc, i_dup, i_dup2, i_pop, i_iadd, i_isub, i_imul, i_idiv, i_irem, i_ineg, i_iand, i_ior, i_ishl, i_ishr, i_lxor, i_ladd, i_lsub, i_lmul, i_ldiv, i_lrem, i_lneg, i_lshl, i_lcmp, i_i2l, i_l2i, i_i2b, i_i2s, i_ifeq, i_ifne, i_iflt, i_ifge, i_ifgt, i_ifle, i_cmpeq, i_cmpne, i_cmplt, i_cmpge, i_cmpgt, i_cmple, i_acmpeq, i_acmpne, i_ifnull, i_ifnonnull, i_getI, i_getR, i_putI, i_putZ, i_putR, i_ald, i_ldL, i_ldR, i_ast, i_stL, i_stR, i_alen, i_new, i_newa, i_iret, i_zret, i_lret, i_aret, i_vret, i_raise, i_throw, i_recv, i_objinit, i_tsw3, lget, lset, lput1, lput2, lkil, ltrim, largs, isL, takev, dropv, nthv, pushO, catv, gd, true_and, and_true, Option.some.injEq, Prod.mk.injEq, exists_eq_left', if_true, if_false, reduceCtorEq, Bool.false_eq_true, lcmp_ge, lcmp_lt, lcmp_le, lcmp_gt, lcmp_eq, true_or, or_true, not_true_eq_false, not_false_eq_true, false_implies, true_implies, List.length_cons, List.length_nil, p1, e1, e3, e4.1, e5, e6.1]
    refine ⟨in_small (by omega) (by omega), in_small (by omega) (by omega), ⟨p, rfl, p1⟩, call0 (gd_of rfl) ?_⟩
    refine save_at (a := 30 * t + 15) hp0 e6 (by omega) hx2 (qFb_lim hf).2 (by omega) (by omega) (by omega) fun D3 f1 f2 => ?_
    simp only [P_X5_put, i_kil, i_icon, i_lcon, i_null, i_loadI, i_loadL, i_loadR, i_istore, i_lstore, i_astore, i_iinc, i_dup, i_dup2, i_pop, i_iadd, i_isub, i_imul, i_idiv, i_irem, i_ineg, i_iand, i_ior, i_ishl, i_ishr, i_lxor, i_ladd, i_lsub, i_lmul, i_ldiv, i_lrem, i_lneg, i_lshl, i_lcmp, i_i2l, i_l2i, i_i2b, i_i2s, i_ifeq, i_ifne, i_iflt, i_ifge, i_ifgt, i_ifle, i_cmpeq, i_cmpne, i_cmplt, i_cmpge, i_cmpgt, i_cmple, i_acmpeq, i_acmpne, i_ifnull, i_ifnonnull, i_getI, i_getR, i_putI, i_putZ, i_putR, i_ald, i_ldL, i_ldR, i_ast, i_stL, i_stR, i_alen, i_new, i_newa, i_iret, i_zret, i_lret, i_aret, i_vret, i_raise, i_throw, i_recv, i_objinit, i_tsw3, lget, lset, lput1, lput2, lkil, ltrim, largs, isL, takev, dropv, nthv, pushO, catv, gd, true_and, and_true, Option.some.injEq, Prod.mk.injEq, exists_eq_left', if_true, if_false, reduceCtorEq, Bool.false_eq_true, lcmp_ge, lcmp_lt, lcmp_le, lcmp_gt, lcmp_eq, true_or, or_true, not_true_eq_false, not_false_eq_true, false_implies, true_implies, List.length_cons, List.length_nil, p1]
    have hm : D3 p 1 = pcnt (pupd φ t 0) 455 := by
      rw [f1 _ _ (fun g => by omega), h1 _ _ (fun g => by omega), g2.2]
    have hle := pcnt_le (pupd φ t 0) 455
    rw [hm]
    refine ⟨in_small (by omega) (by omega), ?_⟩
    refine k1 hf _ (fun c i c1 c2 => ?_) ⟨fun u hu => ?_, ?_⟩
    · simp only [pmu]
      rw [if_neg (fun g => c1 g.1), f1 _ _ (fun g => c2 g.1), h1 _ _ (fun g => c2 g.1)]
      exact g1 c i c1 c2
    · have er : ∀ (v : Int) (i : Int), pmu D3 p 1 v (p + 1) i = D3 (p + 1) i := fun v i => by
        simp only [pmu]
        rw [if_neg (fun g => by omega)]
      by_cases h : u = t
      · subst h
        have e : pupd φ u x u = x := by simp only [pupd, if_true]
        rw [e]
        refine ⟨h2.congr fun i q1 q2 => ?_, fun _ => f2.congr fun i q1 q2 => er _ i⟩
        rw [er, f1 _ _ (fun g => by omega)]
      · have e : pupd φ t x u = pupd φ t 0 u := by simp only [pupd]; rw [if_neg h, if_neg h]
        rw [e]
        obtain ⟨s1, s2⟩ := g2.1 u hu
        refine ⟨s1.congr fun i q1 q2 => ?_, fun g => (s2 g).congr fun i q1 q2 => ?_⟩
        · rw [er, f1 _ _ (fun g => by omega), h1 _ _ (fun g => by omega)]
        · rw [er, f1 _ _ (fun g => by omega), h1 _ _ (fun g => by omega)]
    · have c1 := (pcnt_upd φ t x 455).2 ht
      have c2 := (pcnt_upd φ t 0 455).2 ht
      rw [if_neg hx0] at c1
      rw [if_pos rfl] at c2
      simp only [pmu, and_self, if_true]
      omega
  · have hx0 : x = 0 := Rat.num_eq_zero.mp (Int.sign_eq_zero_iff_zero.mp h)
    refine k1 hf D1 g1 ?_
    rw [hx0]; exact g2
