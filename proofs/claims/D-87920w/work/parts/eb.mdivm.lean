/-! the model's calls: divide, member, closed -/
-- needs: ea.mspn
set_option maxRecDepth 100000
set_option linter.unusedVariables false
section MDM
variable {M N : Nat} {S : Stat} {s : Cst}
theorem dvR_60 {c g m : Nat} {ψ : Nat → Nat → Rat} : ∀ (n : Nat) (st : dst) (r : Option dst), dvR c g m ψ n st r → pcnt st.2.1 455 ≤ 60 → ∀ u, r = some u → pcnt u.2.1 455 ≤ 60
  | 0, _, _, h, _, _, _ => absurd h (fun h => h)
  | n + 1, st, r, h, h0, u, hu => by
    rcases h with ⟨-, h⟩ | ⟨t, k, -, -, h | h⟩
    · rw [h] at hu
      have : st = u := Option.some.inj hu
      rw [← this]; exact h0
    · rcases h with ⟨-, h | h⟩
      · rw [h.2] at hu; exact nomatch hu
      · exact dvR_60 n _ r h.2 h0 u hu
    · rcases h with ⟨-, h | h⟩
      · rw [h.2] at hu; exact nomatch hu
      · exact dvR_60 n _ r h.2 h.1 u hu
theorem one_mul0 (φ : Nat → Rat) : (fun t => (fun _ => (0 : Rat)) t + ((1 : Int) : Rat) * φ t) = φ := by
  funext t
  show (0 : Rat) + ((1 : Int) : Rat) * φ t = φ t
  rw [Rat.zero_add, show ((1 : Int) : Rat) = 1 from rfl, Rat.one_mul]
theorem one_fit {φ : Nat → Rat} (h : phi φ) : ∀ t, t < 455 → qfit ((fun _ => (0 : Rat)) t + ((1 : Int) : Rat) * φ t) := fun t ht => by
  show qfit ((0 : Rat) + ((1 : Int) : Rat) * φ t)
  rw [Rat.zero_add, show ((1 : Int) : Rat) = 1 from rfl, Rat.one_mul]
  exact h.1 t ht
set_option maxHeartbeats 4000000 in
theorem mo_divide {E : Ex} {B : Nat × Nat} {D : Dat} {x y : Int} (hI : moI S D M s) (hW : crW N s) (hN : N < 1000) (K : mK E B S D M (oDivide x y s)) : Wp P_X16_divide_2 E 0 [some (aR M), some (aI x), some (aI y)] [] B S D := by
  have o := hI.1.o
  obtain ⟨c1, c2, c3⟩ := hI.1.h13
  obtain ⟨s1, s2⟩ := hI.1.h29
  obtain ⟨r1, r2⟩ := hI.1.h30
  obtain ⟨d1, d2, d3⟩ := hI.1.h22
  obtain ⟨b1, b2⟩ := hI.1.h14
  obtain ⟨f1, f2⟩ := hI.1.h15
  obtain ⟨t1, t2⟩ := hI.1.h26
  obtain ⟨u1, u2, u3⟩ := hI.1.h24
  obtain ⟨v1, v2, v3⟩ := hI.1.h43
  have s3 := s2.1
  have r3 := r2.1
  have t3 := t2.1
  have hmg := hI.1.mg
  obtain ⟨q1, q2⟩ := hI.2.2.2.1
  have q6 := hW.2.2.1.1
  have hle : foN (lkN s x 1) (lkN s y 2) ≤ 3 := foN_le (by have := lkN_le s x 1; omega) (by have := lkN_le s y 2; omega)
  refine wp_in ?_
  simp only [P_X16_divide_2, i_kil, i_icon, i_lcon, i_null, i_loadI, i_loadL, i_loadR, i_istore, i_lstore, i_astore, i_iinc, i_dup, i_dup2, i_pop, i_iadd, i_isub, i_imul, i_idiv, i_irem, i_ineg, i_iand, i_ior, i_ishl, i_ishr, i_lxor, i_ladd, i_lsub, i_lmul, i_ldiv, i_lrem, i_lneg, i_lshl, i_lcmp, i_i2l, i_l2i, i_i2b, i_i2s, i_ifeq, i_ifne, i_iflt, i_ifge, i_ifgt, i_ifle, i_cmpeq, i_cmpne, i_cmplt, i_cmpge, i_cmpgt, i_cmple, i_acmpeq, i_acmpne, i_ifnull, i_ifnonnull, i_getI, i_getR, i_putI, i_putZ, i_putR, i_ald, i_ldL, i_ldR, i_ast, i_stL, i_stR, i_alen, i_new, i_newa, i_iret, i_zret, i_lret, i_aret, i_vret, i_raise, i_throw, i_recv, i_objinit, i_tsw3, lget, lset, lput1, lput2, lkil, ltrim, largs, isL, takev, dropv, nthv, pushO, catv, gd, true_and, and_true, Option.some.injEq, Prod.mk.injEq, exists_eq_left', if_true, if_false, reduceCtorEq, Bool.false_eq_true, lcmp_ge, lcmp_lt, lcmp_le, lcmp_gt, lcmp_eq, true_or, or_true, not_true_eq_false, not_false_eq_true, false_implies, true_implies, List.length_cons, List.length_nil, o]
  repeat (first | refine ⟨in_small (by omega) (by omega), ?_⟩ | (show (_ → _) ∧ (_ → _); first | refine ⟨by omega, fun _ => ?_⟩ | refine ⟨fun _ => ?_, by omega⟩) | refine ⟨by omega, ?_⟩ | refine ⟨⟨_, rfl, by assumption⟩, ?_⟩ | refine ⟨okT_I _, ?_⟩ | refine call0 (gd_of rfl) ?_)
  refine mo_look (k := 1) hI rfl ?_
  simp only [P_X16_divide_2, i_kil, i_icon, i_lcon, i_null, i_loadI, i_loadL, i_loadR, i_istore, i_lstore, i_astore, i_iinc, i_dup, i_dup2, i_pop, i_iadd, i_isub, i_imul, i_idiv, i_irem, i_ineg, i_iand, i_ior, i_ishl, i_ishr, i_lxor, i_ladd, i_lsub, i_lmul, i_ldiv, i_lrem, i_lneg, i_lshl, i_lcmp, i_i2l, i_l2i, i_i2b, i_i2s, i_ifeq, i_ifne, i_iflt, i_ifge, i_ifgt, i_ifle, i_cmpeq, i_cmpne, i_cmplt, i_cmpge, i_cmpgt, i_cmple, i_acmpeq, i_acmpne, i_ifnull, i_ifnonnull, i_getI, i_getR, i_putI, i_putZ, i_putR, i_ald, i_ldL, i_ldR, i_ast, i_stL, i_stR, i_alen, i_new, i_newa, i_iret, i_zret, i_lret, i_aret, i_vret, i_raise, i_throw, i_recv, i_objinit, i_tsw3, lget, lset, lput1, lput2, lkil, ltrim, largs, isL, takev, dropv, nthv, pushO, catv, gd, true_and, and_true, Option.some.injEq, Prod.mk.injEq, exists_eq_left', if_true, if_false, reduceCtorEq, Bool.false_eq_true, lcmp_ge, lcmp_lt, lcmp_le, lcmp_gt, lcmp_eq, true_or, or_true, not_true_eq_false, not_false_eq_true, false_implies, true_implies, List.length_cons, List.length_nil]
  repeat (first | refine ⟨in_small (by omega) (by omega), ?_⟩ | (show (_ → _) ∧ (_ → _); first | refine ⟨by omega, fun _ => ?_⟩ | refine ⟨fun _ => ?_, by omega⟩) | refine ⟨by omega, ?_⟩ | refine ⟨⟨_, rfl, by assumption⟩, ?_⟩ | refine ⟨okT_I _, ?_⟩ | refine call0 (gd_of rfl) ?_)
  refine mo_look (k := 2) hI rfl ?_
  simp only [P_X16_divide_2, i_kil, i_icon, i_lcon, i_null, i_loadI, i_loadL, i_loadR, i_istore, i_lstore, i_astore, i_iinc, i_dup, i_dup2, i_pop, i_iadd, i_isub, i_imul, i_idiv, i_irem, i_ineg, i_iand, i_ior, i_ishl, i_ishr, i_lxor, i_ladd, i_lsub, i_lmul, i_ldiv, i_lrem, i_lneg, i_lshl, i_lcmp, i_i2l, i_l2i, i_i2b, i_i2s, i_ifeq, i_ifne, i_iflt, i_ifge, i_ifgt, i_ifle, i_cmpeq, i_cmpne, i_cmplt, i_cmpge, i_cmpgt, i_cmple, i_acmpeq, i_acmpne, i_ifnull, i_ifnonnull, i_getI, i_getR, i_putI, i_putZ, i_putR, i_ald, i_ldL, i_ldR, i_ast, i_stL, i_stR, i_alen, i_new, i_newa, i_iret, i_zret, i_lret, i_aret, i_vret, i_raise, i_throw, i_recv, i_objinit, i_tsw3, lget, lset, lput1, lput2, lkil, ltrim, largs, isL, takev, dropv, nthv, pushO, catv, gd, true_and, and_true, Option.some.injEq, Prod.mk.injEq, exists_eq_left', if_true, if_false, reduceCtorEq, Bool.false_eq_true, lcmp_ge, lcmp_lt, lcmp_le, lcmp_gt, lcmp_eq, true_or, or_true, not_true_eq_false, not_false_eq_true, false_implies, true_implies, List.length_cons, List.length_nil]
  repeat (first | refine ⟨in_small (by omega) (by omega), ?_⟩ | (show (_ → _) ∧ (_ → _); first | refine ⟨by omega, fun _ => ?_⟩ | refine ⟨fun _ => ?_, by omega⟩) | refine ⟨by omega, ?_⟩ | refine ⟨⟨_, rfl, by assumption⟩, ?_⟩ | refine ⟨okT_I _, ?_⟩ | refine call0 (gd_of rfl) ?_)
  refine sp_firstOf2 ?_
  simp only [P_X16_divide_2, i_kil, i_icon, i_lcon, i_null, i_loadI, i_loadL, i_loadR, i_istore, i_lstore, i_astore, i_iinc, i_dup, i_dup2, i_pop, i_iadd, i_isub, i_imul, i_idiv, i_irem, i_ineg, i_iand, i_ior, i_ishl, i_ishr, i_lxor, i_ladd, i_lsub, i_lmul, i_ldiv, i_lrem, i_lneg, i_lshl, i_lcmp, i_i2l, i_l2i, i_i2b, i_i2s, i_ifeq, i_ifne, i_iflt, i_ifge, i_ifgt, i_ifle, i_cmpeq, i_cmpne, i_cmplt, i_cmpge, i_cmpgt, i_cmple, i_acmpeq, i_acmpne, i_ifnull, i_ifnonnull, i_getI, i_getR, i_putI, i_putZ, i_putR, i_ald, i_ldL, i_ldR, i_ast, i_stL, i_stR, i_alen, i_new, i_newa, i_iret, i_zret, i_lret, i_aret, i_vret, i_raise, i_throw, i_recv, i_objinit, i_tsw3, lget, lset, lput1, lput2, lkil, ltrim, largs, isL, takev, dropv, nthv, pushO, catv, gd, true_and, and_true, Option.some.injEq, Prod.mk.injEq, exists_eq_left', if_true, if_false, reduceCtorEq, Bool.false_eq_true, lcmp_ge, lcmp_lt, lcmp_le, lcmp_gt, lcmp_eq, true_or, or_true, not_true_eq_false, not_false_eq_true, false_implies, true_implies, List.length_cons, List.length_nil, o, s1]
  refine ⟨fun w => ?_, fun w => ?_⟩
  · have h00 : foN (lkN s x 1) (lkN s y 2) = 0 := by omega
    obtain ⟨h0, h0'⟩ := foN_0.mp h00
    obtain ⟨p, φ, hp, hp16, ht⟩ := lk1 h0
    obtain ⟨q, c, g, hq, hq16, hu⟩ := lk2 h0'
    subst hp; subst hq
    obtain ⟨p1, p2, p3, p4⟩ := hI.poly hp16 ht
    obtain ⟨ho1, ho2⟩ := hI.ord hq16 hu
    have hw := hW.1 q hq16
    rw [hu] at hw
    obtain ⟨hw1, hw2⟩ := hw
    have hw1 : ordOK c g := hw1
    obtain ⟨⟨χ0, hs0⟩, ⟨χ1, hs1⟩, hpt⟩ := hI.sm
    repeat (first | refine ⟨in_small (by omega) (by omega), ?_⟩ | (show (_ → _) ∧ (_ → _); first | refine ⟨by omega, fun _ => ?_⟩ | refine ⟨fun _ => ?_, by omega⟩) | refine ⟨by omega, ?_⟩ | refine ⟨⟨_, rfl, by assumption⟩, ?_⟩ | refine ⟨okT_I _, ?_⟩ | refine call0 (gd_of rfl) ?_)
    refine sp_X19_clear s2 hs0 fun D1 e1 g1 => ?_
    simp only [P_X16_divide_2, i_kil, i_icon, i_lcon, i_null, i_loadI, i_loadL, i_loadR, i_istore, i_lstore, i_astore, i_iinc, i_dup, i_dup2, i_pop, i_iadd, i_isub, i_imul, i_idiv, i_irem, i_ineg, i_iand, i_ior, i_ishl, i_ishr, i_lxor, i_ladd, i_lsub, i_lmul, i_ldiv, i_lrem, i_lneg, i_lshl, i_lcmp, i_i2l, i_l2i, i_i2b, i_i2s, i_ifeq, i_ifne, i_iflt, i_ifge, i_ifgt, i_ifle, i_cmpeq, i_cmpne, i_cmplt, i_cmpge, i_cmpgt, i_cmple, i_acmpeq, i_acmpne, i_ifnull, i_ifnonnull, i_getI, i_getR, i_putI, i_putZ, i_putR, i_ald, i_ldL, i_ldR, i_ast, i_stL, i_stR, i_alen, i_new, i_newa, i_iret, i_zret, i_lret, i_aret, i_vret, i_raise, i_throw, i_recv, i_objinit, i_tsw3, lget, lset, lput1, lput2, lkil, ltrim, largs, isL, takev, dropv, nthv, pushO, catv, gd, true_and, and_true, Option.some.injEq, Prod.mk.injEq, exists_eq_left', if_true, if_false, reduceCtorEq, Bool.false_eq_true, lcmp_ge, lcmp_lt, lcmp_le, lcmp_gt, lcmp_eq, true_or, or_true, not_true_eq_false, not_false_eq_true, false_implies, true_implies, List.length_cons, List.length_nil, o, s1, c1, c2]
    repeat (first | refine ⟨in_small (by omega) (by omega), ?_⟩ | (show (_ → _) ∧ (_ → _); first | refine ⟨by omega, fun _ => ?_⟩ | refine ⟨fun _ => ?_, by omega⟩) | refine ⟨by omega, ?_⟩ | refine ⟨⟨_, rfl, by assumption⟩, ?_⟩ | refine ⟨okT_I _, ?_⟩ | refine call0 (gd_of rfl) ?_)
    rw [p2]
    refine sp_X16_gatherAll (sg := 1) hmg s2 (by omega) p3 (by omega) (by omega) g1 (p1.cgr fun c i h1 h2 => e1 c i (by omega)) (.inl rfl) (fun D2 e2 g2 => ?_) fun D2 e2 g2 g3 => absurd (one_fit p1.w.1) g2
    rw [one_mul0] at g2
    have k2 : ∀ a i, (a < M + 568 ∨ M + 2392 < a) → (a ≤ M ∨ M + 20 < a) → D2 a i = D a i := fun a i h h' => by rw [e2 a i (by omega) h', e1 a i (by omega)]
    have z23 : D2 M 23 = (sRw s).1 := by rw [k2 M 23 (by omega) (by omega)]; exact q1
    have zb : D2 (M + 23) (q : Int) = (c : Int) - 9 := by rw [k2 _ _ (by omega) (by omega)]; exact ho1
    have zf : D2 (M + 24) (q : Int) = (g : Int) := by rw [k2 _ _ (by omega) (by omega)]; exact ho2
    simp only [P_X16_divide_2, i_kil, i_icon, i_lcon, i_null, i_loadI, i_loadL, i_loadR, i_istore, i_lstore, i_astore, i_iinc, i_dup, i_dup2, i_pop, i_iadd, i_isub, i_imul, i_idiv, i_irem, i_ineg, i_iand, i_ior, i_ishl, i_ishr, i_lxor, i_ladd, i_lsub, i_lmul, i_ldiv, i_lrem, i_lneg, i_lshl, i_lcmp, i_i2l, i_l2i, i_i2b, i_i2s, i_ifeq, i_ifne, i_iflt, i_ifge, i_ifgt, i_ifle, i_cmpeq, i_cmpne, i_cmplt, i_cmpge, i_cmpgt, i_cmple, i_acmpeq, i_acmpne, i_ifnull, i_ifnonnull, i_getI, i_getR, i_putI, i_putZ, i_putR, i_ald, i_ldL, i_ldR, i_ast, i_stL, i_stR, i_alen, i_new, i_newa, i_iret, i_zret, i_lret, i_aret, i_vret, i_raise, i_throw, i_recv, i_objinit, i_tsw3, lget, lset, lput1, lput2, lkil, ltrim, largs, isL, takev, dropv, nthv, pushO, catv, gd, true_and, and_true, Option.some.injEq, Prod.mk.injEq, exists_eq_left', if_true, if_false, reduceCtorEq, Bool.false_eq_true, lcmp_ge, lcmp_lt, lcmp_le, lcmp_gt, lcmp_eq, true_or, or_true, not_true_eq_false, not_false_eq_true, false_implies, true_implies, List.length_cons, List.length_nil, o, d1, d2, b1, b2, f1, f2, z23]
    repeat (first | refine ⟨in_small (by omega) (by omega), ?_⟩ | (show (_ → _) ∧ (_ → _); first | refine ⟨by omega, fun _ => ?_⟩ | refine ⟨fun _ => ?_, by omega⟩) | refine ⟨by omega, ?_⟩ | refine ⟨⟨_, rfl, by assumption⟩, ?_⟩ | refine ⟨okT_I _, ?_⟩ | refine call0 (gd_of rfl) ?_)
    rw [zb, zf]
    refine sp_X16_isDivided (N := 6) (gA := fun k => M + 16099 + 488 * k) (ψ := (sRw s).2) (ρ := χ1) (χ := fun k => if h : k < 6 then (hpt k h).choose else fun _ => 0) hI.1.md d2 q6 (by omega) hw1 (.inl rfl) (.inr ⟨rfl, q6⟩) (fun k hk => ⟨(d3 k (by omega)).1, (d3 k (by omega)).2, by omega⟩) g2 (hs1.cgr fun a i h h' => k2 a i (by omega) (by omega)) (fun k hk => (q2 k hk).cgr fun a i h h' => k2 a i (by omega) (by omega)) (fun k hk => by
      rw [dif_pos hk]
      exact (hpt k hk).choose_spec.cgr fun a i h h' => k2 a i (by omega) (by omega)) fun D3 v n res e3 hdv hv01 hv1 m1 m2 m3 m4 => ?_
    have k3 : ∀ a i, ¬ sK M a → D3 a i = D a i := fun a i h => by
      unfold sK at h
      rw [e3 a i (by omega) (by omega) (by omega) (by omega), k2 a i (by omega) (by omega)]
    obtain ⟨hI3, hF3⟩ := hI.scr (D' := D3) hW (fun a i h _ => k3 a i h) ⟨m1, m2, m3⟩
    have z23' : D3 M 23 = (sRw s).1 := by rw [k3 M 23 (by unfold sK; omega)]; exact q1
    simp only [P_X16_divide_2, i_kil, i_icon, i_lcon, i_null, i_loadI, i_loadL, i_loadR, i_istore, i_lstore, i_astore, i_iinc, i_dup, i_dup2, i_pop, i_iadd, i_isub, i_imul, i_idiv, i_irem, i_ineg, i_iand, i_ior, i_ishl, i_ishr, i_lxor, i_ladd, i_lsub, i_lmul, i_ldiv, i_lrem, i_lneg, i_lshl, i_lcmp, i_i2l, i_l2i, i_i2b, i_i2s, i_ifeq, i_ifne, i_iflt, i_ifge, i_ifgt, i_ifle, i_cmpeq, i_cmpne, i_cmplt, i_cmpge, i_cmpgt, i_cmple, i_acmpeq, i_acmpne, i_ifnull, i_ifnonnull, i_getI, i_getR, i_putI, i_putZ, i_putR, i_ald, i_ldL, i_ldR, i_ast, i_stL, i_stR, i_alen, i_new, i_newa, i_iret, i_zret, i_lret, i_aret, i_vret, i_raise, i_throw, i_recv, i_objinit, i_tsw3, lget, lset, lput1, lput2, lkil, ltrim, largs, isL, takev, dropv, nthv, pushO, catv, gd, true_and, and_true, Option.some.injEq, Prod.mk.injEq, exists_eq_left', if_true, if_false, reduceCtorEq, Bool.false_eq_true, lcmp_ge, lcmp_lt, lcmp_le, lcmp_gt, lcmp_eq, true_or, or_true, not_true_eq_false, not_false_eq_true, false_implies, true_implies, List.length_cons, List.length_nil, o]
    refine ⟨fun hv => ?_, fun hv => ?_⟩
    · obtain ⟨u, hres⟩ : ∃ u, res = some u := by
        rcases res with _ | u
        · exact absurd rfl (hv1.mp (by omega))
        · exact ⟨u, rfl⟩
      obtain ⟨m5, m6⟩ := m4 u hres
      have h60 := dvR_60 _ _ _ hdv (by
        show pcnt (fun _ => (0 : Rat)) 455 ≤ 60
        rw [(pcnt_z0 455).mpr fun _ _ => rfl]; decide) u hres
      simp only [r1, t1]
      repeat (first | refine ⟨in_small (by omega) (by omega), ?_⟩ | (show (_ → _) ∧ (_ → _); first | refine ⟨by omega, fun _ => ?_⟩ | refine ⟨fun _ => ?_, by omega⟩) | refine ⟨by omega, ?_⟩ | refine ⟨⟨_, rfl, by assumption⟩, ?_⟩ | refine ⟨okT_I _, ?_⟩ | refine call0 (gd_of rfl) ?_)
      refine sp_X19_to r2 t2 (by omega) m5 h60 fun D4 e4 g4 => ?_
      have z23'' : D4 M 23 = (sRw s).1 := by rw [e4 M 23 (by omega)]; exact z23'
      have zz : pmu D4 M 27 1 M 23 = (sRw s).1 := by rw [pmu_ne (by omega)]; exact z23''
      simp only [P_X16_divide_2, i_kil, i_icon, i_lcon, i_null, i_loadI, i_loadL, i_loadR, i_istore, i_lstore, i_astore, i_iinc, i_dup, i_dup2, i_pop, i_iadd, i_isub, i_imul, i_idiv, i_irem, i_ineg, i_iand, i_ior, i_ishl, i_ishr, i_lxor, i_ladd, i_lsub, i_lmul, i_ldiv, i_lrem, i_lneg, i_lshl, i_lcmp, i_i2l, i_l2i, i_i2b, i_i2s, i_ifeq, i_ifne, i_iflt, i_ifge, i_ifgt, i_ifle, i_cmpeq, i_cmpne, i_cmplt, i_cmpge, i_cmpgt, i_cmple, i_acmpeq, i_acmpne, i_ifnull, i_ifnonnull, i_getI, i_getR, i_putI, i_putZ, i_putR, i_ald, i_ldL, i_ldR, i_ast, i_stL, i_stR, i_alen, i_new, i_newa, i_iret, i_zret, i_lret, i_aret, i_vret, i_raise, i_throw, i_recv, i_objinit, i_tsw3, lget, lset, lput1, lput2, lkil, ltrim, largs, isL, takev, dropv, nthv, pushO, catv, gd, true_and, and_true, Option.some.injEq, Prod.mk.injEq, exists_eq_left', if_true, if_false, reduceCtorEq, Bool.false_eq_true, lcmp_ge, lcmp_lt, lcmp_le, lcmp_gt, lcmp_eq, true_or, or_true, not_true_eq_false, not_false_eq_true, false_implies, true_implies, List.length_cons, List.length_nil, o, zz]
      repeat (first | refine ⟨in_small (by omega) (by omega), ?_⟩ | (show (_ → _) ∧ (_ → _); first | refine ⟨by omega, fun _ => ?_⟩ | refine ⟨fun _ => ?_, by omega⟩) | refine ⟨by omega, ?_⟩ | refine ⟨⟨_, rfl, by assumption⟩, ?_⟩ | refine ⟨okT_I _, ?_⟩ | refine call0 (gd_of rfl) ?_)
      let D5 := pmu (pmu D4 M 27 1) M 25 ((sRw s).1 : Int)
      have k5 : ∀ a i, (a ≠ M ∨ (i ≠ 25 ∧ i ≠ 27)) → (a < M + 80 ∨ M + 323 < a) → D5 a i = D3 a i := fun a i h h' => by
        show pmu _ _ _ _ a i = _
        rw [pmu_ne (by omega), pmu_ne (by omega), e4 a i h']
      have loop : ∀ (L k : Nat) (D6 : Dat), k + L = (sRw s).1 → (∀ a i, (a < M + 16343 ∨ M + 16343 + 488 * 5 + 243 < a ∨ ∀ j, j < 6 → a < M + 16343 + 488 * j ∨ M + 16343 + 488 * j + 243 < a) → D6 a i = D5 a i) → (∀ j, j < k → mpP D6 (M + 16343 + 488 * j) (u.2.2.2 j)) → (∀ j, j < 6 → ∃ χ, mpP D6 (M + 16343 + 488 * j) χ) → Wp P_X16_divide_2 E 1 [some (aR M), none, none, none, some (aI (k : Int))] [] B S D6 := by
        intro L
        induction L with
        | zero =>
          intro k D6 hk h6 h7 h8
          have : k = (sRw s).1 := by omega
          subst this
          have zc : D6 M 23 = (sRw s).1 := by rw [h6 _ _ (by omega), k5 _ _ (by omega) (by omega)]; exact z23'
          have hR : mpP D6 (M + 80) u.2.1 := g4.cgr fun a i h h' => by
            rw [h6 a i (by omega)]
            show pmu _ _ _ _ a i = _
            rw [pmu_ne (by omega), pmu_ne (by omega)]
          refine wp_in ?_
          simp only [P_X16_divide_2, i_kil, i_icon, i_lcon, i_null, i_loadI, i_loadL, i_loadR, i_istore, i_lstore, i_astore, i_iinc, i_dup, i_dup2, i_pop, i_iadd, i_isub, i_imul, i_idiv, i_irem, i_ineg, i_iand, i_ior, i_ishl, i_ishr, i_lxor, i_ladd, i_lsub, i_lmul, i_ldiv, i_lrem, i_lneg, i_lshl, i_lcmp, i_i2l, i_l2i, i_i2b, i_i2s, i_ifeq, i_ifne, i_iflt, i_ifge, i_ifgt, i_ifle, i_cmpeq, i_cmpne, i_cmplt, i_cmpge, i_cmpgt, i_cmple, i_acmpeq, i_acmpne, i_ifnull, i_ifnonnull, i_getI, i_getR, i_putI, i_putZ, i_putR, i_ald, i_ldL, i_ldR, i_ast, i_stL, i_stR, i_alen, i_new, i_newa, i_iret, i_zret, i_lret, i_aret, i_vret, i_raise, i_throw, i_recv, i_objinit, i_tsw3, lget, lset, lput1, lput2, lkil, ltrim, largs, isL, takev, dropv, nthv, pushO, catv, gd, true_and, and_true, Option.some.injEq, Prod.mk.injEq, exists_eq_left', if_true, if_false, reduceCtorEq, Bool.false_eq_true, lcmp_ge, lcmp_lt, lcmp_le, lcmp_gt, lcmp_eq, true_or, or_true, not_true_eq_false, not_false_eq_true, false_implies, true_implies, List.length_cons, List.length_nil, o, zc, t1, t3]
          repeat (first | refine ⟨in_small (by omega) (by omega), ?_⟩ | (show (_ → _) ∧ (_ → _); first | refine ⟨by omega, fun _ => ?_⟩ | refine ⟨fun _ => ?_, by omega⟩) | refine ⟨by omega, ?_⟩ | refine ⟨⟨_, rfl, by assumption⟩, ?_⟩ | refine ⟨okT_I _, ?_⟩ | refine call0 (gd_of rfl) ?_)
          rw [hR.pc]
          refine K D6 _ _ (rR_q h00 ⟨φ, c, g, ht, hu, n, res, hdv, .inr ⟨u, hres, rfl, rfl⟩⟩) (hI3.setQt hW (fun a i a1 a2 a3 => ?_) ⟨?_, h7, h8⟩ ⟨?_, fun ρ hρ => ?_, _, hR⟩ (hI3.sm.cgr fun a i h => ?_)) fun a i h => ?_
          · unfold pRs at a3
            rw [h6 a i (.inr (.inr fun j hj => ?_)), k5 a i ?_ (by omega)]
            · rcases Nat.decEq a M with w | w
              · exact .inl w
              · exact .inr ⟨fun q => a2 (.inl ⟨w, q⟩), by omega⟩
            · by_cases hz : a < M + 16343 + 488 * j ∨ M + 16343 + 488 * j + 243 < a
              · exact hz
              · exact absurd (.inr ⟨j, hj, by omega, by omega⟩) a2
          · rw [h6 _ _ (by omega)]
            show pmu _ _ _ _ _ _ = _
            exact pmu_eq
          · rw [h6 _ _ (by omega), if_neg (fun q => nomatch q)]
            show pmu _ _ _ _ _ _ = _
            rw [pmu_ne (by omega), pmu_eq]
          · have : u.2.1 = ρ := Option.some.inj hρ
            rw [← this]; exact hR
          · unfold pSm at h
            rw [h6 a i (by omega), k5 a i (by omega) (by omega)]
          · rw [h6 a i (by omega), k5 a i (by omega) (by omega)]
            exact hF3 a i h
        | succ L ih =>
          intro k D6 hk h6 h7 h8
          have zc : D6 M 23 = (sRw s).1 := by rw [h6 _ _ (by omega), k5 _ _ (by omega) (by omega)]; exact z23'
          obtain ⟨w1, w2⟩ := u3 k (by omega)
          obtain ⟨w3, w4⟩ := v3 k (by omega)
          have w5 := w2.1
          refine wp_in ?_
          simp only [P_X16_divide_2, i_kil, i_icon, i_lcon, i_null, i_loadI, i_loadL, i_loadR, i_istore, i_lstore, i_astore, i_iinc, i_dup, i_dup2, i_pop, i_iadd, i_isub, i_imul, i_idiv, i_irem, i_ineg, i_iand, i_ior, i_ishl, i_ishr, i_lxor, i_ladd, i_lsub, i_lmul, i_ldiv, i_lrem, i_lneg, i_lshl, i_lcmp, i_i2l, i_l2i, i_i2b, i_i2s, i_ifeq, i_ifne, i_iflt, i_ifge, i_ifgt, i_ifle, i_cmpeq, i_cmpne, i_cmplt, i_cmpge, i_cmpgt, i_cmple, i_acmpeq, i_acmpne, i_ifnull, i_ifnonnull, i_getI, i_getR, i_putI, i_putZ, i_putR, i_ald, i_ldL, i_ldR, i_ast, i_stL, i_stR, i_alen, i_new, i_newa, i_iret, i_zret, i_lret, i_aret, i_vret, i_raise, i_throw, i_recv, i_objinit, i_tsw3, lget, lset, lput1, lput2, lkil, ltrim, largs, isL, takev, dropv, nthv, pushO, catv, gd, true_and, and_true, Option.some.injEq, Prod.mk.injEq, exists_eq_left', if_true, if_false, reduceCtorEq, Bool.false_eq_true, lcmp_ge, lcmp_lt, lcmp_le, lcmp_gt, lcmp_eq, true_or, or_true, not_true_eq_false, not_false_eq_true, false_implies, true_implies, List.length_cons, List.length_nil, o, zc, u1, u2, v1, v2]
          refine ⟨fun w => by omega, fun _ => ?_⟩
          repeat (first | refine ⟨in_small (by omega) (by omega), ?_⟩ | (show (_ → _) ∧ (_ → _); first | refine ⟨by omega, fun _ => ?_⟩ | refine ⟨fun _ => ?_, by omega⟩) | refine ⟨by omega, ?_⟩ | refine ⟨⟨_, rfl, by assumption⟩, ?_⟩ | refine ⟨okT_I _, ?_⟩ | refine call0 (gd_of rfl) ?_)
          simp only [w1, w3]
          repeat (first | refine ⟨in_small (by omega) (by omega), ?_⟩ | (show (_ → _) ∧ (_ → _); first | refine ⟨by omega, fun _ => ?_⟩ | refine ⟨fun _ => ?_, by omega⟩) | refine ⟨by omega, ?_⟩ | refine ⟨⟨_, rfl, by assumption⟩, ?_⟩ | refine ⟨okT_I _, ?_⟩ | refine call0 (gd_of rfl) ?_)
          refine sp_X18_copy w2 w4 (by omega) ((m6 rfl k (by omega)).cgr fun a i h h' => by rw [h6 a i (by omega), k5 a i (by omega) (by omega)]) fun D7 e7 g7 => ?_
          simp only [P_X16_divide_2, i_kil, i_icon, i_lcon, i_null, i_loadI, i_loadL, i_loadR, i_istore, i_lstore, i_astore, i_iinc, i_dup, i_dup2, i_pop, i_iadd, i_isub, i_imul, i_idiv, i_irem, i_ineg, i_iand, i_ior, i_ishl, i_ishr, i_lxor, i_ladd, i_lsub, i_lmul, i_ldiv, i_lrem, i_lneg, i_lshl, i_lcmp, i_i2l, i_l2i, i_i2b, i_i2s, i_ifeq, i_ifne, i_iflt, i_ifge, i_ifgt, i_ifle, i_cmpeq, i_cmpne, i_cmplt, i_cmpge, i_cmpgt, i_cmple, i_acmpeq, i_acmpne, i_ifnull, i_ifnonnull, i_getI, i_getR, i_putI, i_putZ, i_putR, i_ald, i_ldL, i_ldR, i_ast, i_stL, i_stR, i_alen, i_new, i_newa, i_iret, i_zret, i_lret, i_aret, i_vret, i_raise, i_throw, i_recv, i_objinit, i_tsw3, lget, lset, lput1, lput2, lkil, ltrim, largs, isL, takev, dropv, nthv, pushO, catv, gd, true_and, and_true, Option.some.injEq, Prod.mk.injEq, exists_eq_left', if_true, if_false, reduceCtorEq, Bool.false_eq_true, lcmp_ge, lcmp_lt, lcmp_le, lcmp_gt, lcmp_eq, true_or, or_true, not_true_eq_false, not_false_eq_true, false_implies, true_implies, List.length_cons, List.length_nil]
          repeat (first | refine ⟨in_small (by omega) (by omega), ?_⟩ | (show (_ → _) ∧ (_ → _); first | refine ⟨by omega, fun _ => ?_⟩ | refine ⟨fun _ => ?_, by omega⟩) | refine ⟨by omega, ?_⟩ | refine ⟨⟨_, rfl, by assumption⟩, ?_⟩ | refine ⟨okT_I _, ?_⟩ | refine call0 (gd_of rfl) ?_)
          refine ih (k + 1) D7 (by omega) (fun a i h => ?_) (fun j hj => ?_) fun j hj => ?_
          · rw [e7 a i (by rcases h with h | h | h; omega; omega; exact h k (by omega)), h6 a i h]
          · rcases Nat.decEq j k with w | w
            · exact (h7 j (by omega)).cgr fun a i h h' => e7 a i (by omega)
            · subst w; exact g7
          · rcases Nat.decEq j k with w | w
            · obtain ⟨χ, hχ⟩ := h8 j hj
              exact ⟨χ, hχ.cgr fun a i h h' => e7 a i (by omega)⟩
            · subst w; exact ⟨_, g7⟩
      exact loop (sRw s).1 0 D5 (by omega) (fun _ _ _ => rfl) (fun j hj => absurd hj (Nat.not_lt_zero _)) fun j hj => by
        obtain ⟨χ, hχ⟩ := hI3.2.2.2.2.2.1.2.2 j hj
        exact ⟨χ, hχ.cgr fun a i h h' => k5 a i (by omega) (by omega)⟩
    · have hres : res = none := by
        rcases res with _ | u
        · rfl
        · have := hv1.mpr (fun q => nomatch q); omega
      repeat (first | refine ⟨in_small (by omega) (by omega), ?_⟩ | (show (_ → _) ∧ (_ → _); first | refine ⟨by omega, fun _ => ?_⟩ | refine ⟨fun _ => ?_, by omega⟩) | refine ⟨by omega, ?_⟩ | refine ⟨⟨_, rfl, by assumption⟩, ?_⟩ | refine ⟨okT_I _, ?_⟩ | refine call0 (gd_of rfl) ?_)
      refine mo_ans hI3 hW hN (k := 6) (by decide) rfl fun D' h1 h2 => ?_
      simp only [P_X16_divide_2, i_kil, i_icon, i_lcon, i_null, i_loadI, i_loadL, i_loadR, i_istore, i_lstore, i_astore, i_iinc, i_dup, i_dup2, i_pop, i_iadd, i_isub, i_imul, i_idiv, i_irem, i_ineg, i_iand, i_ior, i_ishl, i_ishr, i_lxor, i_ladd, i_lsub, i_lmul, i_ldiv, i_lrem, i_lneg, i_lshl, i_lcmp, i_i2l, i_l2i, i_i2b, i_i2s, i_ifeq, i_ifne, i_iflt, i_ifge, i_ifgt, i_ifle, i_cmpeq, i_cmpne, i_cmplt, i_cmpge, i_cmpgt, i_cmple, i_acmpeq, i_acmpne, i_ifnull, i_ifnonnull, i_getI, i_getR, i_putI, i_putZ, i_putR, i_ald, i_ldL, i_ldR, i_ast, i_stL, i_stR, i_alen, i_new, i_newa, i_iret, i_zret, i_lret, i_aret, i_vret, i_raise, i_throw, i_recv, i_objinit, i_tsw3, lget, lset, lput1, lput2, lkil, ltrim, largs, isL, takev, dropv, nthv, pushO, catv, gd, true_and, and_true, Option.some.injEq, Prod.mk.injEq, exists_eq_left', if_true, if_false, reduceCtorEq, Bool.false_eq_true, lcmp_ge, lcmp_lt, lcmp_le, lcmp_gt, lcmp_eq, true_or, or_true, not_true_eq_false, not_false_eq_true, false_implies, true_implies, List.length_cons, List.length_nil]
      exact K D' _ _ (rR_q h00 ⟨φ, c, g, ht, hu, n, res, hdv, .inl ⟨hres, rfl, rfl⟩⟩) h1 (hF3.tr h2)
  · repeat (first | refine ⟨in_small (by omega) (by omega), ?_⟩ | (show (_ → _) ∧ (_ → _); first | refine ⟨by omega, fun _ => ?_⟩ | refine ⟨fun _ => ?_, by omega⟩) | refine ⟨by omega, ?_⟩ | refine ⟨⟨_, rfl, by assumption⟩, ?_⟩ | refine ⟨okT_I _, ?_⟩ | refine call0 (gd_of rfl) ?_)
    refine mo_ans hI hW hN (k := foN (lkN s x 1) (lkN s y 2)) (by omega) rfl fun D' h1 h2 => ?_
    simp only [P_X16_divide_2, i_kil, i_icon, i_lcon, i_null, i_loadI, i_loadL, i_loadR, i_istore, i_lstore, i_astore, i_iinc, i_dup, i_dup2, i_pop, i_iadd, i_isub, i_imul, i_idiv, i_irem, i_ineg, i_iand, i_ior, i_ishl, i_ishr, i_lxor, i_ladd, i_lsub, i_lmul, i_ldiv, i_lrem, i_lneg, i_lshl, i_lcmp, i_i2l, i_l2i, i_i2b, i_i2s, i_ifeq, i_ifne, i_iflt, i_ifge, i_ifgt, i_ifle, i_cmpeq, i_cmpne, i_cmplt, i_cmpge, i_cmpgt, i_cmple, i_acmpeq, i_acmpne, i_ifnull, i_ifnonnull, i_getI, i_getR, i_putI, i_putZ, i_putR, i_ald, i_ldL, i_ldR, i_ast, i_stL, i_stR, i_alen, i_new, i_newa, i_iret, i_zret, i_lret, i_aret, i_vret, i_raise, i_throw, i_recv, i_objinit, i_tsw3, lget, lset, lput1, lput2, lkil, ltrim, largs, isL, takev, dropv, nthv, pushO, catv, gd, true_and, and_true, Option.some.injEq, Prod.mk.injEq, exists_eq_left', if_true, if_false, reduceCtorEq, Bool.false_eq_true, lcmp_ge, lcmp_lt, lcmp_le, lcmp_gt, lcmp_eq, true_or, or_true, not_true_eq_false, not_false_eq_true, false_implies, true_implies, List.length_cons, List.length_nil]
    exact K D' _ _ (rR_f (by omega) rfl) h1 h2
end MDM
