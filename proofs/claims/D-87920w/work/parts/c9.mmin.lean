/-! the model's span asked: rows without letters, minimal rows -/
set_option maxRecDepth 100000
set_option linter.unusedVariables false
/-- row k has nothing of the first letters -/
def spWo (st : spst) (σ : Nat → Nat) (nn k : Nat) : Prop := ∀ t, t < 455 → spEl st σ k t ≠ 0 → tx0 t = 0 ∧ (nn = 1 ∨ tx1 t = 0)
theorem mtS.sq0 {S S' : Stat} {M : Nat} (h : mtS S M) (h1 : S'.1 = S.1) (h2 : ∀ a i, a ≠ M + 10789 → S'.2.1 a i = S.2.1 a i) : mtS S' M := by
  have sE : ∀ a n, (M + 10789 < a ∨ a + n < M + 10789) → sEq S S' a n := fun a n q x y z => ⟨by rw [h1], fun i => h2 x i (by omega)⟩
  obtain ⟨⟨a1, a2, a3, ⟨b1, b2, b3⟩, a5, a6, a7, a8, a9, a10⟩, g, ⟨s1, s2⟩, ⟨l1, l2, l3⟩, o⟩ := h
  have e1 : mS S' M := by unfold mS wS at *; simp (disch := omega) only [h1, h2]; exact a1
  have e2 : mwS S' M := by unfold mwS wS at *; simp (disch := omega) only [h1, h2]; exact a2
  have e3 : mcS S' M := by unfold mcS at *; simp (disch := omega) only [h1, h2]; exact a3
  have e4 : mgS S' M := ⟨e1, by obtain ⟨-, g⟩ := g; unfold wS at *; simp (disch := omega) only [h1, h2]; exact g⟩
  refine ⟨⟨e1, e2, e3, ⟨by rw [h2 _ _ (by omega)]; exact b1, by rw [h1]; exact b2, fun r hr => ⟨by rw [h2 _ _ (by omega)]; exact (b3 r hr).1, (b3 r hr).2.sq (sE _ _ (by omega)) (sE _ _ (by omega))⟩⟩, ?_, ?_, ?_, ?_, ?_, ?_⟩, e4, ⟨by rw [h2 _ _ (by omega)]; exact s1, s2.sq (sE _ _ (by omega))⟩, ⟨by rw [h2 _ _ (by omega)]; exact l1, by rw [h1]; exact l2, fun k hk => ⟨by rw [h2 _ _ (by omega)]; exact (l3 k hk).1, (l3 k hk).2.sq (sE _ _ (by omega))⟩⟩, ?_⟩
  all_goals simp (disch := omega) only [h1, h2]; assumption
section ASK
variable {D : Dat} {M c g d n : Nat} {tc : Nat → Nat} {st : spst} {σ : Nat → Nat}
set_option maxHeartbeats 2000000 in
theorem sp_X16_without4 {E : Ex} {B : Nat × Nat} {S : Stat} {nn : Nat} (hM : mtS S M) (h : msE D M c g d n tc st σ) (hn : nn = 1 ∨ nn = 2)
    (K : ∀ r : Nat, isCnt (spWo st σ nn) st.1 r → E (.inl (some (.inl (r : Int)))) B S D) : Wp P_X16_without E 4 [some (aR M), some (aI nn), some (aI 0), some (aI 0)] [] B S D := by
  have M1 := hM.1.2.2.1.1
  have e57 := h.rows
  have hk35 := h.2.1.1
  obtain ⟨l1, l2, l3⟩ := hM.2.2.2.1
  have outer : ∀ (L k r : Nat), k + L = st.1 → isCnt (spWo st σ nn) k r → Wp P_X16_without E 4 [some (aR M), some (aI nn), some (aI r), some (aI k)] [] B S D := by
    intro L
    induction L with
    | zero =>
      intro k r hk hr
      have : k = st.1 := by omega
      subst this
      refine wp_in ?_
      simp only [P_X16_without, i_kil, i_icon, i_lcon, i_null, i_loadI, i_loadL, i_loadR, i_istore, i_lstore, i_astore, i_iinc, i_dup, i_dup2, i_pop, i_iadd, i_isub, i_imul, i_idiv, i_irem, i_ineg, i_iand, i_ior, i_ishl, i_ishr, i_lxor, i_ladd, i_lsub, i_lmul, i_ldiv, i_lrem, i_lneg, i_lshl, i_lcmp, i_i2l, i_l2i, i_i2b, i_i2s, i_ifeq, i_ifne, i_iflt, i_ifge, i_ifgt, i_ifle, i_cmpeq, i_cmpne, i_cmplt, i_cmpge, i_cmpgt, i_cmple, i_acmpeq, i_acmpne, i_ifnull, i_ifnonnull, i_getI, i_getR, i_putI, i_putZ, i_putR, i_ald, i_ldL, i_ldR, i_ast, i_stL, i_stR, i_alen, i_new, i_newa, i_iret, i_zret, i_lret, i_aret, i_vret, i_raise, i_throw, i_recv, i_objinit, i_tsw3, lget, lset, lput1, lput2, lkil, ltrim, largs, isL, takev, dropv, nthv, pushO, catv, gd, true_and, and_true, Option.some.injEq, Prod.mk.injEq, exists_eq_left', if_true, if_false, reduceCtorEq, Bool.false_eq_true, lcmp_ge, lcmp_lt, lcmp_le, lcmp_gt, lcmp_eq, true_or, or_true, not_true_eq_false, not_false_eq_true, false_implies, true_implies, List.length_cons, List.length_nil, M1, e57]
      repeat (first | refine ⟨in_small (by omega) (by omega), ?_⟩ | (show (_ → _) ∧ (_ → _); first | refine ⟨by omega, fun _ => ?_⟩ | refine ⟨fun _ => ?_, by omega⟩) | refine ⟨by omega, ?_⟩ | refine ⟨⟨_, rfl, by assumption⟩, ?_⟩ | refine ⟨okT_I _, ?_⟩ | refine ⟨okT_S (by omega) (by omega), ?_⟩ | refine ⟨okT_B (by omega) (by omega), ?_⟩ | refine call0 (gd_of rfl) ?_)
      exact K r hr
    | succ L ih =>
      intro k r hk hr
      have hrk := hr.le
      obtain ⟨m1, m2⟩ := l3 k (by omega)
      obtain ⟨p1, p2, p3, p4, p5, p6, p7⟩ := m2
      obtain ⟨m, e, f1, f2, f3, f4, f5, f6⟩ := (h.2.2.2.2.2 k (by omega)).2
      have nine : ∀ v : Nat, ((spWo st σ nn k ∧ v = 1) ∨ (¬ spWo st σ nn k ∧ v = 0)) → Wp P_X16_without E 9 [some (aR M), some (aI nn), none, some (aI k)] [.inl (v : Int), .inl (r : Int)] B S D := fun v hv => by
        refine wp_in ?_
        simp only [P_X16_without, i_kil, i_icon, i_lcon, i_null, i_loadI, i_loadL, i_loadR, i_istore, i_lstore, i_astore, i_iinc, i_dup, i_dup2, i_pop, i_iadd, i_isub, i_imul, i_idiv, i_irem, i_ineg, i_iand, i_ior, i_ishl, i_ishr, i_lxor, i_ladd, i_lsub, i_lmul, i_ldiv, i_lrem, i_lneg, i_lshl, i_lcmp, i_i2l, i_l2i, i_i2b, i_i2s, i_ifeq, i_ifne, i_iflt, i_ifge, i_ifgt, i_ifle, i_cmpeq, i_cmpne, i_cmplt, i_cmpge, i_cmpgt, i_cmple, i_acmpeq, i_acmpne, i_ifnull, i_ifnonnull, i_getI, i_getR, i_putI, i_putZ, i_putR, i_ald, i_ldL, i_ldR, i_ast, i_stL, i_stR, i_alen, i_new, i_newa, i_iret, i_zret, i_lret, i_aret, i_vret, i_raise, i_throw, i_recv, i_objinit, i_tsw3, lget, lset, lput1, lput2, lkil, ltrim, largs, isL, takev, dropv, nthv, pushO, catv, gd, true_and, and_true, Option.some.injEq, Prod.mk.injEq, exists_eq_left', if_true, if_false, reduceCtorEq, Bool.false_eq_true, lcmp_ge, lcmp_lt, lcmp_le, lcmp_gt, lcmp_eq, true_or, or_true, not_true_eq_false, not_false_eq_true, false_implies, true_implies, List.length_cons, List.length_nil]
        repeat (first | refine ⟨in_small (by omega) (by omega), ?_⟩ | (show (_ → _) ∧ (_ → _); first | refine ⟨by omega, fun _ => ?_⟩ | refine ⟨fun _ => ?_, by omega⟩) | refine ⟨by omega, ?_⟩ | refine ⟨⟨_, rfl, by assumption⟩, ?_⟩ | refine ⟨okT_I _, ?_⟩ | refine ⟨okT_S (by omega) (by omega), ?_⟩ | refine ⟨okT_B (by omega) (by omega), ?_⟩ | refine call0 (gd_of rfl) ?_)
        rw [show (r : Int) + (v : Int) = ((r + v : Nat) : Int) by omega]
        refine ih (k + 1) (r + v) (by omega) ⟨r, hr, ?_⟩
        rcases hv with ⟨a, b⟩ | ⟨a, b⟩
        · exact .inl ⟨a, by omega⟩
        · exact .inr ⟨a, by omega⟩
      have inner : ∀ (L2 i : Nat) (v : Int), i + L2 = m → (v = 0 ∨ v = 1) → (v = 1 ↔ ∀ j, j < i → tx0 (e j) = 0 ∧ (nn = 1 ∨ tx1 (e j) = 0)) → Wp P_X16_without E 5 [some (aR M), some (aI nn), some (aI r), some (aI k), some (aI v), some (aI i)] [] B S D := by
        intro L2
        induction L2 with
        | zero =>
          intro i v hi v1 v2
          have : i = m := by omega
          subst this
          have hiff : v = 1 ↔ spWo st σ nn k := by
            rw [v2]
            constructor
            · intro q t ht hne
              have : ∃ j, j < i ∧ e j = t := Classical.byContradiction fun w => hne (f5 t ht fun j hj x => w ⟨j, hj, x⟩)
              obtain ⟨j, hj, rfl⟩ := this
              exact q j hj
            · intro q j hj
              obtain ⟨x1, x2, x3, x4⟩ := f3 j hj
              exact q _ x1 x4
          refine wp_in ?_
          simp only [P_X16_without, i_kil, i_icon, i_lcon, i_null, i_loadI, i_loadL, i_loadR, i_istore, i_lstore, i_astore, i_iinc, i_dup, i_dup2, i_pop, i_iadd, i_isub, i_imul, i_idiv, i_irem, i_ineg, i_iand, i_ior, i_ishl, i_ishr, i_lxor, i_ladd, i_lsub, i_lmul, i_ldiv, i_lrem, i_lneg, i_lshl, i_lcmp, i_i2l, i_l2i, i_i2b, i_i2s, i_ifeq, i_ifne, i_iflt, i_ifge, i_ifgt, i_ifle, i_cmpeq, i_cmpne, i_cmplt, i_cmpge, i_cmpgt, i_cmple, i_acmpeq, i_acmpne, i_ifnull, i_ifnonnull, i_getI, i_getR, i_putI, i_putZ, i_putR, i_ald, i_ldL, i_ldR, i_ast, i_stL, i_stR, i_alen, i_new, i_newa, i_iret, i_zret, i_lret, i_aret, i_vret, i_raise, i_throw, i_recv, i_objinit, i_tsw3, lget, lset, lput1, lput2, lkil, ltrim, largs, isL, takev, dropv, nthv, pushO, catv, gd, true_and, and_true, Option.some.injEq, Prod.mk.injEq, exists_eq_left', if_true, if_false, reduceCtorEq, Bool.false_eq_true, lcmp_ge, lcmp_lt, lcmp_le, lcmp_gt, lcmp_eq, true_or, or_true, not_true_eq_false, not_false_eq_true, false_implies, true_implies, List.length_cons, List.length_nil, M1, l1, l2, m1, p1, f2]
          repeat (first | refine ⟨in_small (by omega) (by omega), ?_⟩ | (show (_ → _) ∧ (_ → _); first | refine ⟨by omega, fun _ => ?_⟩ | refine ⟨fun _ => ?_, by omega⟩) | refine ⟨by omega, ?_⟩ | refine ⟨⟨_, rfl, by assumption⟩, ?_⟩ | refine ⟨okT_I _, ?_⟩ | refine ⟨okT_S (by omega) (by omega), ?_⟩ | refine ⟨okT_B (by omega) (by omega), ?_⟩ | refine call0 (gd_of rfl) ?_)
          refine ⟨fun q => ?_, fun q => ?_⟩
          · exact nine 0 (.inr ⟨fun x => by have := hiff.mpr x; omega, rfl⟩)
          · exact nine 1 (.inl ⟨hiff.mp (by omega), rfl⟩)
        | succ L2 ih2 =>
          intro i v hi v1 v2
          obtain ⟨x1, x2, x3, x4⟩ := f3 i (by omega)
          have eight : ∀ v' : Int, (v' = 0 ∨ v' = 1) → (v' = 1 ↔ ∀ j, j < i + 1 → tx0 (e j) = 0 ∧ (nn = 1 ∨ tx1 (e j) = 0)) → Wp P_X16_without E 8 [some (aR M), some (aI nn), some (aI r), some (aI k), none, some (aI i)] [.inl v'] B S D := fun v' a1 a2 => by
            refine wp_in ?_
            simp only [P_X16_without, i_kil, i_icon, i_lcon, i_null, i_loadI, i_loadL, i_loadR, i_istore, i_lstore, i_astore, i_iinc, i_dup, i_dup2, i_pop, i_iadd, i_isub, i_imul, i_idiv, i_irem, i_ineg, i_iand, i_ior, i_ishl, i_ishr, i_lxor, i_ladd, i_lsub, i_lmul, i_ldiv, i_lrem, i_lneg, i_lshl, i_lcmp, i_i2l, i_l2i, i_i2b, i_i2s, i_ifeq, i_ifne, i_iflt, i_ifge, i_ifgt, i_ifle, i_cmpeq, i_cmpne, i_cmplt, i_cmpge, i_cmpgt, i_cmple, i_acmpeq, i_acmpne, i_ifnull, i_ifnonnull, i_getI, i_getR, i_putI, i_putZ, i_putR, i_ald, i_ldL, i_ldR, i_ast, i_stL, i_stR, i_alen, i_new, i_newa, i_iret, i_zret, i_lret, i_aret, i_vret, i_raise, i_throw, i_recv, i_objinit, i_tsw3, lget, lset, lput1, lput2, lkil, ltrim, largs, isL, takev, dropv, nthv, pushO, catv, gd, true_and, and_true, Option.some.injEq, Prod.mk.injEq, exists_eq_left', if_true, if_false, reduceCtorEq, Bool.false_eq_true, lcmp_ge, lcmp_lt, lcmp_le, lcmp_gt, lcmp_eq, true_or, or_true, not_true_eq_false, not_false_eq_true, false_implies, true_implies, List.length_cons, List.length_nil]
            repeat (first | refine ⟨in_small (by omega) (by omega), ?_⟩ | (show (_ → _) ∧ (_ → _); first | refine ⟨by omega, fun _ => ?_⟩ | refine ⟨fun _ => ?_, by omega⟩) | refine ⟨by omega, ?_⟩ | refine ⟨⟨_, rfl, by assumption⟩, ?_⟩ | refine ⟨okT_I _, ?_⟩ | refine ⟨okT_S (by omega) (by omega), ?_⟩ | refine ⟨okT_B (by omega) (by omega), ?_⟩ | refine call0 (gd_of rfl) ?_)
            exact ih2 (i + 1) v' (by omega) a1 a2
          have six : v = 1 → tx0 (e i) = 0 ∧ (nn = 1 ∨ tx1 (e i) = 0) → Wp P_X16_without E 6 [some (aR M), some (aI nn), some (aI r), some (aI k), none, some (aI i)] [] B S D := fun q w => by
            refine wp_in ?_
            simp only [P_X16_without, i_kil, i_icon, i_lcon, i_null, i_loadI, i_loadL, i_loadR, i_istore, i_lstore, i_astore, i_iinc, i_dup, i_dup2, i_pop, i_iadd, i_isub, i_imul, i_idiv, i_irem, i_ineg, i_iand, i_ior, i_ishl, i_ishr, i_lxor, i_ladd, i_lsub, i_lmul, i_ldiv, i_lrem, i_lneg, i_lshl, i_lcmp, i_i2l, i_l2i, i_i2b, i_i2s, i_ifeq, i_ifne, i_iflt, i_ifge, i_ifgt, i_ifle, i_cmpeq, i_cmpne, i_cmplt, i_cmpge, i_cmpgt, i_cmple, i_acmpeq, i_acmpne, i_ifnull, i_ifnonnull, i_getI, i_getR, i_putI, i_putZ, i_putR, i_ald, i_ldL, i_ldR, i_ast, i_stL, i_stR, i_alen, i_new, i_newa, i_iret, i_zret, i_lret, i_aret, i_vret, i_raise, i_throw, i_recv, i_objinit, i_tsw3, lget, lset, lput1, lput2, lkil, ltrim, largs, isL, takev, dropv, nthv, pushO, catv, gd, true_and, and_true, Option.some.injEq, Prod.mk.injEq, exists_eq_left', if_true, if_false, reduceCtorEq, Bool.false_eq_true, lcmp_ge, lcmp_lt, lcmp_le, lcmp_gt, lcmp_eq, true_or, or_true, not_true_eq_false, not_false_eq_true, false_implies, true_implies, List.length_cons, List.length_nil]
            refine eight 1 (.inr rfl) ⟨fun _ j hj => ?_, fun _ => rfl⟩
            by_cases y : j = i
            · rw [y]; exact w
            · exact v2.mp q j (by omega)
          have seven : ¬ (v = 1 ∧ tx0 (e i) = 0 ∧ (nn = 1 ∨ tx1 (e i) = 0)) → Wp P_X16_without E 7 [some (aR M), some (aI nn), some (aI r), some (aI k), none, some (aI i)] [] B S D := fun w => by
            refine wp_in ?_
            simp only [P_X16_without, i_kil, i_icon, i_lcon, i_null, i_loadI, i_loadL, i_loadR, i_istore, i_lstore, i_astore, i_iinc, i_dup, i_dup2, i_pop, i_iadd, i_isub, i_imul, i_idiv, i_irem, i_ineg, i_iand, i_ior, i_ishl, i_ishr, i_lxor, i_ladd, i_lsub, i_lmul, i_ldiv, i_lrem, i_lneg, i_lshl, i_lcmp, i_i2l, i_l2i, i_i2b, i_i2s, i_ifeq, i_ifne, i_iflt, i_ifge, i_ifgt, i_ifle, i_cmpeq, i_cmpne, i_cmplt, i_cmpge, i_cmpgt, i_cmple, i_acmpeq, i_acmpne, i_ifnull, i_ifnonnull, i_getI, i_getR, i_putI, i_putZ, i_putR, i_ald, i_ldL, i_ldR, i_ast, i_stL, i_stR, i_alen, i_new, i_newa, i_iret, i_zret, i_lret, i_aret, i_vret, i_raise, i_throw, i_recv, i_objinit, i_tsw3, lget, lset, lput1, lput2, lkil, ltrim, largs, isL, takev, dropv, nthv, pushO, catv, gd, true_and, and_true, Option.some.injEq, Prod.mk.injEq, exists_eq_left', if_true, if_false, reduceCtorEq, Bool.false_eq_true, lcmp_ge, lcmp_lt, lcmp_le, lcmp_gt, lcmp_eq, true_or, or_true, not_true_eq_false, not_false_eq_true, false_implies, true_implies, List.length_cons, List.length_nil]
            refine eight 0 (.inl rfl) ⟨fun q => by omega, fun q => ?_⟩
            exact absurd ⟨v2.mpr fun j hj => q j (by omega), q i (by omega)⟩ w
          refine wp_in ?_
          simp only [P_X16_without, i_kil, i_icon, i_lcon, i_null, i_loadI, i_loadL, i_loadR, i_istore, i_lstore, i_astore, i_iinc, i_dup, i_dup2, i_pop, i_iadd, i_isub, i_imul, i_idiv, i_irem, i_ineg, i_iand, i_ior, i_ishl, i_ishr, i_lxor, i_ladd, i_lsub, i_lmul, i_ldiv, i_lrem, i_lneg, i_lshl, i_lcmp, i_i2l, i_l2i, i_i2b, i_i2s, i_ifeq, i_ifne, i_iflt, i_ifge, i_ifgt, i_ifle, i_cmpeq, i_cmpne, i_cmplt, i_cmpge, i_cmpgt, i_cmple, i_acmpeq, i_acmpne, i_ifnull, i_ifnonnull, i_getI, i_getR, i_putI, i_putZ, i_putR, i_ald, i_ldL, i_ldR, i_ast, i_stL, i_stR, i_alen, i_new, i_newa, i_iret, i_zret, i_lret, i_aret, i_vret, i_raise, i_throw, i_recv, i_objinit, i_tsw3, lget, lset, lput1, lput2, lkil, ltrim, largs, isL, takev, dropv, nthv, pushO, catv, gd, true_and, and_true, Option.some.injEq, Prod.mk.injEq, exists_eq_left', if_true, if_false, reduceCtorEq, Bool.false_eq_true, lcmp_ge, lcmp_lt, lcmp_le, lcmp_gt, lcmp_eq, true_or, or_true, not_true_eq_false, not_false_eq_true, false_implies, true_implies, List.length_cons, List.length_nil, M1, l1, l2, m1, p1, f2]
          repeat (first | refine ⟨in_small (by omega) (by omega), ?_⟩ | (show (_ → _) ∧ (_ → _); first | refine ⟨by omega, fun _ => ?_⟩ | refine ⟨fun _ => ?_, by omega⟩) | refine ⟨by omega, ?_⟩ | refine ⟨⟨_, rfl, by assumption⟩, ?_⟩ | refine ⟨okT_I _, ?_⟩ | refine ⟨okT_S (by omega) (by omega), ?_⟩ | refine ⟨okT_B (by omega) (by omega), ?_⟩ | refine call0 (gd_of rfl) ?_)
          refine ⟨fun q => seven fun w => by omega, fun q => ?_⟩
          have q1 : v = 1 := by omega
          simp only [P_X16_without, i_kil, i_icon, i_lcon, i_null, i_loadI, i_loadL, i_loadR, i_istore, i_lstore, i_astore, i_iinc, i_dup, i_dup2, i_pop, i_iadd, i_isub, i_imul, i_idiv, i_irem, i_ineg, i_iand, i_ior, i_ishl, i_ishr, i_lxor, i_ladd, i_lsub, i_lmul, i_ldiv, i_lrem, i_lneg, i_lshl, i_lcmp, i_i2l, i_l2i, i_i2b, i_i2s, i_ifeq, i_ifne, i_iflt, i_ifge, i_ifgt, i_ifle, i_cmpeq, i_cmpne, i_cmplt, i_cmpge, i_cmpgt, i_cmple, i_acmpeq, i_acmpne, i_ifnull, i_ifnonnull, i_getI, i_getR, i_putI, i_putZ, i_putR, i_ald, i_ldL, i_ldR, i_ast, i_stL, i_stR, i_alen, i_new, i_newa, i_iret, i_zret, i_lret, i_aret, i_vret, i_raise, i_throw, i_recv, i_objinit, i_tsw3, lget, lset, lput1, lput2, lkil, ltrim, largs, isL, takev, dropv, nthv, pushO, catv, gd, true_and, and_true, Option.some.injEq, Prod.mk.injEq, exists_eq_left', if_true, if_false, reduceCtorEq, Bool.false_eq_true, lcmp_ge, lcmp_lt, lcmp_le, lcmp_gt, lcmp_eq, true_or, or_true, not_true_eq_false, not_false_eq_true, false_implies, true_implies, List.length_cons, List.length_nil, M1, l1, l2, m1, p1, p2, p3, f2, x2]
          repeat (first | refine ⟨in_small (by omega) (by omega), ?_⟩ | (show (_ → _) ∧ (_ → _); first | refine ⟨by omega, fun _ => ?_⟩ | refine ⟨fun _ => ?_, by omega⟩) | refine ⟨by omega, ?_⟩ | refine ⟨⟨_, rfl, by assumption⟩, ?_⟩ | refine ⟨okT_I _, ?_⟩ | refine ⟨okT_S (by omega) (by omega), ?_⟩ | refine ⟨okT_B (by omega) (by omega), ?_⟩ | refine call0 (gd_of rfl) ?_)
          refine sp_X16_exponent (l := 0) x1 (by omega) rfl ?_
          simp only [P_X16_without, i_kil, i_icon, i_lcon, i_null, i_loadI, i_loadL, i_loadR, i_istore, i_lstore, i_astore, i_iinc, i_dup, i_dup2, i_pop, i_iadd, i_isub, i_imul, i_idiv, i_irem, i_ineg, i_iand, i_ior, i_ishl, i_ishr, i_lxor, i_ladd, i_lsub, i_lmul, i_ldiv, i_lrem, i_lneg, i_lshl, i_lcmp, i_i2l, i_l2i, i_i2b, i_i2s, i_ifeq, i_ifne, i_iflt, i_ifge, i_ifgt, i_ifle, i_cmpeq, i_cmpne, i_cmplt, i_cmpge, i_cmpgt, i_cmple, i_acmpeq, i_acmpne, i_ifnull, i_ifnonnull, i_getI, i_getR, i_putI, i_putZ, i_putR, i_ald, i_ldL, i_ldR, i_ast, i_stL, i_stR, i_alen, i_new, i_newa, i_iret, i_zret, i_lret, i_aret, i_vret, i_raise, i_throw, i_recv, i_objinit, i_tsw3, lget, lset, lput1, lput2, lkil, ltrim, largs, isL, takev, dropv, nthv, pushO, catv, gd, true_and, and_true, Option.some.injEq, Prod.mk.injEq, exists_eq_left', if_true, if_false, reduceCtorEq, Bool.false_eq_true, lcmp_ge, lcmp_lt, lcmp_le, lcmp_gt, lcmp_eq, true_or, or_true, not_true_eq_false, not_false_eq_true, false_implies, true_implies, List.length_cons, List.length_nil, M1, l1, l2, m1, p1, p2, p3, f2, x2]
          refine ⟨fun z => ?_, fun z => ?_⟩
          · refine seven fun w => ?_
            have w1 : txl 0 (e i) = 0 := w.2.1
            omega
          · have z0 : tx0 (e i) = 0 := by
              have z' : ((txl 0 (e i) : Nat) : Int) = 0 := z
              have z2 : ((tx0 (e i) : Nat) : Int) = 0 := z'
              omega
            refine ⟨fun y => six q1 ⟨z0, .inl (by omega)⟩, fun y => ?_⟩
            repeat (first | refine ⟨in_small (by omega) (by omega), ?_⟩ | (show (_ → _) ∧ (_ → _); first | refine ⟨by omega, fun _ => ?_⟩ | refine ⟨fun _ => ?_, by omega⟩) | refine ⟨by omega, ?_⟩ | refine ⟨⟨_, rfl, by assumption⟩, ?_⟩ | refine ⟨okT_I _, ?_⟩ | refine ⟨okT_S (by omega) (by omega), ?_⟩ | refine ⟨okT_B (by omega) (by omega), ?_⟩ | refine call0 (gd_of rfl) ?_)
            refine sp_X16_exponent (l := 1) x1 (by omega) rfl ?_
            simp only [P_X16_without, i_kil, i_icon, i_lcon, i_null, i_loadI, i_loadL, i_loadR, i_istore, i_lstore, i_astore, i_iinc, i_dup, i_dup2, i_pop, i_iadd, i_isub, i_imul, i_idiv, i_irem, i_ineg, i_iand, i_ior, i_ishl, i_ishr, i_lxor, i_ladd, i_lsub, i_lmul, i_ldiv, i_lrem, i_lneg, i_lshl, i_lcmp, i_i2l, i_l2i, i_i2b, i_i2s, i_ifeq, i_ifne, i_iflt, i_ifge, i_ifgt, i_ifle, i_cmpeq, i_cmpne, i_cmplt, i_cmpge, i_cmpgt, i_cmple, i_acmpeq, i_acmpne, i_ifnull, i_ifnonnull, i_getI, i_getR, i_putI, i_putZ, i_putR, i_ald, i_ldL, i_ldR, i_ast, i_stL, i_stR, i_alen, i_new, i_newa, i_iret, i_zret, i_lret, i_aret, i_vret, i_raise, i_throw, i_recv, i_objinit, i_tsw3, lget, lset, lput1, lput2, lkil, ltrim, largs, isL, takev, dropv, nthv, pushO, catv, gd, true_and, and_true, Option.some.injEq, Prod.mk.injEq, exists_eq_left', if_true, if_false, reduceCtorEq, Bool.false_eq_true, lcmp_ge, lcmp_lt, lcmp_le, lcmp_gt, lcmp_eq, true_or, or_true, not_true_eq_false, not_false_eq_true, false_implies, true_implies, List.length_cons, List.length_nil]
            refine ⟨fun u => ?_, fun u => ?_⟩
            · refine seven fun w => ?_
              rcases w.2.2 with w2 | w2
              · omega
              · have w1 : txl 1 (e i) = 0 := w2
                omega
            · refine six q1 ⟨z0, .inr ?_⟩
              have z' : ((txl 1 (e i) : Nat) : Int) = 0 := u
              have z2 : ((tx1 (e i) : Nat) : Int) = 0 := z'
              omega
      refine wp_in ?_
      simp only [P_X16_without, i_kil, i_icon, i_lcon, i_null, i_loadI, i_loadL, i_loadR, i_istore, i_lstore, i_astore, i_iinc, i_dup, i_dup2, i_pop, i_iadd, i_isub, i_imul, i_idiv, i_irem, i_ineg, i_iand, i_ior, i_ishl, i_ishr, i_lxor, i_ladd, i_lsub, i_lmul, i_ldiv, i_lrem, i_lneg, i_lshl, i_lcmp, i_i2l, i_l2i, i_i2b, i_i2s, i_ifeq, i_ifne, i_iflt, i_ifge, i_ifgt, i_ifle, i_cmpeq, i_cmpne, i_cmplt, i_cmpge, i_cmpgt, i_cmple, i_acmpeq, i_acmpne, i_ifnull, i_ifnonnull, i_getI, i_getR, i_putI, i_putZ, i_putR, i_ald, i_ldL, i_ldR, i_ast, i_stL, i_stR, i_alen, i_new, i_newa, i_iret, i_zret, i_lret, i_aret, i_vret, i_raise, i_throw, i_recv, i_objinit, i_tsw3, lget, lset, lput1, lput2, lkil, ltrim, largs, isL, takev, dropv, nthv, pushO, catv, gd, true_and, and_true, Option.some.injEq, Prod.mk.injEq, exists_eq_left', if_true, if_false, reduceCtorEq, Bool.false_eq_true, lcmp_ge, lcmp_lt, lcmp_le, lcmp_gt, lcmp_eq, true_or, or_true, not_true_eq_false, not_false_eq_true, false_implies, true_implies, List.length_cons, List.length_nil, M1, e57]
      repeat (first | refine ⟨in_small (by omega) (by omega), ?_⟩ | (show (_ → _) ∧ (_ → _); first | refine ⟨by omega, fun _ => ?_⟩ | refine ⟨fun _ => ?_, by omega⟩) | refine ⟨by omega, ?_⟩ | refine ⟨⟨_, rfl, by assumption⟩, ?_⟩ | refine ⟨okT_I _, ?_⟩ | refine ⟨okT_S (by omega) (by omega), ?_⟩ | refine ⟨okT_B (by omega) (by omega), ?_⟩ | refine call0 (gd_of rfl) ?_)
      exact inner m 0 1 (by omega) (.inr rfl) ⟨fun _ j hj => by omega, fun _ => rfl⟩
  exact outer st.1 0 0 (by omega) rfl
/-- the minimal rows below k, in order -/
def isMinL (st : spst) (σ : Nat → Nat) (k n : Nat) (μ : Nat → Nat) : Prop := (∀ i, i < n → μ i < k ∧ spMin st σ (μ i)) ∧ (∀ i j, i < j → j < n → μ i < μ j) ∧ ∀ z, z < k → spMin st σ z → ∃ i, i < n ∧ μ i = z
theorem isMinL.le {st : spst} {σ : Nat → Nat} {k n : Nat} {μ : Nat → Nat} (h : isMinL st σ k n μ) : n ≤ k := by
  rcases Nat.lt_or_ge k n with w | w
  · exfalso
    obtain ⟨i, j, hij, hj, he⟩ := pigeon k n μ w fun i hi => (h.1 i hi).1
    have := h.2.1 i j hij hj
    omega
  · exact w
def mnW (M : Nat) (D D' : Dat) : Prop := ∀ c i, c ≠ M + 10790 → D' c i = D c i
def mnS (M : Nat) (S S' : Stat) : Prop := S'.1 = S.1 ∧ (∀ a i, a ≠ M + 10789 → S'.2.1 a i = S.2.1 a i) ∧ S'.2.2 = S.2.2
theorem msE.congrM {D' : Dat} (h : msE D M c g d n tc st σ) (e : mnW M D D') : msE D' M c g d n tc st σ := by
  obtain ⟨⟨c1, c2, c3⟩, h2, h3, h4, ⟨V, pm, s1, s2, s3, s4⟩, h6⟩ := h
  have hk := h2.1
  refine ⟨⟨c1, by rw [e _ _ (by omega)]; exact c2, fun i hi => by rw [e _ _ (by omega), e _ _ (by omega)]; exact c3 i hi⟩, h2, h3, h4, ⟨V, pm, by rw [e _ _ (by omega)]; exact s1, by rw [e _ _ (by omega)]; exact s2, s3, fun r hr => ?_⟩, fun k hk => ?_⟩
  · obtain ⟨x1, x2, x3, x4, x5, x6⟩ := s4 r hr
    exact ⟨x1.congr fun x y b1 b2 => e x y (by omega), x2, x3, by rw [e _ _ (by omega)]; exact x4, by rw [e _ _ (by omega)]; exact x5, by rw [e _ _ (by omega)]; exact x6⟩
  · obtain ⟨x1, x2⟩ := h6 k hk
    exact ⟨by rw [e _ _ (by omega)]; exact x1, x2.congr fun x y b1 b2 => e x y (by omega)⟩
set_option maxHeartbeats 4000000 in
theorem sp_X16_gatherMinimal {E : Ex} {B : Nat × Nat} {S : Stat} (hM : mtS S M) (hm : S.2.1 M 64 = some (M + 10789) ∧ S.1 (M + 10789) = some (116, 35) ∧ S.2.1 M 65 = some (M + 10790) ∧ S.1 (M + 10790) = some (100, 35)) (h : msE D M c g d n tc st σ)
    (K : ∀ (S' : Stat) (D' : Dat) (r : Nat) (μ : Nat → Nat), mnS M S S' → mnW M D D' → isMinL st σ st.1 r μ → (∀ i : Nat, i < r → S'.2.1 (M + 10789) i = some (M + 19027 + 244 * μ i) ∧ D' (M + 10790) i = tcode (spLd st σ (μ i))) → E (.inl (some (.inl (r : Int)))) B S' D') : Wp P_X16_gatherMinimal E 0 [some (aR M)] [] B S D := by
  have M1 := hM.1.2.2.1.1
  have hk35 := h.2.1.1
  obtain ⟨m1, m2, m3, m4⟩ := hm
  obtain ⟨l1, l2, l3⟩ := hM.2.2.2.1
  have hlt : ∀ k, k < st.1 → spLd st σ k < 455 := fun k hk => (spLd_lt h.2.1 h.2.2.2.1 hk).1
  have outer : ∀ (L k r : Nat) (μ : Nat → Nat) (S1 : Stat) (D1 : Dat), k + L = st.1 → mnS M S S1 → mnW M D D1 → isMinL st σ k r μ → (∀ i : Nat, i < r → S1.2.1 (M + 10789) i = some (M + 19027 + 244 * μ i) ∧ D1 (M + 10790) i = tcode (spLd st σ (μ i))) → Wp P_X16_gatherMinimal E 1 [some (aR M), some (aI r), some (aI k)] [] B S1 D1 := by
    intro L
    induction L with
    | zero =>
      intro k r μ S1 D1 hk f1 f2 f3 f4
      have : k = st.1 := by omega
      subst this
      have hM1 := hM.sq0 f1.1 f1.2.1
      have M1' := hM1.1.2.2.1.1
      have e57 := (h.congrM f2).rows
      refine wp_in ?_
      simp only [P_X16_gatherMinimal, i_kil, i_icon, i_lcon, i_null, i_loadI, i_loadL, i_loadR, i_istore, i_lstore, i_astore, i_iinc, i_dup, i_dup2, i_pop, i_iadd, i_isub, i_imul, i_idiv, i_irem, i_ineg, i_iand, i_ior, i_ishl, i_ishr, i_lxor, i_ladd, i_lsub, i_lmul, i_ldiv, i_lrem, i_lneg, i_lshl, i_lcmp, i_i2l, i_l2i, i_i2b, i_i2s, i_ifeq, i_ifne, i_iflt, i_ifge, i_ifgt, i_ifle, i_cmpeq, i_cmpne, i_cmplt, i_cmpge, i_cmpgt, i_cmple, i_acmpeq, i_acmpne, i_ifnull, i_ifnonnull, i_getI, i_getR, i_putI, i_putZ, i_putR, i_ald, i_ldL, i_ldR, i_ast, i_stL, i_stR, i_alen, i_new, i_newa, i_iret, i_zret, i_lret, i_aret, i_vret, i_raise, i_throw, i_recv, i_objinit, i_tsw3, lget, lset, lput1, lput2, lkil, ltrim, largs, isL, takev, dropv, nthv, pushO, catv, gd, true_and, and_true, Option.some.injEq, Prod.mk.injEq, exists_eq_left', if_true, if_false, reduceCtorEq, Bool.false_eq_true, lcmp_ge, lcmp_lt, lcmp_le, lcmp_gt, lcmp_eq, true_or, or_true, not_true_eq_false, not_false_eq_true, false_implies, true_implies, List.length_cons, List.length_nil, M1', e57]
      repeat (first | refine ⟨in_small (by omega) (by omega), ?_⟩ | (show (_ → _) ∧ (_ → _); first | refine ⟨by omega, fun _ => ?_⟩ | refine ⟨fun _ => ?_, by omega⟩) | refine ⟨by omega, ?_⟩ | refine ⟨⟨_, rfl, by assumption⟩, ?_⟩ | refine ⟨okT_I _, ?_⟩ | refine ⟨okT_S (by omega) (by omega), ?_⟩ | refine ⟨okT_B (by omega) (by omega), ?_⟩ | refine call0 (gd_of rfl) ?_)
      exact K S1 D1 r μ f1 f2 f3 f4
    | succ L ih =>
      intro k r μ S1 D1 hk f1 f2 f3 f4
      have hM1 := hM.sq0 f1.1 f1.2.1
      have M1' := hM1.1.2.2.1.1
      have h1 := h.congrM f2
      have e57 := h1.rows
      have hrk := f3.le
      have a1 : S1.2.1 M 64 = some (M + 10789) := by rw [f1.2.1 _ _ (by omega)]; exact m1
      have a2 : S1.1 (M + 10789) = some (116, 35) := by rw [f1.1]; exact m2
      have a3 : S1.2.1 M 65 = some (M + 10790) := by rw [f1.2.1 _ _ (by omega)]; exact m3
      have a4 : S1.1 (M + 10790) = some (100, 35) := by rw [f1.1]; exact m4
      obtain ⟨b1, b2, b3⟩ := hM1.2.2.2.1
      obtain ⟨b4, b5⟩ := b3 k (by omega)
      have b6 := b5.1
      have six : ∀ (S2 : Stat) (D2 : Dat) (r' : Nat) (μ' : Nat → Nat), mnS M S S2 → mnW M D D2 → isMinL st σ (k + 1) r' μ' → (∀ i : Nat, i < r' → S2.2.1 (M + 10789) i = some (M + 19027 + 244 * μ' i) ∧ D2 (M + 10790) i = tcode (spLd st σ (μ' i))) → Wp P_X16_gatherMinimal E 6 [some (aR M), some (aI r'), some (aI k)] [] B S2 D2 := fun S2 D2 r' μ' g1 g2 g3 g4 => by
        refine wp_in ?_
        simp only [P_X16_gatherMinimal, i_kil, i_icon, i_lcon, i_null, i_loadI, i_loadL, i_loadR, i_istore, i_lstore, i_astore, i_iinc, i_dup, i_dup2, i_pop, i_iadd, i_isub, i_imul, i_idiv, i_irem, i_ineg, i_iand, i_ior, i_ishl, i_ishr, i_lxor, i_ladd, i_lsub, i_lmul, i_ldiv, i_lrem, i_lneg, i_lshl, i_lcmp, i_i2l, i_l2i, i_i2b, i_i2s, i_ifeq, i_ifne, i_iflt, i_ifge, i_ifgt, i_ifle, i_cmpeq, i_cmpne, i_cmplt, i_cmpge, i_cmpgt, i_cmple, i_acmpeq, i_acmpne, i_ifnull, i_ifnonnull, i_getI, i_getR, i_putI, i_putZ, i_putR, i_ald, i_ldL, i_ldR, i_ast, i_stL, i_stR, i_alen, i_new, i_newa, i_iret, i_zret, i_lret, i_aret, i_vret, i_raise, i_throw, i_recv, i_objinit, i_tsw3, lget, lset, lput1, lput2, lkil, ltrim, largs, isL, takev, dropv, nthv, pushO, catv, gd, true_and, and_true, Option.some.injEq, Prod.mk.injEq, exists_eq_left', if_true, if_false, reduceCtorEq, Bool.false_eq_true, lcmp_ge, lcmp_lt, lcmp_le, lcmp_gt, lcmp_eq, true_or, or_true, not_true_eq_false, not_false_eq_true, false_implies, true_implies, List.length_cons, List.length_nil]
        repeat (first | refine ⟨in_small (by omega) (by omega), ?_⟩ | (show (_ → _) ∧ (_ → _); first | refine ⟨by omega, fun _ => ?_⟩ | refine ⟨fun _ => ?_, by omega⟩) | refine ⟨by omega, ?_⟩ | refine ⟨⟨_, rfl, by assumption⟩, ?_⟩ | refine ⟨okT_I _, ?_⟩ | refine ⟨okT_S (by omega) (by omega), ?_⟩ | refine ⟨okT_B (by omega) (by omega), ?_⟩ | refine call0 (gd_of rfl) ?_)
        exact ih (k + 1) r' μ' S2 D2 (by omega) g1 g2 g3 g4
      have five : ∀ v : Int, (v = 0 ∨ v = 1) → (v = 1 ↔ spMin st σ k) → Wp P_X16_gatherMinimal E 5 [some (aR M), some (aI r), some (aI k), some (aI v)] [] B S1 D1 := fun v v1 v2 => by
        refine wp_in ?_
        simp only [P_X16_gatherMinimal, i_kil, i_icon, i_lcon, i_null, i_loadI, i_loadL, i_loadR, i_istore, i_lstore, i_astore, i_iinc, i_dup, i_dup2, i_pop, i_iadd, i_isub, i_imul, i_idiv, i_irem, i_ineg, i_iand, i_ior, i_ishl, i_ishr, i_lxor, i_ladd, i_lsub, i_lmul, i_ldiv, i_lrem, i_lneg, i_lshl, i_lcmp, i_i2l, i_l2i, i_i2b, i_i2s, i_ifeq, i_ifne, i_iflt, i_ifge, i_ifgt, i_ifle, i_cmpeq, i_cmpne, i_cmplt, i_cmpge, i_cmpgt, i_cmple, i_acmpeq, i_acmpne, i_ifnull, i_ifnonnull, i_getI, i_getR, i_putI, i_putZ, i_putR, i_ald, i_ldL, i_ldR, i_ast, i_stL, i_stR, i_alen, i_new, i_newa, i_iret, i_zret, i_lret, i_aret, i_vret, i_raise, i_throw, i_recv, i_objinit, i_tsw3, lget, lset, lput1, lput2, lkil, ltrim, largs, isL, takev, dropv, nthv, pushO, catv, gd, true_and, and_true, Option.some.injEq, Prod.mk.injEq, exists_eq_left', if_true, if_false, reduceCtorEq, Bool.false_eq_true, lcmp_ge, lcmp_lt, lcmp_le, lcmp_gt, lcmp_eq, true_or, or_true, not_true_eq_false, not_false_eq_true, false_implies, true_implies, List.length_cons, List.length_nil, M1', a1, a2, a3, a4, b1, b2, b4, b6]
        repeat (first | refine ⟨in_small (by omega) (by omega), ?_⟩ | (show (_ → _) ∧ (_ → _); first | refine ⟨by omega, fun _ => ?_⟩ | refine ⟨fun _ => ?_, by omega⟩) | refine ⟨by omega, ?_⟩ | refine ⟨⟨_, rfl, by assumption⟩, ?_⟩ | refine ⟨okT_I _, ?_⟩ | refine ⟨okT_S (by omega) (by omega), ?_⟩ | refine ⟨okT_B (by omega) (by omega), ?_⟩ | refine call0 (gd_of rfl) ?_)
        refine ⟨fun q => ?_, fun q => ?_⟩
        · have hno : ¬ spMin st σ k := fun w => by have := v2.mpr w; omega
          refine six S1 D1 r μ f1 f2 ⟨fun i hi => ?_, f3.2.1, fun z hz hm => ?_⟩ f4
          · have := f3.1 i hi; exact ⟨by omega, this.2⟩
          · by_cases w : z = k
            · rw [w] at hm; exact absurd hm hno
            · exact f3.2.2 z (by omega) hm
        · have hyes : spMin st σ k := v2.mp (by omega)
          have hr35 : r < 35 := by omega
          obtain ⟨S2, hS2⟩ : ∃ S2, S2 = setR S1 (M + 10789) (r : Int) (some (M + 19027 + 244 * k)) := ⟨_, rfl⟩
          have g1 : mnS M S S2 := by
            refine ⟨by rw [hS2]; exact f1.1, fun a i ha => ?_, by rw [hS2]; exact f1.2.2⟩
            rw [hS2]
            show pmur S1.2.1 (M + 10789) (r : Int) (some (M + 19027 + 244 * k)) a i = _
            unfold pmur
            rw [if_neg (fun w => ha w.1)]
            exact f1.2.1 a i ha
          have hM2 := hM.sq0 g1.1 g1.2.1
          have M2 := hM2.1.2.2.1.1
          have c3 : S2.2.1 M 65 = some (M + 10790) := by rw [g1.2.1 _ _ (by omega)]; exact m3
          have c4 : S2.1 (M + 10790) = some (100, 35) := by rw [g1.1]; exact m4
          have hw2 : ∀ i : Nat, S2.2.1 (M + 10789) i = if i = r then some (M + 19027 + 244 * k) else S1.2.1 (M + 10789) i := fun i => by
            rw [hS2]
            show pmur S1.2.1 (M + 10789) (r : Int) (some (M + 19027 + 244 * k)) (M + 10789) i = _
            unfold pmur
            by_cases w : i = r
            · rw [if_pos ⟨rfl, by omega⟩, if_pos w]
            · rw [if_neg (fun x => by omega), if_neg w]
          refine ⟨by omega, by omega, 35, 18, 0, rfl, ⟨rfl, rfl⟩, by decide, by omega, by omega, ?_⟩
          rw [← hS2]
          simp only [P_X16_gatherMinimal, i_kil, i_icon, i_lcon, i_null, i_loadI, i_loadL, i_loadR, i_istore, i_lstore, i_astore, i_iinc, i_dup, i_dup2, i_pop, i_iadd, i_isub, i_imul, i_idiv, i_irem, i_ineg, i_iand, i_ior, i_ishl, i_ishr, i_lxor, i_ladd, i_lsub, i_lmul, i_ldiv, i_lrem, i_lneg, i_lshl, i_lcmp, i_i2l, i_l2i, i_i2b, i_i2s, i_ifeq, i_ifne, i_iflt, i_ifge, i_ifgt, i_ifle, i_cmpeq, i_cmpne, i_cmplt, i_cmpge, i_cmpgt, i_cmple, i_acmpeq, i_acmpne, i_ifnull, i_ifnonnull, i_getI, i_getR, i_putI, i_putZ, i_putR, i_ald, i_ldL, i_ldR, i_ast, i_stL, i_stR, i_alen, i_new, i_newa, i_iret, i_zret, i_lret, i_aret, i_vret, i_raise, i_throw, i_recv, i_objinit, i_tsw3, lget, lset, lput1, lput2, lkil, ltrim, largs, isL, takev, dropv, nthv, pushO, catv, gd, true_and, and_true, Option.some.injEq, Prod.mk.injEq, exists_eq_left', if_true, if_false, reduceCtorEq, Bool.false_eq_true, lcmp_ge, lcmp_lt, lcmp_le, lcmp_gt, lcmp_eq, true_or, or_true, not_true_eq_false, not_false_eq_true, false_implies, true_implies, List.length_cons, List.length_nil, M2, c3, c4]
          repeat (first | refine ⟨in_small (by omega) (by omega), ?_⟩ | (show (_ → _) ∧ (_ → _); first | refine ⟨by omega, fun _ => ?_⟩ | refine ⟨fun _ => ?_, by omega⟩) | refine ⟨by omega, ?_⟩ | refine ⟨⟨_, rfl, by assumption⟩, ?_⟩ | refine ⟨okT_I _, ?_⟩ | refine ⟨okT_S (by omega) (by omega), ?_⟩ | refine ⟨okT_B (by omega) (by omega), ?_⟩ | refine call0 (gd_of rfl) ?_)
          refine mlead_at (k := k) hM2 h1 (by omega) rfl ?_
          have lz := tcode_lim (hlt k (by omega))
          simp only [P_X16_gatherMinimal, i_kil, i_icon, i_lcon, i_null, i_loadI, i_loadL, i_loadR, i_istore, i_lstore, i_astore, i_iinc, i_dup, i_dup2, i_pop, i_iadd, i_isub, i_imul, i_idiv, i_irem, i_ineg, i_iand, i_ior, i_ishl, i_ishr, i_lxor, i_ladd, i_lsub, i_lmul, i_ldiv, i_lrem, i_lneg, i_lshl, i_lcmp, i_i2l, i_l2i, i_i2b, i_i2s, i_ifeq, i_ifne, i_iflt, i_ifge, i_ifgt, i_ifle, i_cmpeq, i_cmpne, i_cmplt, i_cmpge, i_cmpgt, i_cmple, i_acmpeq, i_acmpne, i_ifnull, i_ifnonnull, i_getI, i_getR, i_putI, i_putZ, i_putR, i_ald, i_ldL, i_ldR, i_ast, i_stL, i_stR, i_alen, i_new, i_newa, i_iret, i_zret, i_lret, i_aret, i_vret, i_raise, i_throw, i_recv, i_objinit, i_tsw3, lget, lset, lput1, lput2, lkil, ltrim, largs, isL, takev, dropv, nthv, pushO, catv, gd, true_and, and_true, Option.some.injEq, Prod.mk.injEq, exists_eq_left', if_true, if_false, reduceCtorEq, Bool.false_eq_true, lcmp_ge, lcmp_lt, lcmp_le, lcmp_gt, lcmp_eq, true_or, or_true, not_true_eq_false, not_false_eq_true, false_implies, true_implies, List.length_cons, List.length_nil, M2, c3, c4]
          repeat (first | refine ⟨in_small (by omega) (by omega), ?_⟩ | (show (_ → _) ∧ (_ → _); first | refine ⟨by omega, fun _ => ?_⟩ | refine ⟨fun _ => ?_, by omega⟩) | refine ⟨by omega, ?_⟩ | refine ⟨⟨_, rfl, by assumption⟩, ?_⟩ | refine ⟨okT_I _, ?_⟩ | refine ⟨okT_S (by omega) (by omega), ?_⟩ | refine ⟨okT_B (by omega) (by omega), ?_⟩ | refine call0 (gd_of rfl) ?_)
          refine six S2 _ (r + 1) (fun i => if i = r then k else μ i) g1 (fun x y hx => ?_) ⟨fun i hi => ?_, fun i j hij hj => ?_, fun z hz hm => ?_⟩ fun i hi => ?_
          · simp only [pmu]; rw [if_neg (fun w => hx w.1)]; exact f2 x y hx
          · show (if i = r then k else μ i) < k + 1 ∧ spMin st σ (if i = r then k else μ i)
            by_cases w : i = r
            · rw [if_pos w]; exact ⟨by omega, hyes⟩
            · rw [if_neg w]
              have := f3.1 i (by omega)
              exact ⟨by omega, this.2⟩
          · show (if i = r then k else μ i) < (if j = r then k else μ j)
            rw [if_neg (show ¬ i = r by omega)]
            by_cases w : j = r
            · rw [if_pos w]; exact (f3.1 i (by omega)).1
            · rw [if_neg w]; exact f3.2.1 i j hij (by omega)
          · by_cases w : z = k
            · exact ⟨r, by omega, by show (if r = r then k else μ r) = z; rw [if_pos rfl, w]⟩
            · obtain ⟨i, hi, e⟩ := f3.2.2 z (by omega) hm
              exact ⟨i, by omega, by show (if i = r then k else μ i) = z; rw [if_neg (by omega), e]⟩
          · show S2.2.1 (M + 10789) i = some (M + 19027 + 244 * (if i = r then k else μ i)) ∧ pmu D1 (M + 10790) (r : Int) (tcode (spLd st σ k)) (M + 10790) i = tcode (spLd st σ (if i = r then k else μ i))
            rw [hw2]
            simp only [pmu]
            by_cases w : i = r
            · rw [if_pos w, if_pos w, if_pos ⟨trivial, by omega⟩]
              exact ⟨rfl, rfl⟩
            · rw [if_neg w, if_neg w, if_neg (fun x => by omega)]
              exact f4 i (by omega)
      have rows : ∀ (L2 j : Nat) (v : Int), j + L2 = st.1 → (v = 0 ∨ v = 1) → (v = 1 ↔ ∀ i, i < j → i ≠ k → ¬ tdv (spLd st σ i) (spLd st σ k)) → Wp P_X16_gatherMinimal E 2 [some (aR M), some (aI r), some (aI k), some (aI v), some (aI j)] [] B S1 D1 := by
        intro L2
        induction L2 with
        | zero =>
          intro j v hj v1 v2
          have : j = st.1 := by omega
          subst this
          refine wp_in ?_
          simp only [P_X16_gatherMinimal, i_kil, i_icon, i_lcon, i_null, i_loadI, i_loadL, i_loadR, i_istore, i_lstore, i_astore, i_iinc, i_dup, i_dup2, i_pop, i_iadd, i_isub, i_imul, i_idiv, i_irem, i_ineg, i_iand, i_ior, i_ishl, i_ishr, i_lxor, i_ladd, i_lsub, i_lmul, i_ldiv, i_lrem, i_lneg, i_lshl, i_lcmp, i_i2l, i_l2i, i_i2b, i_i2s, i_ifeq, i_ifne, i_iflt, i_ifge, i_ifgt, i_ifle, i_cmpeq, i_cmpne, i_cmplt, i_cmpge, i_cmpgt, i_cmple, i_acmpeq, i_acmpne, i_ifnull, i_ifnonnull, i_getI, i_getR, i_putI, i_putZ, i_putR, i_ald, i_ldL, i_ldR, i_ast, i_stL, i_stR, i_alen, i_new, i_newa, i_iret, i_zret, i_lret, i_aret, i_vret, i_raise, i_throw, i_recv, i_objinit, i_tsw3, lget, lset, lput1, lput2, lkil, ltrim, largs, isL, takev, dropv, nthv, pushO, catv, gd, true_and, and_true, Option.some.injEq, Prod.mk.injEq, exists_eq_left', if_true, if_false, reduceCtorEq, Bool.false_eq_true, lcmp_ge, lcmp_lt, lcmp_le, lcmp_gt, lcmp_eq, true_or, or_true, not_true_eq_false, not_false_eq_true, false_implies, true_implies, List.length_cons, List.length_nil, M1', e57]
          repeat (first | refine ⟨in_small (by omega) (by omega), ?_⟩ | (show (_ → _) ∧ (_ → _); first | refine ⟨by omega, fun _ => ?_⟩ | refine ⟨fun _ => ?_, by omega⟩) | refine ⟨by omega, ?_⟩ | refine ⟨⟨_, rfl, by assumption⟩, ?_⟩ | refine ⟨okT_I _, ?_⟩ | refine ⟨okT_S (by omega) (by omega), ?_⟩ | refine ⟨okT_B (by omega) (by omega), ?_⟩ | refine call0 (gd_of rfl) ?_)
          exact five v v1 v2
        | succ L2 ih2 =>
          intro j v hj v1 v2
          have four : ∀ v' : Int, (v' = 0 ∨ v' = 1) → (v' = 1 ↔ ∀ i, i < j + 1 → i ≠ k → ¬ tdv (spLd st σ i) (spLd st σ k)) → Wp P_X16_gatherMinimal E 4 [some (aR M), some (aI r), some (aI k), none, some (aI j)] [.inl v'] B S1 D1 := fun v' a1 a2 => by
            refine wp_in ?_
            simp only [P_X16_gatherMinimal, i_kil, i_icon, i_lcon, i_null, i_loadI, i_loadL, i_loadR, i_istore, i_lstore, i_astore, i_iinc, i_dup, i_dup2, i_pop, i_iadd, i_isub, i_imul, i_idiv, i_irem, i_ineg, i_iand, i_ior, i_ishl, i_ishr, i_lxor, i_ladd, i_lsub, i_lmul, i_ldiv, i_lrem, i_lneg, i_lshl, i_lcmp, i_i2l, i_l2i, i_i2b, i_i2s, i_ifeq, i_ifne, i_iflt, i_ifge, i_ifgt, i_ifle, i_cmpeq, i_cmpne, i_cmplt, i_cmpge, i_cmpgt, i_cmple, i_acmpeq, i_acmpne, i_ifnull, i_ifnonnull, i_getI, i_getR, i_putI, i_putZ, i_putR, i_ald, i_ldL, i_ldR, i_ast, i_stL, i_stR, i_alen, i_new, i_newa, i_iret, i_zret, i_lret, i_aret, i_vret, i_raise, i_throw, i_recv, i_objinit, i_tsw3, lget, lset, lput1, lput2, lkil, ltrim, largs, isL, takev, dropv, nthv, pushO, catv, gd, true_and, and_true, Option.some.injEq, Prod.mk.injEq, exists_eq_left', if_true, if_false, reduceCtorEq, Bool.false_eq_true, lcmp_ge, lcmp_lt, lcmp_le, lcmp_gt, lcmp_eq, true_or, or_true, not_true_eq_false, not_false_eq_true, false_implies, true_implies, List.length_cons, List.length_nil]
            repeat (first | refine ⟨in_small (by omega) (by omega), ?_⟩ | (show (_ → _) ∧ (_ → _); first | refine ⟨by omega, fun _ => ?_⟩ | refine ⟨fun _ => ?_, by omega⟩) | refine ⟨by omega, ?_⟩ | refine ⟨⟨_, rfl, by assumption⟩, ?_⟩ | refine ⟨okT_I _, ?_⟩ | refine ⟨okT_S (by omega) (by omega), ?_⟩ | refine ⟨okT_B (by omega) (by omega), ?_⟩ | refine call0 (gd_of rfl) ?_)
            exact ih2 (j + 1) v' (by omega) a1 a2
          have three : v = 1 → (j ≠ k → ¬ tdv (spLd st σ j) (spLd st σ k)) → Wp P_X16_gatherMinimal E 3 [some (aR M), some (aI r), some (aI k), none, some (aI j)] [] B S1 D1 := fun q w => by
            refine wp_in ?_
            simp only [P_X16_gatherMinimal, i_kil, i_icon, i_lcon, i_null, i_loadI, i_loadL, i_loadR, i_istore, i_lstore, i_astore, i_iinc, i_dup, i_dup2, i_pop, i_iadd, i_isub, i_imul, i_idiv, i_irem, i_ineg, i_iand, i_ior, i_ishl, i_ishr, i_lxor, i_ladd, i_lsub, i_lmul, i_ldiv, i_lrem, i_lneg, i_lshl, i_lcmp, i_i2l, i_l2i, i_i2b, i_i2s, i_ifeq, i_ifne, i_iflt, i_ifge, i_ifgt, i_ifle, i_cmpeq, i_cmpne, i_cmplt, i_cmpge, i_cmpgt, i_cmple, i_acmpeq, i_acmpne, i_ifnull, i_ifnonnull, i_getI, i_getR, i_putI, i_putZ, i_putR, i_ald, i_ldL, i_ldR, i_ast, i_stL, i_stR, i_alen, i_new, i_newa, i_iret, i_zret, i_lret, i_aret, i_vret, i_raise, i_throw, i_recv, i_objinit, i_tsw3, lget, lset, lput1, lput2, lkil, ltrim, largs, isL, takev, dropv, nthv, pushO, catv, gd, true_and, and_true, Option.some.injEq, Prod.mk.injEq, exists_eq_left', if_true, if_false, reduceCtorEq, Bool.false_eq_true, lcmp_ge, lcmp_lt, lcmp_le, lcmp_gt, lcmp_eq, true_or, or_true, not_true_eq_false, not_false_eq_true, false_implies, true_implies, List.length_cons, List.length_nil]
            refine four 1 (.inr rfl) ⟨fun _ i hi hne => ?_, fun _ => rfl⟩
            by_cases y : i = j
            · rw [y] at hne ⊢; exact w hne
            · exact v2.mp q i (by omega) hne
          refine wp_in ?_
          simp only [P_X16_gatherMinimal, i_kil, i_icon, i_lcon, i_null, i_loadI, i_loadL, i_loadR, i_istore, i_lstore, i_astore, i_iinc, i_dup, i_dup2, i_pop, i_iadd, i_isub, i_imul, i_idiv, i_irem, i_ineg, i_iand, i_ior, i_ishl, i_ishr, i_lxor, i_ladd, i_lsub, i_lmul, i_ldiv, i_lrem, i_lneg, i_lshl, i_lcmp, i_i2l, i_l2i, i_i2b, i_i2s, i_ifeq, i_ifne, i_iflt, i_ifge, i_ifgt, i_ifle, i_cmpeq, i_cmpne, i_cmplt, i_cmpge, i_cmpgt, i_cmple, i_acmpeq, i_acmpne, i_ifnull, i_ifnonnull, i_getI, i_getR, i_putI, i_putZ, i_putR, i_ald, i_ldL, i_ldR, i_ast, i_stL, i_stR, i_alen, i_new, i_newa, i_iret, i_zret, i_lret, i_aret, i_vret, i_raise, i_throw, i_recv, i_objinit, i_tsw3, lget, lset, lput1, lput2, lkil, ltrim, largs, isL, takev, dropv, nthv, pushO, catv, gd, true_and, and_true, Option.some.injEq, Prod.mk.injEq, exists_eq_left', if_true, if_false, reduceCtorEq, Bool.false_eq_true, lcmp_ge, lcmp_lt, lcmp_le, lcmp_gt, lcmp_eq, true_or, or_true, not_true_eq_false, not_false_eq_true, false_implies, true_implies, List.length_cons, List.length_nil, M1', e57]
          repeat (first | refine ⟨in_small (by omega) (by omega), ?_⟩ | (show (_ → _) ∧ (_ → _); first | refine ⟨by omega, fun _ => ?_⟩ | refine ⟨fun _ => ?_, by omega⟩) | refine ⟨by omega, ?_⟩ | refine ⟨⟨_, rfl, by assumption⟩, ?_⟩ | refine ⟨okT_I _, ?_⟩ | refine ⟨okT_S (by omega) (by omega), ?_⟩ | refine ⟨okT_B (by omega) (by omega), ?_⟩ | refine call0 (gd_of rfl) ?_)
          refine ⟨fun q => ?_, fun q => ?_⟩
          · subst q
            refine five 0 (.inl rfl) ⟨fun x => by omega, fun x => ?_⟩
            exact v2.mpr fun i hi hne => x i (by omega) hne
          · have hv1 : v = 1 := by omega
            refine ⟨fun y => three hv1 fun w => by omega, fun y => ?_⟩
            repeat (first | refine ⟨in_small (by omega) (by omega), ?_⟩ | (show (_ → _) ∧ (_ → _); first | refine ⟨by omega, fun _ => ?_⟩ | refine ⟨fun _ => ?_, by omega⟩) | refine ⟨by omega, ?_⟩ | refine ⟨⟨_, rfl, by assumption⟩, ?_⟩ | refine ⟨okT_I _, ?_⟩ | refine ⟨okT_S (by omega) (by omega), ?_⟩ | refine ⟨okT_B (by omega) (by omega), ?_⟩ | refine call0 (gd_of rfl) ?_)
            refine mlead_at (k := j) hM1 h1 (by omega) rfl ?_
            simp only [P_X16_gatherMinimal, i_kil, i_icon, i_lcon, i_null, i_loadI, i_loadL, i_loadR, i_istore, i_lstore, i_astore, i_iinc, i_dup, i_dup2, i_pop, i_iadd, i_isub, i_imul, i_idiv, i_irem, i_ineg, i_iand, i_ior, i_ishl, i_ishr, i_lxor, i_ladd, i_lsub, i_lmul, i_ldiv, i_lrem, i_lneg, i_lshl, i_lcmp, i_i2l, i_l2i, i_i2b, i_i2s, i_ifeq, i_ifne, i_iflt, i_ifge, i_ifgt, i_ifle, i_cmpeq, i_cmpne, i_cmplt, i_cmpge, i_cmpgt, i_cmple, i_acmpeq, i_acmpne, i_ifnull, i_ifnonnull, i_getI, i_getR, i_putI, i_putZ, i_putR, i_ald, i_ldL, i_ldR, i_ast, i_stL, i_stR, i_alen, i_new, i_newa, i_iret, i_zret, i_lret, i_aret, i_vret, i_raise, i_throw, i_recv, i_objinit, i_tsw3, lget, lset, lput1, lput2, lkil, ltrim, largs, isL, takev, dropv, nthv, pushO, catv, gd, true_and, and_true, Option.some.injEq, Prod.mk.injEq, exists_eq_left', if_true, if_false, reduceCtorEq, Bool.false_eq_true, lcmp_ge, lcmp_lt, lcmp_le, lcmp_gt, lcmp_eq, true_or, or_true, not_true_eq_false, not_false_eq_true, false_implies, true_implies, List.length_cons, List.length_nil]
            repeat (first | refine ⟨in_small (by omega) (by omega), ?_⟩ | (show (_ → _) ∧ (_ → _); first | refine ⟨by omega, fun _ => ?_⟩ | refine ⟨fun _ => ?_, by omega⟩) | refine ⟨by omega, ?_⟩ | refine ⟨⟨_, rfl, by assumption⟩, ?_⟩ | refine ⟨okT_I _, ?_⟩ | refine ⟨okT_S (by omega) (by omega), ?_⟩ | refine ⟨okT_B (by omega) (by omega), ?_⟩ | refine call0 (gd_of rfl) ?_)
            refine mlead_at (k := k) hM1 h1 (by omega) rfl ?_
            simp only [P_X16_gatherMinimal, i_kil, i_icon, i_lcon, i_null, i_loadI, i_loadL, i_loadR, i_istore, i_lstore, i_astore, i_iinc, i_dup, i_dup2, i_pop, i_iadd, i_isub, i_imul, i_idiv, i_irem, i_ineg, i_iand, i_ior, i_ishl, i_ishr, i_lxor, i_ladd, i_lsub, i_lmul, i_ldiv, i_lrem, i_lneg, i_lshl, i_lcmp, i_i2l, i_l2i, i_i2b, i_i2s, i_ifeq, i_ifne, i_iflt, i_ifge, i_ifgt, i_ifle, i_cmpeq, i_cmpne, i_cmplt, i_cmpge, i_cmpgt, i_cmple, i_acmpeq, i_acmpne, i_ifnull, i_ifnonnull, i_getI, i_getR, i_putI, i_putZ, i_putR, i_ald, i_ldL, i_ldR, i_ast, i_stL, i_stR, i_alen, i_new, i_newa, i_iret, i_zret, i_lret, i_aret, i_vret, i_raise, i_throw, i_recv, i_objinit, i_tsw3, lget, lset, lput1, lput2, lkil, ltrim, largs, isL, takev, dropv, nthv, pushO, catv, gd, true_and, and_true, Option.some.injEq, Prod.mk.injEq, exists_eq_left', if_true, if_false, reduceCtorEq, Bool.false_eq_true, lcmp_ge, lcmp_lt, lcmp_le, lcmp_gt, lcmp_eq, true_or, or_true, not_true_eq_false, not_false_eq_true, false_implies, true_implies, List.length_cons, List.length_nil]
            repeat (first | refine ⟨in_small (by omega) (by omega), ?_⟩ | (show (_ → _) ∧ (_ → _); first | refine ⟨by omega, fun _ => ?_⟩ | refine ⟨fun _ => ?_, by omega⟩) | refine ⟨by omega, ?_⟩ | refine ⟨⟨_, rfl, by assumption⟩, ?_⟩ | refine ⟨okT_I _, ?_⟩ | refine ⟨okT_S (by omega) (by omega), ?_⟩ | refine ⟨okT_B (by omega) (by omega), ?_⟩ | refine call0 (gd_of rfl) ?_)
            refine mdivides_at (hlt j (by omega)) (hlt k (by omega)) rfl rfl fun v3 b1 b2 => ?_
            simp only [P_X16_gatherMinimal, i_kil, i_icon, i_lcon, i_null, i_loadI, i_loadL, i_loadR, i_istore, i_lstore, i_astore, i_iinc, i_dup, i_dup2, i_pop, i_iadd, i_isub, i_imul, i_idiv, i_irem, i_ineg, i_iand, i_ior, i_ishl, i_ishr, i_lxor, i_ladd, i_lsub, i_lmul, i_ldiv, i_lrem, i_lneg, i_lshl, i_lcmp, i_i2l, i_l2i, i_i2b, i_i2s, i_ifeq, i_ifne, i_iflt, i_ifge, i_ifgt, i_ifle, i_cmpeq, i_cmpne, i_cmplt, i_cmpge, i_cmpgt, i_cmple, i_acmpeq, i_acmpne, i_ifnull, i_ifnonnull, i_getI, i_getR, i_putI, i_putZ, i_putR, i_ald, i_ldL, i_ldR, i_ast, i_stL, i_stR, i_alen, i_new, i_newa, i_iret, i_zret, i_lret, i_aret, i_vret, i_raise, i_throw, i_recv, i_objinit, i_tsw3, lget, lset, lput1, lput2, lkil, ltrim, largs, isL, takev, dropv, nthv, pushO, catv, gd, true_and, and_true, Option.some.injEq, Prod.mk.injEq, exists_eq_left', if_true, if_false, reduceCtorEq, Bool.false_eq_true, lcmp_ge, lcmp_lt, lcmp_le, lcmp_gt, lcmp_eq, true_or, or_true, not_true_eq_false, not_false_eq_true, false_implies, true_implies, List.length_cons, List.length_nil]
            refine ⟨fun y2 => ?_, fun y2 => ?_⟩
            · refine four 0 (.inl rfl) ⟨fun x => by omega, fun x => ?_⟩
              exact absurd (b2.mp y2) (x j (by omega) (by omega))
            · exact three hv1 fun _ q => (b2.mpr q) y2
      refine wp_in ?_
      simp only [P_X16_gatherMinimal, i_kil, i_icon, i_lcon, i_null, i_loadI, i_loadL, i_loadR, i_istore, i_lstore, i_astore, i_iinc, i_dup, i_dup2, i_pop, i_iadd, i_isub, i_imul, i_idiv, i_irem, i_ineg, i_iand, i_ior, i_ishl, i_ishr, i_lxor, i_ladd, i_lsub, i_lmul, i_ldiv, i_lrem, i_lneg, i_lshl, i_lcmp, i_i2l, i_l2i, i_i2b, i_i2s, i_ifeq, i_ifne, i_iflt, i_ifge, i_ifgt, i_ifle, i_cmpeq, i_cmpne, i_cmplt, i_cmpge, i_cmpgt, i_cmple, i_acmpeq, i_acmpne, i_ifnull, i_ifnonnull, i_getI, i_getR, i_putI, i_putZ, i_putR, i_ald, i_ldL, i_ldR, i_ast, i_stL, i_stR, i_alen, i_new, i_newa, i_iret, i_zret, i_lret, i_aret, i_vret, i_raise, i_throw, i_recv, i_objinit, i_tsw3, lget, lset, lput1, lput2, lkil, ltrim, largs, isL, takev, dropv, nthv, pushO, catv, gd, true_and, and_true, Option.some.injEq, Prod.mk.injEq, exists_eq_left', if_true, if_false, reduceCtorEq, Bool.false_eq_true, lcmp_ge, lcmp_lt, lcmp_le, lcmp_gt, lcmp_eq, true_or, or_true, not_true_eq_false, not_false_eq_true, false_implies, true_implies, List.length_cons, List.length_nil, M1', e57]
      repeat (first | refine ⟨in_small (by omega) (by omega), ?_⟩ | (show (_ → _) ∧ (_ → _); first | refine ⟨by omega, fun _ => ?_⟩ | refine ⟨fun _ => ?_, by omega⟩) | refine ⟨by omega, ?_⟩ | refine ⟨⟨_, rfl, by assumption⟩, ?_⟩ | refine ⟨okT_I _, ?_⟩ | refine ⟨okT_S (by omega) (by omega), ?_⟩ | refine ⟨okT_B (by omega) (by omega), ?_⟩ | refine call0 (gd_of rfl) ?_)
      exact rows st.1 0 1 (by omega) (.inr rfl) ⟨fun _ i hi => by omega, fun _ => rfl⟩
  refine wp_in ?_
  simp only [P_X16_gatherMinimal, i_kil, i_icon, i_lcon, i_null, i_loadI, i_loadL, i_loadR, i_istore, i_lstore, i_astore, i_iinc, i_dup, i_dup2, i_pop, i_iadd, i_isub, i_imul, i_idiv, i_irem, i_ineg, i_iand, i_ior, i_ishl, i_ishr, i_lxor, i_ladd, i_lsub, i_lmul, i_ldiv, i_lrem, i_lneg, i_lshl, i_lcmp, i_i2l, i_l2i, i_i2b, i_i2s, i_ifeq, i_ifne, i_iflt, i_ifge, i_ifgt, i_ifle, i_cmpeq, i_cmpne, i_cmplt, i_cmpge, i_cmpgt, i_cmple, i_acmpeq, i_acmpne, i_ifnull, i_ifnonnull, i_getI, i_getR, i_putI, i_putZ, i_putR, i_ald, i_ldL, i_ldR, i_ast, i_stL, i_stR, i_alen, i_new, i_newa, i_iret, i_zret, i_lret, i_aret, i_vret, i_raise, i_throw, i_recv, i_objinit, i_tsw3, lget, lset, lput1, lput2, lkil, ltrim, largs, isL, takev, dropv, nthv, pushO, catv, gd, true_and, and_true, Option.some.injEq, Prod.mk.injEq, exists_eq_left', if_true, if_false, reduceCtorEq, Bool.false_eq_true, lcmp_ge, lcmp_lt, lcmp_le, lcmp_gt, lcmp_eq, true_or, or_true, not_true_eq_false, not_false_eq_true, false_implies, true_implies, List.length_cons, List.length_nil]
  exact outer st.1 0 0 (fun _ => 0) S D (by omega) ⟨rfl, fun _ _ _ => rfl, rfl⟩ (fun _ _ _ => rfl) ⟨fun i hi => by omega, fun i j _ hj => by omega, fun z hz => by omega⟩ fun i hi => by omega
end ASK
