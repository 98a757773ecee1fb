/-! the model's calls: span, many, without, member, divide -/
-- needs: e9.msum
set_option maxRecDepth 100000
set_option linter.unusedVariables false
section MSN
variable {M N : Nat} {S : Stat} {s : Cst}
theorem spSo.cut {c g : Nat} {st : spst} {σ : Nat → Nat} (h : spSo c g st σ) : spSo c g st (cutN σ st.1) := by
  have e : ∀ i, i < st.1 → cutN σ st.1 i = σ i := fun i hi => if_pos hi
  exact ⟨fun i hi => by rw [e i hi]; exact h.1 i hi, fun i j hij hj => by rw [e i (by omega), e j hj]; exact h.2 i j hij hj⟩
theorem msE.cut {D : Dat} {c g d n : Nat} {tc : Nat → Nat} {st : spst} {σ : Nat → Nat} (h : msE D M c g d n tc st σ) : msE D M c g d n tc st (cutN σ st.1) := by
  obtain ⟨h1, h2, h3, h4, h5, h6⟩ := h
  refine ⟨h1, h2, h3, h4.cut, h5, fun k hk => ?_⟩
  obtain ⟨a1, a2⟩ := h6 k hk
  have e : cutN σ st.1 k = σ k := if_pos hk
  refine ⟨by rw [e]; exact a1, ?_⟩
  have e2 : spEl st (cutN σ st.1) k = spEl st σ k := by unfold spEl; rw [e]
  rw [e2]; exact a2
theorem mo_span {E : Ex} {B : Nat × Nat} {D : Dat} {x z : Int} (hI : moI S D M s) (hW : crW N s) (hN : N < 1000) (K : mK E B S D M (oSpan x z s)) : Wp P_X16_span E 0 [some (aR M), some (aI x), some (aI z)] [] B S D := by
  have o := hI.1.o
  obtain ⟨b1, b2⟩ := hI.1.h14
  obtain ⟨c1, c2⟩ := hI.1.h15
  have hle := lkN_le s x 2
  have i31 := hI.2.2.2.2.1.2.1
  have two : ∀ (f : Nat) (R : Cst → Int → Prop), 1 ≤ f ∧ f ≤ 7 → mK E B S D M R → R (uFn s f) (-(f : Int)) → Wp P_X16_span E 2 [] [.inl (-(f : Int)), .inr (.inr (some M))] B S D := fun f R h1 hK h2 => by
    refine wp_in ?_
    simp only [P_X16_span, i_kil, i_icon, i_lcon, i_null, i_loadI, i_loadL, i_loadR, i_istore, i_lstore, i_astore, i_iinc, i_dup, i_dup2, i_pop, i_iadd, i_isub, i_imul, i_idiv, i_irem, i_ineg, i_iand, i_ior, i_ishl, i_ishr, i_lxor, i_ladd, i_lsub, i_lmul, i_ldiv, i_lrem, i_lneg, i_lshl, i_lcmp, i_i2l, i_l2i, i_i2b, i_i2s, i_ifeq, i_ifne, i_iflt, i_ifge, i_ifgt, i_ifle, i_cmpeq, i_cmpne, i_cmplt, i_cmpge, i_cmpgt, i_cmple, i_acmpeq, i_acmpne, i_ifnull, i_ifnonnull, i_getI, i_getR, i_putI, i_putZ, i_putR, i_ald, i_ldL, i_ldR, i_ast, i_stL, i_stR, i_alen, i_new, i_newa, i_iret, i_zret, i_lret, i_aret, i_vret, i_raise, i_throw, i_recv, i_objinit, i_tsw3, lget, lset, lput1, lput2, lkil, ltrim, largs, isL, takev, dropv, nthv, pushO, catv, gd, true_and, and_true, Option.some.injEq, Prod.mk.injEq, exists_eq_left', if_true, if_false, reduceCtorEq, Bool.false_eq_true, lcmp_ge, lcmp_lt, lcmp_le, lcmp_gt, lcmp_eq, true_or, or_true, not_true_eq_false, not_false_eq_true, false_implies, true_implies, List.length_cons, List.length_nil, o]
    repeat (first | refine ⟨in_small (by omega) (by omega), ?_⟩ | (show (_ → _) ∧ (_ → _); first | refine ⟨by omega, fun _ => ?_⟩ | refine ⟨fun _ => ?_, by omega⟩) | refine ⟨by omega, ?_⟩ | refine ⟨⟨_, rfl, by assumption⟩, ?_⟩ | refine ⟨okT_I _, ?_⟩ | refine call0 (gd_of rfl) ?_)
    refine mo_ans hI hW hN h1 rfl fun D' h3 h4 => ?_
    simp only [P_X16_span, i_kil, i_icon, i_lcon, i_null, i_loadI, i_loadL, i_loadR, i_istore, i_lstore, i_astore, i_iinc, i_dup, i_dup2, i_pop, i_iadd, i_isub, i_imul, i_idiv, i_irem, i_ineg, i_iand, i_ior, i_ishl, i_ishr, i_lxor, i_ladd, i_lsub, i_lmul, i_ldiv, i_lrem, i_lneg, i_lshl, i_lcmp, i_i2l, i_l2i, i_i2b, i_i2s, i_ifeq, i_ifne, i_iflt, i_ifge, i_ifgt, i_ifle, i_cmpeq, i_cmpne, i_cmplt, i_cmpge, i_cmpgt, i_cmple, i_acmpeq, i_acmpne, i_ifnull, i_ifnonnull, i_getI, i_getR, i_putI, i_putZ, i_putR, i_ald, i_ldL, i_ldR, i_ast, i_stL, i_stR, i_alen, i_new, i_newa, i_iret, i_zret, i_lret, i_aret, i_vret, i_raise, i_throw, i_recv, i_objinit, i_tsw3, lget, lset, lput1, lput2, lkil, ltrim, largs, isL, takev, dropv, nthv, pushO, catv, gd, true_and, and_true, Option.some.injEq, Prod.mk.injEq, exists_eq_left', if_true, if_false, reduceCtorEq, Bool.false_eq_true, lcmp_ge, lcmp_lt, lcmp_le, lcmp_gt, lcmp_eq, true_or, or_true, not_true_eq_false, not_false_eq_true, false_implies, true_implies, List.length_cons, List.length_nil]
    exact hK D' _ _ h2 h3 h4
  have one : (lkN s x 2 ≠ 0 ∨ ¬ (0 ≤ z ∧ z ≤ 4)) → Wp P_X16_span E 1 [some (aR M), none, none, some (aI (-(lkN s x 2 : Int)))] [] B S D := fun h2 => by
    refine wp_in ?_
    simp only [P_X16_span, i_kil, i_icon, i_lcon, i_null, i_loadI, i_loadL, i_loadR, i_istore, i_lstore, i_astore, i_iinc, i_dup, i_dup2, i_pop, i_iadd, i_isub, i_imul, i_idiv, i_irem, i_ineg, i_iand, i_ior, i_ishl, i_ishr, i_lxor, i_ladd, i_lsub, i_lmul, i_ldiv, i_lrem, i_lneg, i_lshl, i_lcmp, i_i2l, i_l2i, i_i2b, i_i2s, i_ifeq, i_ifne, i_iflt, i_ifge, i_ifgt, i_ifle, i_cmpeq, i_cmpne, i_cmplt, i_cmpge, i_cmpgt, i_cmple, i_acmpeq, i_acmpne, i_ifnull, i_ifnonnull, i_getI, i_getR, i_putI, i_putZ, i_putR, i_ald, i_ldL, i_ldR, i_ast, i_stL, i_stR, i_alen, i_new, i_newa, i_iret, i_zret, i_lret, i_aret, i_vret, i_raise, i_throw, i_recv, i_objinit, i_tsw3, lget, lset, lput1, lput2, lkil, ltrim, largs, isL, takev, dropv, nthv, pushO, catv, gd, true_and, and_true, Option.some.injEq, Prod.mk.injEq, exists_eq_left', if_true, if_false, reduceCtorEq, Bool.false_eq_true, lcmp_ge, lcmp_lt, lcmp_le, lcmp_gt, lcmp_eq, true_or, or_true, not_true_eq_false, not_false_eq_true, false_implies, true_implies, List.length_cons, List.length_nil]
    refine ⟨fun w => ?_, fun w => ?_⟩
    · refine two 6 _ (by decide) K (rR_f (by decide) ?_)
      unfold foN
      rw [if_pos (by omega), if_neg (by omega)]
    · refine two (lkN s x 2) _ (by omega) K (rR_f (by omega) ?_)
      unfold foN
      rw [if_neg (by omega)]
  refine wp_in ?_
  simp only [P_X16_span, i_kil, i_icon, i_lcon, i_null, i_loadI, i_loadL, i_loadR, i_istore, i_lstore, i_astore, i_iinc, i_dup, i_dup2, i_pop, i_iadd, i_isub, i_imul, i_idiv, i_irem, i_ineg, i_iand, i_ior, i_ishl, i_ishr, i_lxor, i_ladd, i_lsub, i_lmul, i_ldiv, i_lrem, i_lneg, i_lshl, i_lcmp, i_i2l, i_l2i, i_i2b, i_i2s, i_ifeq, i_ifne, i_iflt, i_ifge, i_ifgt, i_ifle, i_cmpeq, i_cmpne, i_cmplt, i_cmpge, i_cmpgt, i_cmple, i_acmpeq, i_acmpne, i_ifnull, i_ifnonnull, i_getI, i_getR, i_putI, i_putZ, i_putR, i_ald, i_ldL, i_ldR, i_ast, i_stL, i_stR, i_alen, i_new, i_newa, i_iret, i_zret, i_lret, i_aret, i_vret, i_raise, i_throw, i_recv, i_objinit, i_tsw3, lget, lset, lput1, lput2, lkil, ltrim, largs, isL, takev, dropv, nthv, pushO, catv, gd, true_and, and_true, Option.some.injEq, Prod.mk.injEq, exists_eq_left', if_true, if_false, reduceCtorEq, Bool.false_eq_true, lcmp_ge, lcmp_lt, lcmp_le, lcmp_gt, lcmp_eq, true_or, or_true, not_true_eq_false, not_false_eq_true, false_implies, true_implies, List.length_cons, List.length_nil, o]
  repeat (first | refine ⟨in_small (by omega) (by omega), ?_⟩ | (show (_ → _) ∧ (_ → _); first | refine ⟨by omega, fun _ => ?_⟩ | refine ⟨fun _ => ?_, by omega⟩) | refine ⟨by omega, ?_⟩ | refine ⟨⟨_, rfl, by assumption⟩, ?_⟩ | refine ⟨okT_I _, ?_⟩ | refine call0 (gd_of rfl) ?_)
  refine mo_look (k := 2) hI rfl ?_
  simp only [P_X16_span, i_kil, i_icon, i_lcon, i_null, i_loadI, i_loadL, i_loadR, i_istore, i_lstore, i_astore, i_iinc, i_dup, i_dup2, i_pop, i_iadd, i_isub, i_imul, i_idiv, i_irem, i_ineg, i_iand, i_ior, i_ishl, i_ishr, i_lxor, i_ladd, i_lsub, i_lmul, i_ldiv, i_lrem, i_lneg, i_lshl, i_lcmp, i_i2l, i_l2i, i_i2b, i_i2s, i_ifeq, i_ifne, i_iflt, i_ifge, i_ifgt, i_ifle, i_cmpeq, i_cmpne, i_cmplt, i_cmpge, i_cmpgt, i_cmple, i_acmpeq, i_acmpne, i_ifnull, i_ifnonnull, i_getI, i_getR, i_putI, i_putZ, i_putR, i_ald, i_ldL, i_ldR, i_ast, i_stL, i_stR, i_alen, i_new, i_newa, i_iret, i_zret, i_lret, i_aret, i_vret, i_raise, i_throw, i_recv, i_objinit, i_tsw3, lget, lset, lput1, lput2, lkil, ltrim, largs, isL, takev, dropv, nthv, pushO, catv, gd, true_and, and_true, Option.some.injEq, Prod.mk.injEq, exists_eq_left', if_true, if_false, reduceCtorEq, Bool.false_eq_true, lcmp_ge, lcmp_lt, lcmp_le, lcmp_gt, lcmp_eq, true_or, or_true, not_true_eq_false, not_false_eq_true, false_implies, true_implies, List.length_cons, List.length_nil, o, b1, b2, c1, c2]
  refine ⟨fun w => one (.inl (by omega)), fun w => ⟨fun w1 => one (.inr (by omega)), fun w1 => ⟨fun w2 => ?_, fun w2 => one (.inr (by omega))⟩⟩⟩
  have h0 : lkN s x 2 = 0 := by omega
  obtain ⟨p, c, g, hp, hp16, hu⟩ := lk2 h0
  subst hp
  obtain ⟨ho1, ho2⟩ := hI.ord hp16 hu
  have hw := hW.1 p hp16
  rw [hu] at hw
  obtain ⟨hw1, hw2⟩ := hw
  have hw1 : ordOK c g := hw1
  obtain ⟨d, hd⟩ : ∃ d : Nat, z = d := ⟨z.toNat, by omega⟩
  subst hd
  repeat (first | refine ⟨in_small (by omega) (by omega), ?_⟩ | (show (_ → _) ∧ (_ → _); first | refine ⟨by omega, fun _ => ?_⟩ | refine ⟨fun _ => ?_, by omega⟩) | refine ⟨by omega, ?_⟩ | refine ⟨⟨_, rfl, by assumption⟩, ?_⟩ | refine ⟨okT_I _, ?_⟩ | refine call0 (gd_of rfl) ?_)
  have n1 : pmu D M 44 1 (M + 23) (p : Int) = (c : Int) - 9 := by rw [pmu_ne (by omega)]; exact ho1
  rw [n1]
  repeat (first | refine ⟨in_small (by omega) (by omega), ?_⟩ | (show (_ → _) ∧ (_ → _); first | refine ⟨by omega, fun _ => ?_⟩ | refine ⟨fun _ => ?_, by omega⟩) | refine ⟨by omega, ?_⟩ | refine ⟨⟨_, rfl, by assumption⟩, ?_⟩ | refine ⟨okT_I _, ?_⟩ | refine call0 (gd_of rfl) ?_)
  have n2 : pmu (pmu D M 44 1) M 45 ((c : Int) - 9) (M + 24) (p : Int) = (g : Int) := by rw [pmu_ne (by omega), pmu_ne (by omega)]; exact ho2
  rw [n2]
  have n3 : pmu (pmu (pmu (pmu D M 44 1) M 45 ((c : Int) - 9)) M 46 (g : Int)) M 47 (d : Int) M 31 = ((sId s).1 : Int) := by rw [pmu_ne (by omega), pmu_ne (by omega), pmu_ne (by omega), pmu_ne (by omega)]; exact i31
  rw [n3]
  repeat (first | refine ⟨in_small (by omega) (by omega), ?_⟩ | (show (_ → _) ∧ (_ → _); first | refine ⟨by omega, fun _ => ?_⟩ | refine ⟨fun _ => ?_, by omega⟩) | refine ⟨by omega, ?_⟩ | refine ⟨⟨_, rfl, by assumption⟩, ?_⟩ | refine ⟨okT_I _, ?_⟩ | refine call0 (gd_of rfl) ?_)
  let D1 := pmu (pmu (pmu (pmu (pmu D M 44 1) M 45 ((c : Int) - 9)) M 46 (g : Int)) M 47 (d : Int)) M 48 ((sId s).1 : Int)
  have g1 : ∀ a i, (a ≠ M ∨ ¬ (44 ≤ i ∧ i ≤ 48)) → D1 a i = D a i := fun a i h => by
    show pmu _ _ _ _ a i = _
    rw [pmu_ne (by omega), pmu_ne (by omega), pmu_ne (by omega), pmu_ne (by omega), pmu_ne (by omega)]
  have g44 : D1 M 44 = 1 := by
    show pmu _ _ _ _ _ _ = _
    rw [pmu_ne (by omega), pmu_ne (by omega), pmu_ne (by omega), pmu_ne (by omega), pmu_eq]
  have g45 : D1 M 45 = (c : Int) - 9 := by
    show pmu _ _ _ _ _ _ = _
    rw [pmu_ne (by omega), pmu_ne (by omega), pmu_ne (by omega), pmu_eq]
  have g46 : D1 M 46 = (g : Int) := by
    show pmu _ _ _ _ _ _ = _
    rw [pmu_ne (by omega), pmu_ne (by omega), pmu_eq]
  have g47 : D1 M 47 = (d : Int) := by
    show pmu _ _ _ _ _ _ = _
    rw [pmu_ne (by omega), pmu_eq]
  have g48 : D1 M 48 = ((sId s).1 : Int) := by
    show pmu _ _ _ _ _ _ = _
    rw [pmu_eq]
  refine sp_X16_gatherColumns (D := D1) (d := d) (zn := g) hI.1.mt.1.2.2.1 hw1 (by omega) g45 g46 (.inl rfl) g47 fun D2 n tm e2 f2 => ?_
  simp only [P_X16_span, i_kil, i_icon, i_lcon, i_null, i_loadI, i_loadL, i_loadR, i_istore, i_lstore, i_astore, i_iinc, i_dup, i_dup2, i_pop, i_iadd, i_isub, i_imul, i_idiv, i_irem, i_ineg, i_iand, i_ior, i_ishl, i_ishr, i_lxor, i_ladd, i_lsub, i_lmul, i_ldiv, i_lrem, i_lneg, i_lshl, i_lcmp, i_i2l, i_l2i, i_i2b, i_i2s, i_ifeq, i_ifne, i_iflt, i_ifge, i_ifgt, i_ifle, i_cmpeq, i_cmpne, i_cmplt, i_cmpge, i_cmpgt, i_cmple, i_acmpeq, i_acmpne, i_ifnull, i_ifnonnull, i_getI, i_getR, i_putI, i_putZ, i_putR, i_ald, i_ldL, i_ldR, i_ast, i_stL, i_stR, i_alen, i_new, i_newa, i_iret, i_zret, i_lret, i_aret, i_vret, i_raise, i_throw, i_recv, i_objinit, i_tsw3, lget, lset, lput1, lput2, lkil, ltrim, largs, isL, takev, dropv, nthv, pushO, catv, gd, true_and, and_true, Option.some.injEq, Prod.mk.injEq, exists_eq_left', if_true, if_false, reduceCtorEq, Bool.false_eq_true, lcmp_ge, lcmp_lt, lcmp_le, lcmp_gt, lcmp_eq, true_or, or_true, not_true_eq_false, not_false_eq_true, false_implies, true_implies, List.length_cons, List.length_nil, o]
  let D3 := pmu (pmu D2 M 52 0) M 57 0
  have g3 : ∀ a i, (a ≠ M ∨ ¬ (44 ≤ i ∧ i ≤ 57)) → a ≠ M + 5697 → a ≠ M + 5698 → D3 a i = D a i := fun a i h h' h'' => by
    show pmu _ _ _ _ a i = _
    rw [pmu_ne (by omega), pmu_ne (by omega), e2 a i (by omega) h' h'', g1 a i (by omega)]
  have k3 : ∀ a i, (a ≠ M ∨ (i ≠ 52 ∧ i ≠ 57)) → D3 a i = D2 a i := fun a i h => by
    show pmu _ _ _ _ a i = _
    rw [pmu_ne (by omega), pmu_ne (by omega)]
  refine sp_X16_span3 (D := D3) (c := c) (g := g) (m := (sId s).1) (I := (sId s).2) hI.1.mt hw1 (by omega) (n := n) (tc := tm) ⟨f2.1, by rw [k3 _ _ (by omega)]; exact f2.2.1, fun i hi => ⟨by rw [k3 _ _ (by omega)]; exact (f2.2.2 i hi).1, by rw [k3 _ _ (by omega)]; exact (f2.2.2 i hi).2⟩⟩ (hI.2.2.2.2.1.cgr fun a i h => g3 a i (by unfold pId at h; omega) (by unfold pId at h; omega) (by unfold pId at h; omega)) ?_ ?_ ?_ fun D4 st V pm σ u1 u2 u3 u4 u5 u6 u7 u8 => ?_
  · show pmu _ _ _ _ _ _ = _
    rw [pmu_ne (by omega), pmu_eq]
  · show pmu _ _ _ _ _ _ = _
    rw [pmu_eq]
  · obtain ⟨φ, hφ⟩ := hI.sm.1
    exact ⟨φ, hφ.cgr fun a i h h' => g3 a i (by omega) (by omega) (by omega)⟩
  · have hE : msE D4 M c g d n tm st σ := by
      refine ⟨⟨f2.1, ?_, fun i hi => ⟨?_, ?_⟩⟩, u3, u4, u6, ⟨V, pm, u5⟩, u7⟩
      · rw [u1 _ _ (by omega) (by omega) (by omega) (by omega) (by omega) (by omega) (by omega), k3 _ _ (by omega)]; exact f2.2.1
      · rw [u1 _ _ (by omega) (by omega) (by omega) (by omega) (by omega) (by omega) (by omega), k3 _ _ (by omega)]; exact (f2.2.2 i hi).1
      · rw [u1 _ _ (by omega) (by omega) (by omega) (by omega) (by omega) (by omega) (by omega), k3 _ _ (by omega)]; exact (f2.2.2 i hi).2
    have q4 : ∀ i : Int, 44 ≤ i → i ≤ 48 → D4 M i = D1 M i := fun i h h' => by
      rw [u1 _ _ (by omega) (by omega) (by omega) (by omega) (by omega) (by omega) (by omega), k3 _ _ (by omega), e2 _ _ (by omega) (by omega) (by omega)]
    have g4 : ∀ a i, (M ≤ a ∧ a ≤ M + 567 ∨ M + 2393 ≤ a ∧ a ≤ M + 5696 ∨ M + 10789 ≤ a ∧ a ≤ M + 19026 ∨ a < M ∨ M + 27566 < a) → (a ≤ M ∨ M + 20 < a) → (a ≠ M ∨ ¬ (44 ≤ i ∧ i ≤ 57)) → D4 a i = D a i := fun a i h h' h'' => by
      rw [u1 a i (by omega) (by omega) (by omega) (by omega) (by omega) (by omega) (by omega), g3 a i (by omega) (by omega) (by omega)]
    refine K D4 _ _ (rR_q (foN_0.mpr ⟨h0, if_pos ⟨w1, w2⟩⟩) ⟨c, g, st, σ, hu, u2, u6, rfl, rfl⟩) (hI.setSp hW (fun a i h h' => g4 a i ?_ ?_ ?_) ⟨?_, fun c' g' d' m' I' st' σ' h => ?_⟩ (hI.sm.sum u8 fun a i h => g4 a i (by omega) (by omega) (by omega))) fun a i h => g4 a i (by omega) (by omega) (by omega)
    · unfold pK at h; unfold pSp at h'; omega
    · unfold pK at h; omega
    · unfold pSp at h'; omega
    · rw [q4 44 (by decide) (by decide), g44, if_neg (fun q => nomatch q)]
    · have hh : (((c, g, ((d : Nat) : Int).toNat), sId s, st, cutN σ st.1) : Spn) = ((c', g', d'), (m', I'), st', σ') := Option.some.inj h
      have e1 : c = c' := congrArg (fun z : Spn => z.1.1) hh
      have e2 : g = g' := congrArg (fun z : Spn => z.1.2.1) hh
      have e3 : d = d' := congrArg (fun z : Spn => z.1.2.2) hh
      have e4 : (sId s).1 = m' := congrArg (fun z : Spn => z.2.1.1) hh
      have e5 : st = st' := congrArg (fun z : Spn => z.2.2.1) hh
      have e6 : cutN σ st.1 = σ' := congrArg (fun z : Spn => z.2.2.2) hh
      subst e1; subst e2; subst e3; subst e4; subst e5; subst e6
      exact ⟨by rw [q4 45 (by decide) (by decide)]; exact g45, by rw [q4 46 (by decide) (by decide)]; exact g46, by rw [q4 47 (by decide) (by decide)]; exact g47, by rw [q4 48 (by decide) (by decide)]; exact g48, n, tm, hE.cut⟩
theorem mo_many {E : Ex} {B : Nat × Nat} {D : Dat} (hI : moI S D M s) (hW : crW N s) (hN : N < 1000) (K : mK E B S D M (oMany s)) : Wp P_X16_many E 0 [some (aR M)] [] B S D := by
  have o := hI.1.o
  obtain ⟨q44, qs⟩ := hI.2.2.2.2.2.2.2.1
  have one : oMany s (uFn s 7) (-((7 : Nat) : Int)) → Wp P_X16_many E 1 [some (aR M)] [] B S D := fun h => by
    refine wp_in ?_
    simp only [P_X16_many, i_kil, i_icon, i_lcon, i_null, i_loadI, i_loadL, i_loadR, i_istore, i_lstore, i_astore, i_iinc, i_dup, i_dup2, i_pop, i_iadd, i_isub, i_imul, i_idiv, i_irem, i_ineg, i_iand, i_ior, i_ishl, i_ishr, i_lxor, i_ladd, i_lsub, i_lmul, i_ldiv, i_lrem, i_lneg, i_lshl, i_lcmp, i_i2l, i_l2i, i_i2b, i_i2s, i_ifeq, i_ifne, i_iflt, i_ifge, i_ifgt, i_ifle, i_cmpeq, i_cmpne, i_cmplt, i_cmpge, i_cmpgt, i_cmple, i_acmpeq, i_acmpne, i_ifnull, i_ifnonnull, i_getI, i_getR, i_putI, i_putZ, i_putR, i_ald, i_ldL, i_ldR, i_ast, i_stL, i_stR, i_alen, i_new, i_newa, i_iret, i_zret, i_lret, i_aret, i_vret, i_raise, i_throw, i_recv, i_objinit, i_tsw3, lget, lset, lput1, lput2, lkil, ltrim, largs, isL, takev, dropv, nthv, pushO, catv, gd, true_and, and_true, Option.some.injEq, Prod.mk.injEq, exists_eq_left', if_true, if_false, reduceCtorEq, Bool.false_eq_true, lcmp_ge, lcmp_lt, lcmp_le, lcmp_gt, lcmp_eq, true_or, or_true, not_true_eq_false, not_false_eq_true, false_implies, true_implies, List.length_cons, List.length_nil, o]
    repeat (first | refine ⟨in_small (by omega) (by omega), ?_⟩ | (show (_ → _) ∧ (_ → _); first | refine ⟨by omega, fun _ => ?_⟩ | refine ⟨fun _ => ?_, by omega⟩) | refine ⟨by omega, ?_⟩ | refine ⟨⟨_, rfl, by assumption⟩, ?_⟩ | refine ⟨okT_I _, ?_⟩ | refine call0 (gd_of rfl) ?_)
    refine mo_ans hI hW hN (k := 7) (by decide) rfl fun D' h3 h4 => ?_
    simp only [P_X16_many, i_kil, i_icon, i_lcon, i_null, i_loadI, i_loadL, i_loadR, i_istore, i_lstore, i_astore, i_iinc, i_dup, i_dup2, i_pop, i_iadd, i_isub, i_imul, i_idiv, i_irem, i_ineg, i_iand, i_ior, i_ishl, i_ishr, i_lxor, i_ladd, i_lsub, i_lmul, i_ldiv, i_lrem, i_lneg, i_lshl, i_lcmp, i_i2l, i_l2i, i_i2b, i_i2s, i_ifeq, i_ifne, i_iflt, i_ifge, i_ifgt, i_ifle, i_cmpeq, i_cmpne, i_cmplt, i_cmpge, i_cmpgt, i_cmple, i_acmpeq, i_acmpne, i_ifnull, i_ifnonnull, i_getI, i_getR, i_putI, i_putZ, i_putR, i_ald, i_ldL, i_ldR, i_ast, i_stL, i_stR, i_alen, i_new, i_newa, i_iret, i_zret, i_lret, i_aret, i_vret, i_raise, i_throw, i_recv, i_objinit, i_tsw3, lget, lset, lput1, lput2, lkil, ltrim, largs, isL, takev, dropv, nthv, pushO, catv, gd, true_and, and_true, Option.some.injEq, Prod.mk.injEq, exists_eq_left', if_true, if_false, reduceCtorEq, Bool.false_eq_true, lcmp_ge, lcmp_lt, lcmp_le, lcmp_gt, lcmp_eq, true_or, or_true, not_true_eq_false, not_false_eq_true, false_implies, true_implies, List.length_cons, List.length_nil]
    exact K D' _ _ h h3 h4
  refine wp_in ?_
  simp only [P_X16_many, i_kil, i_icon, i_lcon, i_null, i_loadI, i_loadL, i_loadR, i_istore, i_lstore, i_astore, i_iinc, i_dup, i_dup2, i_pop, i_iadd, i_isub, i_imul, i_idiv, i_irem, i_ineg, i_iand, i_ior, i_ishl, i_ishr, i_lxor, i_ladd, i_lsub, i_lmul, i_ldiv, i_lrem, i_lneg, i_lshl, i_lcmp, i_i2l, i_l2i, i_i2b, i_i2s, i_ifeq, i_ifne, i_iflt, i_ifge, i_ifgt, i_ifle, i_cmpeq, i_cmpne, i_cmplt, i_cmpge, i_cmpgt, i_cmple, i_acmpeq, i_acmpne, i_ifnull, i_ifnonnull, i_getI, i_getR, i_putI, i_putZ, i_putR, i_ald, i_ldL, i_ldR, i_ast, i_stL, i_stR, i_alen, i_new, i_newa, i_iret, i_zret, i_lret, i_aret, i_vret, i_raise, i_throw, i_recv, i_objinit, i_tsw3, lget, lset, lput1, lput2, lkil, ltrim, largs, isL, takev, dropv, nthv, pushO, catv, gd, true_and, and_true, Option.some.injEq, Prod.mk.injEq, exists_eq_left', if_true, if_false, reduceCtorEq, Bool.false_eq_true, lcmp_ge, lcmp_lt, lcmp_le, lcmp_gt, lcmp_eq, true_or, or_true, not_true_eq_false, not_false_eq_true, false_implies, true_implies, List.length_cons, List.length_nil, o]
  rcases hx : sSp s with _ | ⟨⟨c, g, d⟩, ⟨m, I⟩, st, σ⟩
  · rw [if_pos hx] at q44
    exact ⟨fun _ => one (.inl ⟨hx, rfl, rfl⟩), fun w => absurd q44 w⟩
  · rw [if_neg (by rw [hx]; exact fun z => nomatch z)] at q44
    obtain ⟨e45, e46, e47, e48, n, tc, hE⟩ := qs c g d m I st σ hx
    have hmt := hI.1.mt
    have bad : (∃ l, l < 3 ∧ spFree st σ (spPw l)) → Wp P_X16_many E 1 [some (aR M)] [] B S D := fun h => one (.inr ⟨_, _, _, _, hx, .inl ⟨h, rfl, rfl⟩⟩)
    refine ⟨fun w => by omega, fun _ => ?_⟩
    repeat (first | refine ⟨in_small (by omega) (by omega), ?_⟩ | (show (_ → _) ∧ (_ → _); first | refine ⟨by omega, fun _ => ?_⟩ | refine ⟨fun _ => ?_, by omega⟩) | refine ⟨by omega, ?_⟩ | refine ⟨⟨_, rfl, by assumption⟩, ?_⟩ | refine ⟨okT_I _, ?_⟩ | refine call0 (gd_of rfl) ?_)
    refine sp_X16_powerOf (l := 0) hmt hE (by decide) rfl fun v0 hv0 => ?_
    simp only [P_X16_many, i_kil, i_icon, i_lcon, i_null, i_loadI, i_loadL, i_loadR, i_istore, i_lstore, i_astore, i_iinc, i_dup, i_dup2, i_pop, i_iadd, i_isub, i_imul, i_idiv, i_irem, i_ineg, i_iand, i_ior, i_ishl, i_ishr, i_lxor, i_ladd, i_lsub, i_lmul, i_ldiv, i_lrem, i_lneg, i_lshl, i_lcmp, i_i2l, i_l2i, i_i2b, i_i2s, i_ifeq, i_ifne, i_iflt, i_ifge, i_ifgt, i_ifle, i_cmpeq, i_cmpne, i_cmplt, i_cmpge, i_cmpgt, i_cmple, i_acmpeq, i_acmpne, i_ifnull, i_ifnonnull, i_getI, i_getR, i_putI, i_putZ, i_putR, i_ald, i_ldL, i_ldR, i_ast, i_stL, i_stR, i_alen, i_new, i_newa, i_iret, i_zret, i_lret, i_aret, i_vret, i_raise, i_throw, i_recv, i_objinit, i_tsw3, lget, lset, lput1, lput2, lkil, ltrim, largs, isL, takev, dropv, nthv, pushO, catv, gd, true_and, and_true, Option.some.injEq, Prod.mk.injEq, exists_eq_left', if_true, if_false, reduceCtorEq, Bool.false_eq_true, lcmp_ge, lcmp_lt, lcmp_le, lcmp_gt, lcmp_eq, true_or, or_true, not_true_eq_false, not_false_eq_true, false_implies, true_implies, List.length_cons, List.length_nil]
    refine ⟨fun w => bad ⟨0, by decide, hv0.mp w⟩, fun w => ?_⟩
    repeat (first | refine ⟨in_small (by omega) (by omega), ?_⟩ | (show (_ → _) ∧ (_ → _); first | refine ⟨by omega, fun _ => ?_⟩ | refine ⟨fun _ => ?_, by omega⟩) | refine ⟨by omega, ?_⟩ | refine ⟨⟨_, rfl, by assumption⟩, ?_⟩ | refine ⟨okT_I _, ?_⟩ | refine call0 (gd_of rfl) ?_)
    refine sp_X16_powerOf (l := 1) hmt hE (by decide) rfl fun v1 hv1 => ?_
    simp only [P_X16_many, i_kil, i_icon, i_lcon, i_null, i_loadI, i_loadL, i_loadR, i_istore, i_lstore, i_astore, i_iinc, i_dup, i_dup2, i_pop, i_iadd, i_isub, i_imul, i_idiv, i_irem, i_ineg, i_iand, i_ior, i_ishl, i_ishr, i_lxor, i_ladd, i_lsub, i_lmul, i_ldiv, i_lrem, i_lneg, i_lshl, i_lcmp, i_i2l, i_l2i, i_i2b, i_i2s, i_ifeq, i_ifne, i_iflt, i_ifge, i_ifgt, i_ifle, i_cmpeq, i_cmpne, i_cmplt, i_cmpge, i_cmpgt, i_cmple, i_acmpeq, i_acmpne, i_ifnull, i_ifnonnull, i_getI, i_getR, i_putI, i_putZ, i_putR, i_ald, i_ldL, i_ldR, i_ast, i_stL, i_stR, i_alen, i_new, i_newa, i_iret, i_zret, i_lret, i_aret, i_vret, i_raise, i_throw, i_recv, i_objinit, i_tsw3, lget, lset, lput1, lput2, lkil, ltrim, largs, isL, takev, dropv, nthv, pushO, catv, gd, true_and, and_true, Option.some.injEq, Prod.mk.injEq, exists_eq_left', if_true, if_false, reduceCtorEq, Bool.false_eq_true, lcmp_ge, lcmp_lt, lcmp_le, lcmp_gt, lcmp_eq, true_or, or_true, not_true_eq_false, not_false_eq_true, false_implies, true_implies, List.length_cons, List.length_nil]
    refine ⟨fun w => bad ⟨1, by decide, hv1.mp w⟩, fun w' => ?_⟩
    repeat (first | refine ⟨in_small (by omega) (by omega), ?_⟩ | (show (_ → _) ∧ (_ → _); first | refine ⟨by omega, fun _ => ?_⟩ | refine ⟨fun _ => ?_, by omega⟩) | refine ⟨by omega, ?_⟩ | refine ⟨⟨_, rfl, by assumption⟩, ?_⟩ | refine ⟨okT_I _, ?_⟩ | refine call0 (gd_of rfl) ?_)
    refine sp_X16_powerOf (l := 2) hmt hE (by decide) rfl fun v2 hv2 => ?_
    simp only [P_X16_many, i_kil, i_icon, i_lcon, i_null, i_loadI, i_loadL, i_loadR, i_istore, i_lstore, i_astore, i_iinc, i_dup, i_dup2, i_pop, i_iadd, i_isub, i_imul, i_idiv, i_irem, i_ineg, i_iand, i_ior, i_ishl, i_ishr, i_lxor, i_ladd, i_lsub, i_lmul, i_ldiv, i_lrem, i_lneg, i_lshl, i_lcmp, i_i2l, i_l2i, i_i2b, i_i2s, i_ifeq, i_ifne, i_iflt, i_ifge, i_ifgt, i_ifle, i_cmpeq, i_cmpne, i_cmplt, i_cmpge, i_cmpgt, i_cmple, i_acmpeq, i_acmpne, i_ifnull, i_ifnonnull, i_getI, i_getR, i_putI, i_putZ, i_putR, i_ald, i_ldL, i_ldR, i_ast, i_stL, i_stR, i_alen, i_new, i_newa, i_iret, i_zret, i_lret, i_aret, i_vret, i_raise, i_throw, i_recv, i_objinit, i_tsw3, lget, lset, lput1, lput2, lkil, ltrim, largs, isL, takev, dropv, nthv, pushO, catv, gd, true_and, and_true, Option.some.injEq, Prod.mk.injEq, exists_eq_left', if_true, if_false, reduceCtorEq, Bool.false_eq_true, lcmp_ge, lcmp_lt, lcmp_le, lcmp_gt, lcmp_eq, true_or, or_true, not_true_eq_false, not_false_eq_true, false_implies, true_implies, List.length_cons, List.length_nil]
    refine ⟨fun w'' => ?_, fun w'' => bad ⟨2, by decide, hv2.mp w''⟩⟩
    have hn : ∀ l, l < 3 → ¬ spFree st σ (spPw l) := fun l hl h => by
      rcases (by omega : l = 0 ∨ l = 1 ∨ l = 2) with e | e | e <;> subst e
      · have := hv0.mpr h; omega
      · have := hv1.mpr h; omega
      · have := hv2.mpr h; omega
    refine sp_X16_many2 hmt hE hn fun r hr => ?_
    exact K D _ _ (.inr ⟨_, _, _, _, hx, .inr ⟨hn, rfl, r, hr, rfl⟩⟩) hI mO.rfl
theorem mo_without {E : Ex} {B : Nat × Nat} {D : Dat} {x : Int} (hI : moI S D M s) (hW : crW N s) (hN : N < 1000) (K : mK E B S D M (oWithout x s)) : Wp P_X16_without E 0 [some (aR M), some (aI x)] [] B S D := by
  have o := hI.1.o
  obtain ⟨q44, qs⟩ := hI.2.2.2.2.2.2.2.1
  have two : ∀ (f : Nat), 1 ≤ f ∧ f ≤ 7 → oWithout x s (uFn s f) (-(f : Int)) → Wp P_X16_without E 2 [] [.inl (-(f : Int)), .inr (.inr (some M))] B S D := fun f h1 h2 => by
    refine wp_in ?_
    simp only [P_X16_without, i_kil, i_icon, i_lcon, i_null, i_loadI, i_loadL, i_loadR, i_istore, i_lstore, i_astore, i_iinc, i_dup, i_dup2, i_pop, i_iadd, i_isub, i_imul, i_idiv, i_irem, i_ineg, i_iand, i_ior, i_ishl, i_ishr, i_lxor, i_ladd, i_lsub, i_lmul, i_ldiv, i_lrem, i_lneg, i_lshl, i_lcmp, i_i2l, i_l2i, i_i2b, i_i2s, i_ifeq, i_ifne, i_iflt, i_ifge, i_ifgt, i_ifle, i_cmpeq, i_cmpne, i_cmplt, i_cmpge, i_cmpgt, i_cmple, i_acmpeq, i_acmpne, i_ifnull, i_ifnonnull, i_getI, i_getR, i_putI, i_putZ, i_putR, i_ald, i_ldL, i_ldR, i_ast, i_stL, i_stR, i_alen, i_new, i_newa, i_iret, i_zret, i_lret, i_aret, i_vret, i_raise, i_throw, i_recv, i_objinit, i_tsw3, lget, lset, lput1, lput2, lkil, ltrim, largs, isL, takev, dropv, nthv, pushO, catv, gd, true_and, and_true, Option.some.injEq, Prod.mk.injEq, exists_eq_left', if_true, if_false, reduceCtorEq, Bool.false_eq_true, lcmp_ge, lcmp_lt, lcmp_le, lcmp_gt, lcmp_eq, true_or, or_true, not_true_eq_false, not_false_eq_true, false_implies, true_implies, List.length_cons, List.length_nil, o]
    repeat (first | refine ⟨in_small (by omega) (by omega), ?_⟩ | (show (_ → _) ∧ (_ → _); first | refine ⟨by omega, fun _ => ?_⟩ | refine ⟨fun _ => ?_, by omega⟩) | refine ⟨by omega, ?_⟩ | refine ⟨⟨_, rfl, by assumption⟩, ?_⟩ | refine ⟨okT_I _, ?_⟩ | refine call0 (gd_of rfl) ?_)
    refine mo_ans hI hW hN h1 rfl fun D' h3 h4 => ?_
    simp only [P_X16_without, i_kil, i_icon, i_lcon, i_null, i_loadI, i_loadL, i_loadR, i_istore, i_lstore, i_astore, i_iinc, i_dup, i_dup2, i_pop, i_iadd, i_isub, i_imul, i_idiv, i_irem, i_ineg, i_iand, i_ior, i_ishl, i_ishr, i_lxor, i_ladd, i_lsub, i_lmul, i_ldiv, i_lrem, i_lneg, i_lshl, i_lcmp, i_i2l, i_l2i, i_i2b, i_i2s, i_ifeq, i_ifne, i_iflt, i_ifge, i_ifgt, i_ifle, i_cmpeq, i_cmpne, i_cmplt, i_cmpge, i_cmpgt, i_cmple, i_acmpeq, i_acmpne, i_ifnull, i_ifnonnull, i_getI, i_getR, i_putI, i_putZ, i_putR, i_ald, i_ldL, i_ldR, i_ast, i_stL, i_stR, i_alen, i_new, i_newa, i_iret, i_zret, i_lret, i_aret, i_vret, i_raise, i_throw, i_recv, i_objinit, i_tsw3, lget, lset, lput1, lput2, lkil, ltrim, largs, isL, takev, dropv, nthv, pushO, catv, gd, true_and, and_true, Option.some.injEq, Prod.mk.injEq, exists_eq_left', if_true, if_false, reduceCtorEq, Bool.false_eq_true, lcmp_ge, lcmp_lt, lcmp_le, lcmp_gt, lcmp_eq, true_or, or_true, not_true_eq_false, not_false_eq_true, false_implies, true_implies, List.length_cons, List.length_nil]
    exact K D' _ _ h2 h3 h4
  refine wp_in ?_
  simp only [P_X16_without, i_kil, i_icon, i_lcon, i_null, i_loadI, i_loadL, i_loadR, i_istore, i_lstore, i_astore, i_iinc, i_dup, i_dup2, i_pop, i_iadd, i_isub, i_imul, i_idiv, i_irem, i_ineg, i_iand, i_ior, i_ishl, i_ishr, i_lxor, i_ladd, i_lsub, i_lmul, i_ldiv, i_lrem, i_lneg, i_lshl, i_lcmp, i_i2l, i_l2i, i_i2b, i_i2s, i_ifeq, i_ifne, i_iflt, i_ifge, i_ifgt, i_ifle, i_cmpeq, i_cmpne, i_cmplt, i_cmpge, i_cmpgt, i_cmple, i_acmpeq, i_acmpne, i_ifnull, i_ifnonnull, i_getI, i_getR, i_putI, i_putZ, i_putR, i_ald, i_ldL, i_ldR, i_ast, i_stL, i_stR, i_alen, i_new, i_newa, i_iret, i_zret, i_lret, i_aret, i_vret, i_raise, i_throw, i_recv, i_objinit, i_tsw3, lget, lset, lput1, lput2, lkil, ltrim, largs, isL, takev, dropv, nthv, pushO, catv, gd, true_and, and_true, Option.some.injEq, Prod.mk.injEq, exists_eq_left', if_true, if_false, reduceCtorEq, Bool.false_eq_true, lcmp_ge, lcmp_lt, lcmp_le, lcmp_gt, lcmp_eq, true_or, or_true, not_true_eq_false, not_false_eq_true, false_implies, true_implies, List.length_cons, List.length_nil, o]
  rcases hx : sSp s with _ | ⟨⟨c, g, d⟩, ⟨m, I⟩, st, σ⟩
  · rw [if_pos hx] at q44
    refine ⟨fun _ => ?_, fun w => absurd q44 w⟩
    refine wp_in ?_
    simp only [P_X16_without, i_kil, i_icon, i_lcon, i_null, i_loadI, i_loadL, i_loadR, i_istore, i_lstore, i_astore, i_iinc, i_dup, i_dup2, i_pop, i_iadd, i_isub, i_imul, i_idiv, i_irem, i_ineg, i_iand, i_ior, i_ishl, i_ishr, i_lxor, i_ladd, i_lsub, i_lmul, i_ldiv, i_lrem, i_lneg, i_lshl, i_lcmp, i_i2l, i_l2i, i_i2b, i_i2s, i_ifeq, i_ifne, i_iflt, i_ifge, i_ifgt, i_ifle, i_cmpeq, i_cmpne, i_cmplt, i_cmpge, i_cmpgt, i_cmple, i_acmpeq, i_acmpne, i_ifnull, i_ifnonnull, i_getI, i_getR, i_putI, i_putZ, i_putR, i_ald, i_ldL, i_ldR, i_ast, i_stL, i_stR, i_alen, i_new, i_newa, i_iret, i_zret, i_lret, i_aret, i_vret, i_raise, i_throw, i_recv, i_objinit, i_tsw3, lget, lset, lput1, lput2, lkil, ltrim, largs, isL, takev, dropv, nthv, pushO, catv, gd, true_and, and_true, Option.some.injEq, Prod.mk.injEq, exists_eq_left', if_true, if_false, reduceCtorEq, Bool.false_eq_true, lcmp_ge, lcmp_lt, lcmp_le, lcmp_gt, lcmp_eq, true_or, or_true, not_true_eq_false, not_false_eq_true, false_implies, true_implies, List.length_cons, List.length_nil, o]
    exact ⟨fun w => absurd q44 w, fun _ => two 7 (by decide) (.inl ⟨hx, rfl, rfl⟩)⟩
  · rw [if_neg (by rw [hx]; exact fun z => nomatch z)] at q44
    obtain ⟨e45, e46, e47, e48, n, tc, hE⟩ := qs c g d m I st σ hx
    have hmt := hI.1.mt
    have good : ∀ nn : Nat, nn = 1 ∨ nn = 2 → x = nn → Wp P_X16_without E 3 [some (aR M), some (aI x)] [] B S D := fun nn hn e => by
      subst e
      refine wp_in ?_
      simp only [P_X16_without, i_kil, i_icon, i_lcon, i_null, i_loadI, i_loadL, i_loadR, i_istore, i_lstore, i_astore, i_iinc, i_dup, i_dup2, i_pop, i_iadd, i_isub, i_imul, i_idiv, i_irem, i_ineg, i_iand, i_ior, i_ishl, i_ishr, i_lxor, i_ladd, i_lsub, i_lmul, i_ldiv, i_lrem, i_lneg, i_lshl, i_lcmp, i_i2l, i_l2i, i_i2b, i_i2s, i_ifeq, i_ifne, i_iflt, i_ifge, i_ifgt, i_ifle, i_cmpeq, i_cmpne, i_cmplt, i_cmpge, i_cmpgt, i_cmple, i_acmpeq, i_acmpne, i_ifnull, i_ifnonnull, i_getI, i_getR, i_putI, i_putZ, i_putR, i_ald, i_ldL, i_ldR, i_ast, i_stL, i_stR, i_alen, i_new, i_newa, i_iret, i_zret, i_lret, i_aret, i_vret, i_raise, i_throw, i_recv, i_objinit, i_tsw3, lget, lset, lput1, lput2, lkil, ltrim, largs, isL, takev, dropv, nthv, pushO, catv, gd, true_and, and_true, Option.some.injEq, Prod.mk.injEq, exists_eq_left', if_true, if_false, reduceCtorEq, Bool.false_eq_true, lcmp_ge, lcmp_lt, lcmp_le, lcmp_gt, lcmp_eq, true_or, or_true, not_true_eq_false, not_false_eq_true, false_implies, true_implies, List.length_cons, List.length_nil]
      refine sp_X16_without4 (nn := nn) hmt hE hn fun r hr => ?_
      exact K D _ _ (.inr ⟨_, _, _, _, hx, .inr ⟨by omega, rfl, r, hr, rfl⟩⟩) hI mO.rfl
    refine ⟨fun w => by omega, fun _ => ⟨fun w => good 1 (.inl rfl) w, fun w => ⟨fun w2 => good 2 (.inr rfl) w2, fun w2 => ?_⟩⟩⟩
    refine wp_in ?_
    simp only [P_X16_without, i_kil, i_icon, i_lcon, i_null, i_loadI, i_loadL, i_loadR, i_istore, i_lstore, i_astore, i_iinc, i_dup, i_dup2, i_pop, i_iadd, i_isub, i_imul, i_idiv, i_irem, i_ineg, i_iand, i_ior, i_ishl, i_ishr, i_lxor, i_ladd, i_lsub, i_lmul, i_ldiv, i_lrem, i_lneg, i_lshl, i_lcmp, i_i2l, i_l2i, i_i2b, i_i2s, i_ifeq, i_ifne, i_iflt, i_ifge, i_ifgt, i_ifle, i_cmpeq, i_cmpne, i_cmplt, i_cmpge, i_cmpgt, i_cmple, i_acmpeq, i_acmpne, i_ifnull, i_ifnonnull, i_getI, i_getR, i_putI, i_putZ, i_putR, i_ald, i_ldL, i_ldR, i_ast, i_stL, i_stR, i_alen, i_new, i_newa, i_iret, i_zret, i_lret, i_aret, i_vret, i_raise, i_throw, i_recv, i_objinit, i_tsw3, lget, lset, lput1, lput2, lkil, ltrim, largs, isL, takev, dropv, nthv, pushO, catv, gd, true_and, and_true, Option.some.injEq, Prod.mk.injEq, exists_eq_left', if_true, if_false, reduceCtorEq, Bool.false_eq_true, lcmp_ge, lcmp_lt, lcmp_le, lcmp_gt, lcmp_eq, true_or, or_true, not_true_eq_false, not_false_eq_true, false_implies, true_implies, List.length_cons, List.length_nil, o]
    exact ⟨fun _ => two 6 (by decide) (.inr ⟨_, _, _, _, hx, .inl ⟨by omega, rfl, rfl⟩⟩), fun w => by omega⟩
end MSN
