/-! the model's calls: roots -/
-- needs: eh.mnarr
set_option maxRecDepth 100000
set_option linter.unusedVariables false
section MRS
variable {M N : Nat} {S : Stat} {s : Cst}
theorem uniR.beyond {φ : Nat → Rat} {g : Nat → Int} {d : Nat} (h : uniR φ g d) : ∀ k, d < k → g k = 0 := fun k hk => h.2.2 k fun t ht h0 e => by
  rcases degI_law (φ := φ) 455 with ⟨y1, y2⟩ | ⟨y1, y2⟩
  · exact h0 (y2 t ht)
  · have := y2 t ht h0
    have := h.1
    omega
set_option maxHeartbeats 4000000 in
theorem mo_roots {E : Ex} {B : Nat × Nat} {D : Dat} {x : Int} (hI : moI S D M s) (hW : crW N s) (hN : N < 1000) (K : mK E B S D M (oRoots x s)) : Wp P_X16_roots E 0 [some (aR M), some (aI x)] [] B S D := by
  have o := hI.1.o
  obtain ⟨c1, c2, c3⟩ := hI.1.h13
  have hmr := hI.1.mr
  obtain ⟨hmh, hms, ⟨p83, p83'⟩, -, -, r85, r85n, r86, r86', -, -, -, -, t6, t7⟩ := hI.1.mr
  obtain ⟨r85', r85k⟩ := r85n
  have hle := lkN_le s x 1
  refine wp_in ?_
  simp only [P_X16_roots, i_kil, i_icon, i_lcon, i_null, i_loadI, i_loadL, i_loadR, i_istore, i_lstore, i_astore, i_iinc, i_dup, i_dup2, i_pop, i_iadd, i_isub, i_imul, i_idiv, i_irem, i_ineg, i_iand, i_ior, i_ishl, i_ishr, i_lxor, i_ladd, i_lsub, i_lmul, i_ldiv, i_lrem, i_lneg, i_lshl, i_lcmp, i_i2l, i_l2i, i_i2b, i_i2s, i_ifeq, i_ifne, i_iflt, i_ifge, i_ifgt, i_ifle, i_cmpeq, i_cmpne, i_cmplt, i_cmpge, i_cmpgt, i_cmple, i_acmpeq, i_acmpne, i_ifnull, i_ifnonnull, i_getI, i_getR, i_putI, i_putZ, i_putR, i_ald, i_ldL, i_ldR, i_ast, i_stL, i_stR, i_alen, i_new, i_newa, i_iret, i_zret, i_lret, i_aret, i_vret, i_raise, i_throw, i_recv, i_objinit, i_tsw3, lget, lset, lput1, lput2, lkil, ltrim, largs, isL, takev, dropv, nthv, pushO, catv, gd, true_and, and_true, Option.some.injEq, Prod.mk.injEq, exists_eq_left', if_true, if_false, reduceCtorEq, Bool.false_eq_true, lcmp_ge, lcmp_lt, lcmp_le, lcmp_gt, lcmp_eq, true_or, or_true, not_true_eq_false, not_false_eq_true, false_implies, true_implies, List.length_cons, List.length_nil, o]
  repeat (first | refine ⟨in_small (by omega) (by omega), ?_⟩ | (show (_ → _) ∧ (_ → _); first | refine ⟨by omega, fun _ => ?_⟩ | refine ⟨fun _ => ?_, by omega⟩) | refine ⟨by omega, ?_⟩ | refine ⟨⟨_, rfl, by assumption⟩, ?_⟩ | refine ⟨okT_I _, ?_⟩ | refine call0 (gd_of rfl) ?_)
  refine mo_look (k := 1) hI rfl ?_
  simp only [P_X16_roots, i_kil, i_icon, i_lcon, i_null, i_loadI, i_loadL, i_loadR, i_istore, i_lstore, i_astore, i_iinc, i_dup, i_dup2, i_pop, i_iadd, i_isub, i_imul, i_idiv, i_irem, i_ineg, i_iand, i_ior, i_ishl, i_ishr, i_lxor, i_ladd, i_lsub, i_lmul, i_ldiv, i_lrem, i_lneg, i_lshl, i_lcmp, i_i2l, i_l2i, i_i2b, i_i2s, i_ifeq, i_ifne, i_iflt, i_ifge, i_ifgt, i_ifle, i_cmpeq, i_cmpne, i_cmplt, i_cmpge, i_cmpgt, i_cmple, i_acmpeq, i_acmpne, i_ifnull, i_ifnonnull, i_getI, i_getR, i_putI, i_putZ, i_putR, i_ald, i_ldL, i_ldR, i_ast, i_stL, i_stR, i_alen, i_new, i_newa, i_iret, i_zret, i_lret, i_aret, i_vret, i_raise, i_throw, i_recv, i_objinit, i_tsw3, lget, lset, lput1, lput2, lkil, ltrim, largs, isL, takev, dropv, nthv, pushO, catv, gd, true_and, and_true, Option.some.injEq, Prod.mk.injEq, exists_eq_left', if_true, if_false, reduceCtorEq, Bool.false_eq_true, lcmp_ge, lcmp_lt, lcmp_le, lcmp_gt, lcmp_eq, true_or, or_true, not_true_eq_false, not_false_eq_true, false_implies, true_implies, List.length_cons, List.length_nil, o, c1, c2]
  refine ⟨fun w => ?_, fun w => ?_⟩
  · have h0 : lkN s x 1 = 0 := by omega
    obtain ⟨p, φ, hp, hp16, ht⟩ := lk1 h0
    subst hp
    obtain ⟨p1, p2, p3, p4⟩ := hI.poly hp16 ht
    obtain ⟨n, e, hn⟩ := p1
    have hcn := hn.cnt
    have hc : D (M + 12195 + 244 * p) 0 = (n : Int) := hn.2.1
    repeat (first | refine ⟨in_small (by omega) (by omega), ?_⟩ | (show (_ → _) ∧ (_ → _); first | refine ⟨by omega, fun _ => ?_⟩ | refine ⟨fun _ => ?_, by omega⟩) | refine ⟨by omega, ?_⟩ | refine ⟨⟨_, rfl, by assumption⟩, ?_⟩ | refine ⟨okT_I _, ?_⟩ | refine call0 (gd_of rfl) ?_)
    simp only [p2]
    simp only [P_X16_roots, i_kil, i_icon, i_lcon, i_null, i_loadI, i_loadL, i_loadR, i_istore, i_lstore, i_astore, i_iinc, i_dup, i_dup2, i_pop, i_iadd, i_isub, i_imul, i_idiv, i_irem, i_ineg, i_iand, i_ior, i_ishl, i_ishr, i_lxor, i_ladd, i_lsub, i_lmul, i_ldiv, i_lrem, i_lneg, i_lshl, i_lcmp, i_i2l, i_l2i, i_i2b, i_i2s, i_ifeq, i_ifne, i_iflt, i_ifge, i_ifgt, i_ifle, i_cmpeq, i_cmpne, i_cmplt, i_cmpge, i_cmpgt, i_cmple, i_acmpeq, i_acmpne, i_ifnull, i_ifnonnull, i_getI, i_getR, i_putI, i_putZ, i_putR, i_ald, i_ldL, i_ldR, i_ast, i_stL, i_stR, i_alen, i_new, i_newa, i_iret, i_zret, i_lret, i_aret, i_vret, i_raise, i_throw, i_recv, i_objinit, i_tsw3, lget, lset, lput1, lput2, lkil, ltrim, largs, isL, takev, dropv, nthv, pushO, catv, gd, true_and, and_true, Option.some.injEq, Prod.mk.injEq, exists_eq_left', if_true, if_false, reduceCtorEq, Bool.false_eq_true, lcmp_ge, lcmp_lt, lcmp_le, lcmp_gt, lcmp_eq, true_or, or_true, not_true_eq_false, not_false_eq_true, false_implies, true_implies, List.length_cons, List.length_nil, p4, hc]
    refine ⟨fun hz => ?_, fun hz => ?_⟩
    · repeat (first | refine ⟨in_small (by omega) (by omega), ?_⟩ | (show (_ → _) ∧ (_ → _); first | refine ⟨by omega, fun _ => ?_⟩ | refine ⟨fun _ => ?_, by omega⟩) | refine ⟨by omega, ?_⟩ | refine ⟨⟨_, rfl, by assumption⟩, ?_⟩ | refine ⟨okT_I _, ?_⟩ | refine call0 (gd_of rfl) ?_)
      refine sp_X16_isUni o ⟨p83, p83'⟩ p3 hn (by omega) (by omega) (by omega) (fun D1 u1 u2 => ?_) fun D1 g d u1 u2 u3 u4 u5 u6 u7 => ?_
      · simp only [P_X16_roots, i_kil, i_icon, i_lcon, i_null, i_loadI, i_loadL, i_loadR, i_istore, i_lstore, i_astore, i_iinc, i_dup, i_dup2, i_pop, i_iadd, i_isub, i_imul, i_idiv, i_irem, i_ineg, i_iand, i_ior, i_ishl, i_ishr, i_lxor, i_ladd, i_lsub, i_lmul, i_ldiv, i_lrem, i_lneg, i_lshl, i_lcmp, i_i2l, i_l2i, i_i2b, i_i2s, i_ifeq, i_ifne, i_iflt, i_ifge, i_ifgt, i_ifle, i_cmpeq, i_cmpne, i_cmplt, i_cmpge, i_cmpgt, i_cmple, i_acmpeq, i_acmpne, i_ifnull, i_ifnonnull, i_getI, i_getR, i_putI, i_putZ, i_putR, i_ald, i_ldL, i_ldR, i_ast, i_stL, i_stR, i_alen, i_new, i_newa, i_iret, i_zret, i_lret, i_aret, i_vret, i_raise, i_throw, i_recv, i_objinit, i_tsw3, lget, lset, lput1, lput2, lkil, ltrim, largs, isL, takev, dropv, nthv, pushO, catv, gd, true_and, and_true, Option.some.injEq, Prod.mk.injEq, exists_eq_left', if_true, if_false, reduceCtorEq, Bool.false_eq_true, lcmp_ge, lcmp_lt, lcmp_le, lcmp_gt, lcmp_eq, true_or, or_true, not_true_eq_false, not_false_eq_true, false_implies, true_implies, List.length_cons, List.length_nil, o]
        obtain ⟨hI1, F1⟩ := hI.scr (D' := D1) hW (fun c i h1 h2 => by
          unfold sK at h1
          rcases Nat.decEq c M with q | q
          · exact u2.1 c i (by omega) q
          · subst q; exact u2.2 i (h2 rfl).2) (hI.sm.cgr fun c i h => by unfold pSm at h; exact u2.1 c i (by omega) (by omega))
        repeat (first | refine ⟨in_small (by omega) (by omega), ?_⟩ | (show (_ → _) ∧ (_ → _); first | refine ⟨by omega, fun _ => ?_⟩ | refine ⟨fun _ => ?_, by omega⟩) | refine ⟨by omega, ?_⟩ | refine ⟨⟨_, rfl, by assumption⟩, ?_⟩ | refine ⟨okT_I _, ?_⟩ | refine call0 (gd_of rfl) ?_)
        refine mo_ans hI1 hW hN (k := 6) (by decide) rfl fun D' h1 h2 => ?_
        simp only [P_X16_roots, i_kil, i_icon, i_lcon, i_null, i_loadI, i_loadL, i_loadR, i_istore, i_lstore, i_astore, i_iinc, i_dup, i_dup2, i_pop, i_iadd, i_isub, i_imul, i_idiv, i_irem, i_ineg, i_iand, i_ior, i_ishl, i_ishr, i_lxor, i_ladd, i_lsub, i_lmul, i_ldiv, i_lrem, i_lneg, i_lshl, i_lcmp, i_i2l, i_l2i, i_i2b, i_i2s, i_ifeq, i_ifne, i_iflt, i_ifge, i_ifgt, i_ifle, i_cmpeq, i_cmpne, i_cmplt, i_cmpge, i_cmpgt, i_cmple, i_acmpeq, i_acmpne, i_ifnull, i_ifnonnull, i_getI, i_getR, i_putI, i_putZ, i_putR, i_ald, i_ldL, i_ldR, i_ast, i_stL, i_stR, i_alen, i_new, i_newa, i_iret, i_zret, i_lret, i_aret, i_vret, i_raise, i_throw, i_recv, i_objinit, i_tsw3, lget, lset, lput1, lput2, lkil, ltrim, largs, isL, takev, dropv, nthv, pushO, catv, gd, true_and, and_true, Option.some.injEq, Prod.mk.injEq, exists_eq_left', if_true, if_false, reduceCtorEq, Bool.false_eq_true, lcmp_ge, lcmp_lt, lcmp_le, lcmp_gt, lcmp_eq, true_or, or_true, not_true_eq_false, not_false_eq_true, false_implies, true_implies, List.length_cons, List.length_nil]
        exact K D' _ _ (rR_q h0 ⟨φ, ht, .inr (.inl ⟨by omega, u1, rfl, rfl⟩)⟩) h1 (F1.tr h2)
      · have hg0 : ∀ k, d < k → g k = 0 := u2.beyond
        have k1 : ∀ c i, c ≠ M + 11307 → (c ≠ M ∨ i ≠ 84) → D1 c i = D c i := fun c i h1 h2 => by
          rcases Nat.decEq c M with q | q
          · exact u6.1 c i h1 q
          · subst q; exact u6.2 i (by omega)
        have e84 : pmu (pmu D1 M 77 1) M 72 0 M 84 = (d : Int) := by rw [pmu_ne (by omega), pmu_ne (by omega)]; exact u7.1
        simp only [P_X16_roots, i_kil, i_icon, i_lcon, i_null, i_loadI, i_loadL, i_loadR, i_istore, i_lstore, i_astore, i_iinc, i_dup, i_dup2, i_pop, i_iadd, i_isub, i_imul, i_idiv, i_irem, i_ineg, i_iand, i_ior, i_ishl, i_ishr, i_lxor, i_ladd, i_lsub, i_lmul, i_ldiv, i_lrem, i_lneg, i_lshl, i_lcmp, i_i2l, i_l2i, i_i2b, i_i2s, i_ifeq, i_ifne, i_iflt, i_ifge, i_ifgt, i_ifle, i_cmpeq, i_cmpne, i_cmplt, i_cmpge, i_cmpgt, i_cmple, i_acmpeq, i_acmpne, i_ifnull, i_ifnonnull, i_getI, i_getR, i_putI, i_putZ, i_putR, i_ald, i_ldL, i_ldR, i_ast, i_stL, i_stR, i_alen, i_new, i_newa, i_iret, i_zret, i_lret, i_aret, i_vret, i_raise, i_throw, i_recv, i_objinit, i_tsw3, lget, lset, lput1, lput2, lkil, ltrim, largs, isL, takev, dropv, nthv, pushO, catv, gd, true_and, and_true, Option.some.injEq, Prod.mk.injEq, exists_eq_left', if_true, if_false, reduceCtorEq, Bool.false_eq_true, lcmp_ge, lcmp_lt, lcmp_le, lcmp_gt, lcmp_eq, true_or, or_true, not_true_eq_false, not_false_eq_true, false_implies, true_implies, List.length_cons, List.length_nil, o, e84]
        refine ⟨fun _ => ?_, fun z => absurd z (by decide)⟩
        let D2 := pmu (pmu D1 M 77 1) M 72 0
        have k2 : ∀ c i, (c ≠ M ∨ (i ≠ 77 ∧ i ≠ 72)) → D2 c i = D1 c i := fun c i h => by
          show pmu _ _ _ _ c i = _
          rw [pmu_ne (by omega), pmu_ne (by omega)]
        have h77 : D2 M 77 = 1 := by
          show pmu _ _ _ _ _ _ = _
          rw [pmu_ne (by omega), pmu_eq]
        have h72 : D2 M 72 = 0 := by
          show pmu _ _ _ _ _ _ = _
          rw [pmu_eq]
        refine ⟨fun hd0 => ?_, fun hd0 => ?_⟩
        · have hd1 : 1 ≤ d := by omega
          repeat (first | refine ⟨in_small (by omega) (by omega), ?_⟩ | (show (_ → _) ∧ (_ → _); first | refine ⟨by omega, fun _ => ?_⟩ | refine ⟨fun _ => ?_, by omega⟩) | refine ⟨by omega, ?_⟩ | refine ⟨⟨_, rfl, by assumption⟩, ?_⟩ | refine ⟨okT_I _, ?_⟩ | refine call0 (gd_of rfl) ?_)
          refine sp_X16_makeSimple (f := g) (d := d) hmh ⟨p83, p83'⟩ ⟨(k2 _ _ (by omega)).trans u7.1, fun k hk => (k2 _ _ (by omega)).trans (u7.2 k hk)⟩ u3 hd1 u4 (fun k _ => u5 k) fun D3 sm a m1 m2 m3 m4 m5 m6 m7 m8 => ?_
          simp only [P_X16_roots, i_kil, i_icon, i_lcon, i_null, i_loadI, i_loadL, i_loadR, i_istore, i_lstore, i_astore, i_iinc, i_dup, i_dup2, i_pop, i_iadd, i_isub, i_imul, i_idiv, i_irem, i_ineg, i_iand, i_ior, i_ishl, i_ishr, i_lxor, i_ladd, i_lsub, i_lmul, i_ldiv, i_lrem, i_lneg, i_lshl, i_lcmp, i_i2l, i_l2i, i_i2b, i_i2s, i_ifeq, i_ifne, i_iflt, i_ifge, i_ifgt, i_ifle, i_cmpeq, i_cmpne, i_cmplt, i_cmpge, i_cmpgt, i_cmple, i_acmpeq, i_acmpne, i_ifnull, i_ifnonnull, i_getI, i_getR, i_putI, i_putZ, i_putR, i_ald, i_ldL, i_ldR, i_ast, i_stL, i_stR, i_alen, i_new, i_newa, i_iret, i_zret, i_lret, i_aret, i_vret, i_raise, i_throw, i_recv, i_objinit, i_tsw3, lget, lset, lput1, lput2, lkil, ltrim, largs, isL, takev, dropv, nthv, pushO, catv, gd, true_and, and_true, Option.some.injEq, Prod.mk.injEq, exists_eq_left', if_true, if_false, reduceCtorEq, Bool.false_eq_true, lcmp_ge, lcmp_lt, lcmp_le, lcmp_gt, lcmp_eq, true_or, or_true, not_true_eq_false, not_false_eq_true, false_implies, true_implies, List.length_cons, List.length_nil]
          let sm' : Nat → Int := fun k => if k ≤ a then sm k else 0
          have hsm' : ∀ k, k ≤ a → sm' k = sm k := fun k hk => if_pos hk
          have hzp : ∀ y, zp sm' (a + 1) y = zp sm (a + 1) y := zp_congr fun k hk => hsm' k (by omega)
          have hsW : smW (g, d) sm' a := by
            refine ⟨m2, m3, by rw [hsm' a (by omega)]; exact m4, fun k hk => if_neg (by omega), ?_, fun k hk => by rw [hsm' k hk]; exact m7 k hk, fun e8 k hk => by rw [hsm' k hk]; exact m8 e8 k hk⟩
            have : zp sm' (a + 1) = zp sm (a + 1) := funext hzp
            rw [this]; exact m6
          have k3 : ∀ c i, ¬ sK M c → (c ≠ M ∨ (i ≠ 70 ∧ i ≠ 84 ∧ i ≠ 77 ∧ i ≠ 72)) → D3 c i = D c i := fun c i h1 h2 => by
            unfold sK at h1
            rcases Nat.decEq c M with q | q
            · exact (m1.1 c i (by omega) (by omega) (by omega) (by omega)).trans ((k2 c i (by omega)).trans (k1 c i (by omega) (by omega)))
            · subst q
              exact (m1.2 i (by omega) (by omega)).trans ((k2 c i (by omega)).trans (k1 c i (by omega) (by omega)))
          have h77' : D3 M 77 = 1 := by rw [m1.2 77 (by decide) (by decide)]; exact h77
          have h72' : D3 M 72 = 0 := by rw [m1.2 72 (by decide) (by decide)]; exact h72
          have k3s : ∀ c i, pSm M c i → D3 c i = D c i := fun c i h => by
            unfold pSm at h
            exact (m1.1 c i (by omega) (by omega) (by omega) (by omega)).trans ((k2 c i (by omega)).trans (k1 c i (by omega) (by omega)))
          have loop : ∀ (L i : Nat) (D4 : Dat), i + L = 9 → (∀ c z, c ≠ M + 11296 → D4 c z = D3 c z) → (∀ z : Nat, z < i → D4 (M + 11296) z = sm' z) → Wp P_X16_roots E 1 [some (aR M), none, none, some (aI (i : Int))] [] B S D4 := by
            intro L
            induction L with
            | zero =>
              intro i D4 hi h7 h8
              have : i = 9 := by omega
              subst this
              have p84 : D4 M 84 = (a : Int) := by rw [h7 _ _ (by omega)]; exact m5.1
              have z84 : pmu D4 M 76 (a : Int) M 84 = (a : Int) := by rw [pmu_ne (by omega)]; exact p84
              refine wp_in ?_
              simp only [P_X16_roots, i_kil, i_icon, i_lcon, i_null, i_loadI, i_loadL, i_loadR, i_istore, i_lstore, i_astore, i_iinc, i_dup, i_dup2, i_pop, i_iadd, i_isub, i_imul, i_idiv, i_irem, i_ineg, i_iand, i_ior, i_ishl, i_ishr, i_lxor, i_ladd, i_lsub, i_lmul, i_ldiv, i_lrem, i_lneg, i_lshl, i_lcmp, i_i2l, i_l2i, i_i2b, i_i2s, i_ifeq, i_ifne, i_iflt, i_ifge, i_ifgt, i_ifle, i_cmpeq, i_cmpne, i_cmplt, i_cmpge, i_cmpgt, i_cmple, i_acmpeq, i_acmpne, i_ifnull, i_ifnonnull, i_getI, i_getR, i_putI, i_putZ, i_putR, i_ald, i_ldL, i_ldR, i_ast, i_stL, i_stR, i_alen, i_new, i_newa, i_iret, i_zret, i_lret, i_aret, i_vret, i_raise, i_throw, i_recv, i_objinit, i_tsw3, lget, lset, lput1, lput2, lkil, ltrim, largs, isL, takev, dropv, nthv, pushO, catv, gd, true_and, and_true, Option.some.injEq, Prod.mk.injEq, exists_eq_left', if_true, if_false, reduceCtorEq, Bool.false_eq_true, lcmp_ge, lcmp_lt, lcmp_le, lcmp_gt, lcmp_eq, true_or, or_true, not_true_eq_false, not_false_eq_true, false_implies, true_implies, List.length_cons, List.length_nil, o, p84, z84, p83]
              refine ⟨fun _ => ?_, fun q => absurd q (by decide)⟩
              repeat (first | refine ⟨in_small (by omega) (by omega), ?_⟩ | (show (_ → _) ∧ (_ → _); first | refine ⟨by omega, fun _ => ?_⟩ | refine ⟨fun _ => ?_, by omega⟩) | refine ⟨by omega, ?_⟩ | refine ⟨⟨_, rfl, by assumption⟩, ?_⟩ | refine ⟨okT_I _, ?_⟩ | refine call0 (gd_of rfl) ?_)
              refine sp_X16_plainChain (f := sm') (d := a) (nL := 9) hmh p83' (by omega) (by omega) (by omega) rfl (by omega) m2 (fun k hk => by
                rw [pmu_ne (by omega), h7 _ _ (by omega), m5.2 k (by omega), if_pos hk, hsm' k hk]) (fun k hk => by rw [hsm' k hk]; exact Nat.le_trans (m7 k hk) (by decide)) (by rw [hsm' a (by omega)]; exact m4) fun D5 F nn mm v1 v2 v3 v4 => ?_
              have hB := mB_of (M := M) hsW u3 v2 v4
              have hgd : gdN (nR (zp g (d + 1))) := gdN_of u3 hd1 u4 (fun k _ => u5 k) (mG_pc v4 m2 (by rw [hsm' a (by omega)]; exact m4)) hsW.2.2.2.2.1
              obtain ⟨s1, s2⟩ := r85k 0 (by decide)
              have s3 := s2.1
              simp only [P_X16_roots, i_kil, i_icon, i_lcon, i_null, i_loadI, i_loadL, i_loadR, i_istore, i_lstore, i_astore, i_iinc, i_dup, i_dup2, i_pop, i_iadd, i_isub, i_imul, i_idiv, i_irem, i_ineg, i_iand, i_ior, i_ishl, i_ishr, i_lxor, i_ladd, i_lsub, i_lmul, i_ldiv, i_lrem, i_lneg, i_lshl, i_lcmp, i_i2l, i_l2i, i_i2b, i_i2s, i_ifeq, i_ifne, i_iflt, i_ifge, i_ifgt, i_ifle, i_cmpeq, i_cmpne, i_cmplt, i_cmpge, i_cmpgt, i_cmple, i_acmpeq, i_acmpne, i_ifnull, i_ifnonnull, i_getI, i_getR, i_putI, i_putZ, i_putR, i_ald, i_ldL, i_ldR, i_ast, i_stL, i_stR, i_alen, i_new, i_newa, i_iret, i_zret, i_lret, i_aret, i_vret, i_raise, i_throw, i_recv, i_objinit, i_tsw3, lget, lset, lput1, lput2, lkil, ltrim, largs, isL, takev, dropv, nthv, pushO, catv, gd, true_and, and_true, Option.some.injEq, Prod.mk.injEq, exists_eq_left', if_true, if_false, reduceCtorEq, Bool.false_eq_true, lcmp_ge, lcmp_lt, lcmp_le, lcmp_gt, lcmp_eq, true_or, or_true, not_true_eq_false, not_false_eq_true, false_implies, true_implies, List.length_cons, List.length_nil, o, r85, r85', r86, r86']
              repeat (first | refine ⟨in_small (by omega) (by omega), ?_⟩ | (show (_ → _) ∧ (_ → _); first | refine ⟨by omega, fun _ => ?_⟩ | refine ⟨fun _ => ?_, by omega⟩) | refine ⟨by omega, ?_⟩ | refine ⟨⟨_, rfl, by assumption⟩, ?_⟩ | refine ⟨okT_I _, ?_⟩ | refine call0 (gd_of rfl) ?_)
              have s1' : S.2.1 (M + 11308) 0 = some (M + 11309) := s1
              rw [s1']
              refine ⟨⟨_, rfl, s3⟩, call0 (gd_of rfl) ?_⟩
              refine sp_X17_set (w := M + 11309) (v := -1) s2 (by decide) (by decide) (by decide) fun D6 v5 v6 => ?_
              simp only [P_X16_roots, i_kil, i_icon, i_lcon, i_null, i_loadI, i_loadL, i_loadR, i_istore, i_lstore, i_astore, i_iinc, i_dup, i_dup2, i_pop, i_iadd, i_isub, i_imul, i_idiv, i_irem, i_ineg, i_iand, i_ior, i_ishl, i_ishr, i_lxor, i_ladd, i_lsub, i_lmul, i_ldiv, i_lrem, i_lneg, i_lshl, i_lcmp, i_i2l, i_l2i, i_i2b, i_i2s, i_ifeq, i_ifne, i_iflt, i_ifge, i_ifgt, i_ifle, i_cmpeq, i_cmpne, i_cmplt, i_cmpge, i_cmpgt, i_cmple, i_acmpeq, i_acmpne, i_ifnull, i_ifnonnull, i_getI, i_getR, i_putI, i_putZ, i_putR, i_ald, i_ldL, i_ldR, i_ast, i_stL, i_stR, i_alen, i_new, i_newa, i_iret, i_zret, i_lret, i_aret, i_vret, i_raise, i_throw, i_recv, i_objinit, i_tsw3, lget, lset, lput1, lput2, lkil, ltrim, largs, isL, takev, dropv, nthv, pushO, catv, gd, true_and, and_true, Option.some.injEq, Prod.mk.injEq, exists_eq_left', if_true, if_false, reduceCtorEq, Bool.false_eq_true, lcmp_ge, lcmp_lt, lcmp_le, lcmp_gt, lcmp_eq, true_or, or_true, not_true_eq_false, not_false_eq_true, false_implies, true_implies, List.length_cons, List.length_nil, o, r86, r86']
              repeat (first | refine ⟨in_small (by omega) (by omega), ?_⟩ | (show (_ → _) ∧ (_ → _); first | refine ⟨by omega, fun _ => ?_⟩ | refine ⟨fun _ => ?_, by omega⟩) | refine ⟨by omega, ?_⟩ | refine ⟨⟨_, rfl, by assumption⟩, ?_⟩ | refine ⟨okT_I _, ?_⟩ | refine call0 (gd_of rfl) ?_)
              let D7 := pmu D6 (M + 12109) 0 0
              have k7 : ∀ c i, c ≠ M + 12109 → c ≠ M + 11309 → c ≠ M + 11310 → D7 c i = D5 c i := fun c i h1 h2 h3 => by
                show pmu _ _ _ _ c i = _
                rw [pmu_ne (by omega), v5 c i (by omega) (by omega)]
              have k7' : ∀ c i, (c < M ∨ M + 16 < c) → (c < M + 10781 ∨ M + 10788 < c) → (c < M + 10796 ∨ M + 11277 < c) → c ≠ M + 11309 → c ≠ M + 11310 → c ≠ M + 12109 → c ≠ M + 11296 → D7 c i = D3 c i := fun c i h1 h2 h3 h4 h5 h6 h9 => by
                rw [k7 c i h6 h4 h5, v1.1 c i h1 h2 h3, pmu_ne (by omega), h7 c i h9]
              have k7M : ∀ i, i ≠ 70 → i ≠ 76 → D7 M i = D3 M i := fun i h1 h2 => by
                rw [k7 M i (by omega) (by omega) (by omega), v1.2 i h1, pmu_ne (by omega), h7 M i (by omega)]
              refine mroots_loop (p := zp g (d + 1)) hmr hgd 390 0 0 0 D7 [] (by omega) (by omega) (by omega) (by omega) (by decide) ?_ ?_ ?_ ?_ ?_ fun D8 v7 v8 v9 => ?_
              · exact v6.cgr fun c i hc => pmu_ne (by
                  have hc : c = M + 11309 ∨ c = M + 11309 + 1 := hc
                  omega)
              · show pmu _ _ _ _ _ _ = _
                exact pmu_eq
              · obtain ⟨F', n', m', s', y1, y2, y3, y4, y5⟩ := hB
                refine ⟨F', n', m', s', y1, ⟨by rw [k7 M 70 (by omega) (by omega) (by omega)]; exact y2.1, fun r hr => ?_⟩, y3, y4, y5⟩
                obtain ⟨z1, z2, z3, z4⟩ := y2.2 r hr
                refine ⟨by rw [k7 _ _ (by omega) (by omega) (by omega)]; exact z1, z2, z3, fun k hk => (z4 k hk).cgr fun c i hc => k7 c i ?_ ?_ ?_⟩
                all_goals (unfold mcw at hc; omega)
              · refine ⟨?_, by decide, fun k y hy => nomatch hy⟩
                rw [k7M 72 (by decide) (by decide)]; exact h72'
              · have := hgd.2.2.1
                show ((0 : Nat) : Int) + _ ≤ 8
                omega
              · have hmL := v9
                rw [List.nil_append] at hmL
                have h72'' := hmL.1
                refine wp_in ?_
                simp only [P_X16_roots, i_kil, i_icon, i_lcon, i_null, i_loadI, i_loadL, i_loadR, i_istore, i_lstore, i_astore, i_iinc, i_dup, i_dup2, i_pop, i_iadd, i_isub, i_imul, i_idiv, i_irem, i_ineg, i_iand, i_ior, i_ishl, i_ishr, i_lxor, i_ladd, i_lsub, i_lmul, i_ldiv, i_lrem, i_lneg, i_lshl, i_lcmp, i_i2l, i_l2i, i_i2b, i_i2s, i_ifeq, i_ifne, i_iflt, i_ifge, i_ifgt, i_ifle, i_cmpeq, i_cmpne, i_cmplt, i_cmpge, i_cmpgt, i_cmple, i_acmpeq, i_acmpne, i_ifnull, i_ifnonnull, i_getI, i_getR, i_putI, i_putZ, i_putR, i_ald, i_ldL, i_ldR, i_ast, i_stL, i_stR, i_alen, i_new, i_newa, i_iret, i_zret, i_lret, i_aret, i_vret, i_raise, i_throw, i_recv, i_objinit, i_tsw3, lget, lset, lput1, lput2, lkil, ltrim, largs, isL, takev, dropv, nthv, pushO, catv, gd, true_and, and_true, Option.some.injEq, Prod.mk.injEq, exists_eq_left', if_true, if_false, reduceCtorEq, Bool.false_eq_true, lcmp_ge, lcmp_lt, lcmp_le, lcmp_gt, lcmp_eq, true_or, or_true, not_true_eq_false, not_false_eq_true, false_implies, true_implies, List.length_cons, List.length_nil, o, h72'']
                refine ⟨fun _ => ?_, fun q => absurd q (by decide)⟩
                have k8 : ∀ c i, ¬ sK M c → (c < M + 11279 ∨ M + 11296 < c) → (c ≠ M ∨ (i ≠ 70 ∧ i ≠ 84 ∧ i ≠ 77 ∧ i ≠ 72 ∧ i ≠ 76)) → D8 c i = D c i := fun c i h1 h2 h3 => by
                  have h1' := h1
                  unfold sK at h1'
                  rw [v7.1 c i (by omega) (by omega) (by omega) (by omega) (by omega) (by omega) (by omega) (by omega) (by omega)]
                  rcases Nat.decEq c M with q | q
                  · rw [k7' c i (by omega) (by omega) (by omega) (by omega) (by omega) (by omega) (by omega)]
                    exact k3 c i h1 (by omega)
                  · subst q
                    rw [k7M i (by omega) (by omega)]
                    exact k3 c i h1 (by omega)
                refine K D8 _ _ (rR_q h0 ⟨φ, ht, .inr (.inr ⟨by omega, u1, g, d, u2, .inr ⟨hd1, rfl, rfl⟩⟩)⟩) (hI.setRo hW (fun c i a1 a2 => ?_) ⟨?_, fun q L hL => ?_⟩ (hI.sm.cgr fun c i h => ?_)) fun c i hc => k8 c i (by unfold sK; omega) (by omega) (by omega)
                · unfold pK at a1
                  unfold pRo at a2
                  exact k8 c i (by unfold sK; omega) (by omega) (by omega)
                · rw [v7.1 M 77 (by omega) (by omega) (by omega) (by omega) (by omega) (by omega) (by omega) (by omega) (by omega), k7M 77 (by decide) (by decide), h77', if_neg (fun q => nomatch q)]
                · have hh : (((g, d), lv (nR (zp g (d + 1))) 390 0 0) : Rq × List (Nat × Int)) = (q, L) := Option.some.inj hL
                  have e1 : (g, d) = q := congrArg Prod.fst hh
                  have e2 : lv (nR (zp g (d + 1))) 390 0 0 = L := congrArg Prod.snd hh
                  subst e1; subst e2
                  refine ⟨hmL, fun _ => ⟨sm', a, hsW, ?_, fun k hk => ?_⟩⟩
                  · rw [v7.1 M 76 (by omega) (by omega) (by omega) (by omega) (by omega) (by omega) (by omega) (by omega) (by omega), k7 M 76 (by omega) (by omega) (by omega), v1.2 76 (by decide), pmu_eq]
                  · rw [v7.1 _ _ (by omega) (by omega) (by omega) (by omega) (by omega) (by omega) (by omega) (by omega) (by omega), k7 _ _ (by omega) (by omega) (by omega), v1.1 _ _ (by omega) (by omega) (by omega), pmu_ne (by omega)]
                    exact h8 k hk
                · have h' := h
                  unfold pSm at h'
                  rw [v7.1 c i (by omega) (by omega) (by omega) (by omega) (by omega) (by omega) (by omega) (by omega) (by omega), k7' c i (by omega) (by omega) (by omega) (by omega) (by omega) (by omega) (by omega)]
                  exact k3s c i h
            | succ L ih =>
              intro i D4 hi h7 h8
              refine wp_in ?_
              simp only [P_X16_roots, i_kil, i_icon, i_lcon, i_null, i_loadI, i_loadL, i_loadR, i_istore, i_lstore, i_astore, i_iinc, i_dup, i_dup2, i_pop, i_iadd, i_isub, i_imul, i_idiv, i_irem, i_ineg, i_iand, i_ior, i_ishl, i_ishr, i_lxor, i_ladd, i_lsub, i_lmul, i_ldiv, i_lrem, i_lneg, i_lshl, i_lcmp, i_i2l, i_l2i, i_i2b, i_i2s, i_ifeq, i_ifne, i_iflt, i_ifge, i_ifgt, i_ifle, i_cmpeq, i_cmpne, i_cmplt, i_cmpge, i_cmpgt, i_cmple, i_acmpeq, i_acmpne, i_ifnull, i_ifnonnull, i_getI, i_getR, i_putI, i_putZ, i_putR, i_ald, i_ldL, i_ldR, i_ast, i_stL, i_stR, i_alen, i_new, i_newa, i_iret, i_zret, i_lret, i_aret, i_vret, i_raise, i_throw, i_recv, i_objinit, i_tsw3, lget, lset, lput1, lput2, lkil, ltrim, largs, isL, takev, dropv, nthv, pushO, catv, gd, true_and, and_true, Option.some.injEq, Prod.mk.injEq, exists_eq_left', if_true, if_false, reduceCtorEq, Bool.false_eq_true, lcmp_ge, lcmp_lt, lcmp_le, lcmp_gt, lcmp_eq, true_or, or_true, not_true_eq_false, not_false_eq_true, false_implies, true_implies, List.length_cons, List.length_nil, o, t6, t7, p83, p83']
              refine ⟨fun q => by omega, fun _ => ?_⟩
              repeat (first | refine ⟨in_small (by omega) (by omega), ?_⟩ | (show (_ → _) ∧ (_ → _); first | refine ⟨by omega, fun _ => ?_⟩ | refine ⟨fun _ => ?_, by omega⟩) | refine ⟨by omega, ?_⟩ | refine ⟨⟨_, rfl, by assumption⟩, ?_⟩ | refine ⟨okT_I _, ?_⟩ | refine call0 (gd_of rfl) ?_)
              have ev : D4 (M + 11307) (i : Int) = sm' i := by
                rw [h7 _ _ (by omega), m5.2 i (by omega)]
              rw [ev]
              refine ih (i + 1) _ (by omega) (fun c z hc => ?_) fun z hz => ?_
              · rw [pmu_ne (by omega)]; exact h7 c z hc
              · rcases Nat.decEq z i with q | q
                · rw [pmu_ne (by omega)]; exact h8 z (by omega)
                · subst q; exact pmu_eq
          exact loop 9 0 D3 rfl (fun _ _ _ => rfl) fun z hz => absurd hz (Nat.not_lt_zero _)
        · have hd0' : d = 0 := by omega
          have kk : ∀ c i, ¬ sK M c → (c ≠ M ∨ (i ≠ 84 ∧ i ≠ 77 ∧ i ≠ 72)) → D2 c i = D c i := fun c i h1 h2 => by
            unfold sK at h1
            rw [k2 c i (by omega), k1 c i (by omega) (by omega)]
          refine K D2 _ _ (rR_q h0 ⟨φ, ht, .inr (.inr ⟨by omega, u1, g, d, u2, .inl ⟨hd0', rfl, rfl⟩⟩)⟩) (hI.setRo hW (fun c i a1 a2 => ?_) ⟨?_, fun q L hL => ?_⟩ (hI.sm.cgr fun c i h => ?_)) fun c i hc => kk c i (by unfold sK; omega) (by omega)
          · unfold pK at a1
            unfold pRo at a2
            exact kk c i (by unfold sK; omega) (by omega)
          · rw [h77, if_neg (fun q => nomatch q)]
          · have hh : (((g, 0), []) : Rq × List (Nat × Int)) = (q, L) := Option.some.inj hL
            have e2 : [] = L := congrArg Prod.snd hh
            subst e2
            exact ⟨⟨h72, by decide, fun k y hy => nomatch hy⟩, fun q => absurd rfl q⟩
          · unfold pSm at h
            rw [k2 c i (by omega), k1 c i (by omega) (by omega)]
    · repeat (first | refine ⟨in_small (by omega) (by omega), ?_⟩ | (show (_ → _) ∧ (_ → _); first | refine ⟨by omega, fun _ => ?_⟩ | refine ⟨fun _ => ?_, by omega⟩) | refine ⟨by omega, ?_⟩ | refine ⟨⟨_, rfl, by assumption⟩, ?_⟩ | refine ⟨okT_I _, ?_⟩ | refine call0 (gd_of rfl) ?_)
      refine mo_ans hI hW hN (k := 5) (by decide) rfl fun D' h1 h2 => ?_
      simp only [P_X16_roots, i_kil, i_icon, i_lcon, i_null, i_loadI, i_loadL, i_loadR, i_istore, i_lstore, i_astore, i_iinc, i_dup, i_dup2, i_pop, i_iadd, i_isub, i_imul, i_idiv, i_irem, i_ineg, i_iand, i_ior, i_ishl, i_ishr, i_lxor, i_ladd, i_lsub, i_lmul, i_ldiv, i_lrem, i_lneg, i_lshl, i_lcmp, i_i2l, i_l2i, i_i2b, i_i2s, i_ifeq, i_ifne, i_iflt, i_ifge, i_ifgt, i_ifle, i_cmpeq, i_cmpne, i_cmplt, i_cmpge, i_cmpgt, i_cmple, i_acmpeq, i_acmpne, i_ifnull, i_ifnonnull, i_getI, i_getR, i_putI, i_putZ, i_putR, i_ald, i_ldL, i_ldR, i_ast, i_stL, i_stR, i_alen, i_new, i_newa, i_iret, i_zret, i_lret, i_aret, i_vret, i_raise, i_throw, i_recv, i_objinit, i_tsw3, lget, lset, lput1, lput2, lkil, ltrim, largs, isL, takev, dropv, nthv, pushO, catv, gd, true_and, and_true, Option.some.injEq, Prod.mk.injEq, exists_eq_left', if_true, if_false, reduceCtorEq, Bool.false_eq_true, lcmp_ge, lcmp_lt, lcmp_le, lcmp_gt, lcmp_eq, true_or, or_true, not_true_eq_false, not_false_eq_true, false_implies, true_implies, List.length_cons, List.length_nil]
      exact K D' _ _ (rR_q h0 ⟨φ, ht, .inl ⟨by omega, rfl, rfl⟩⟩) h1 h2
  · repeat (first | refine ⟨in_small (by omega) (by omega), ?_⟩ | (show (_ → _) ∧ (_ → _); first | refine ⟨by omega, fun _ => ?_⟩ | refine ⟨fun _ => ?_, by omega⟩) | refine ⟨by omega, ?_⟩ | refine ⟨⟨_, rfl, by assumption⟩, ?_⟩ | refine ⟨okT_I _, ?_⟩ | refine call0 (gd_of rfl) ?_)
    refine mo_ans hI hW hN (k := lkN s x 1) (by omega) rfl fun D' h1 h2 => ?_
    simp only [P_X16_roots, i_kil, i_icon, i_lcon, i_null, i_loadI, i_loadL, i_loadR, i_istore, i_lstore, i_astore, i_iinc, i_dup, i_dup2, i_pop, i_iadd, i_isub, i_imul, i_idiv, i_irem, i_ineg, i_iand, i_ior, i_ishl, i_ishr, i_lxor, i_ladd, i_lsub, i_lmul, i_ldiv, i_lrem, i_lneg, i_lshl, i_lcmp, i_i2l, i_l2i, i_i2b, i_i2s, i_ifeq, i_ifne, i_iflt, i_ifge, i_ifgt, i_ifle, i_cmpeq, i_cmpne, i_cmplt, i_cmpge, i_cmpgt, i_cmple, i_acmpeq, i_acmpne, i_ifnull, i_ifnonnull, i_getI, i_getR, i_putI, i_putZ, i_putR, i_ald, i_ldL, i_ldR, i_ast, i_stL, i_stR, i_alen, i_new, i_newa, i_iret, i_zret, i_lret, i_aret, i_vret, i_raise, i_throw, i_recv, i_objinit, i_tsw3, lget, lset, lput1, lput2, lkil, ltrim, largs, isL, takev, dropv, nthv, pushO, catv, gd, true_and, and_true, Option.some.injEq, Prod.mk.injEq, exists_eq_left', if_true, if_false, reduceCtorEq, Bool.false_eq_true, lcmp_ge, lcmp_lt, lcmp_le, lcmp_gt, lcmp_eq, true_or, or_true, not_true_eq_false, not_false_eq_true, false_implies, true_implies, List.length_cons, List.length_nil]
    exact K D' _ _ (rR_f (by omega) rfl) h1 h2
end MRS
