/-! the component's calls: roots -/
-- needs: ft.cclosed ei.mroots
set_option maxRecDepth 100000
set_option linter.unusedVariables false
theorem uniR.lead {φ : Nat → Rat} {g : Nat → Int} {d : Nat} (h : uniR φ g d) (h0 : ∃ t, t < 455 ∧ φ t ≠ 0) : g d ≠ 0 := by
  rcases degI_law (φ := φ) 455 with ⟨y1, y2⟩ | ⟨⟨t, t1, t2, t3⟩, y2⟩
  · obtain ⟨t, t1, t2⟩ := h0
    exact absurd (y2 t t1) t2
  · have hd : tdg t = d := by have := h.1; omega
    rw [← hd, h.2.1 t t1 t2]
    intro q
    exact t2 (Rat.num_eq_zero.mp q)
/-- roots, and that they are good -/
def oRootsW (x : Int) (s s' : Cst) (v : Int) : Prop := oRoots x s s' v ∧ ∀ z, sRo s' = some z → roW z
section CRT
variable {S : Stat} {D : Dat} {C mn w N : Nat} {s : Cst} {lz : Nat → Option Nat} {own : Nat → Nat}
set_option maxHeartbeats 4000000 in
theorem co_roots {E : Ex} {B : Nat × Nat} {x : Int} (h : coJ S D C s lz own mn w) (hW : crW N s) (hN : N < 1000) (hB : 1000 ≤ B.1 ∧ 80000 ≤ B.2) (K : cK E S D C mn (oRootsW x s)) : Wp P_X0_roots E 0 [some (aR C), some (aI x)] [] B S D := by
  have o := h.fx.o
  have hf := h.fx.fl
  have hrt := h.fx.rt
  have hC := h.lzz.1
  have hw1 := h.mv.1
  obtain ⟨T1, T2⟩ := h.fx.T
  obtain ⟨q91, q92⟩ := h.fx.q9
  obtain ⟨r1, r2, r3, r4, r5, r6, r7, r8, r9, r10, r11, r12, r13, r14, r15, r16, r17, r18, r19, r20, r21, r22, r23, r24⟩ := id hrt
  obtain ⟨w1, w2, w3, w4, w5⟩ := id r15
  obtain ⟨u1, u2, u3⟩ := id w5
  have ch1 := r5.2.1
  obtain ⟨φm, hφm⟩ := h.sc.1
  have hfa : faS S C := ⟨hf.2.1, hf.2.2.1, fun k k1 k7 => hf.2.2.2.2.2 k k1 (by omega)⟩
  have hro : ∀ k, ∀ z, sRo (uFn s k) = some z → roW z := fun _ => hW.2.2.2.2.2.2.2.1
  have err : ∀ (kk : Nat) (B' : Nat × Nat) (S1 : Stat) (D1 : Dat) (lz1 : Nat → Option Nat) (own1 : Nat → Nat) (w1 : Nat), 1 ≤ kk ∧ kk ≤ 7 → coJ S1 D1 C s lz1 own1 mn w1 → cFr S D S1 D1 C → oRootsW x s (uFn s kk) (-(kk : Int)) → Wp P_X0_roots E 4 [some (aR C)] [.inr (.inr (some (C + 727 + kk)))] B' S1 D1 := fun kk B' S1 D1 lz1 own1 w1 e1 e2 e3 e4 => by
    have o := e2.fx.o
    refine wp_in ?_
    simp only [P_X0_roots, i_kil, i_icon, i_lcon, i_null, i_loadI, i_loadL, i_loadR, i_istore, i_lstore, i_astore, i_iinc, i_dup, i_dup2, i_pop, i_iadd, i_isub, i_imul, i_idiv, i_irem, i_ineg, i_iand, i_ior, i_ishl, i_ishr, i_lxor, i_ladd, i_lsub, i_lmul, i_ldiv, i_lrem, i_lneg, i_lshl, i_lcmp, i_i2l, i_l2i, i_i2b, i_i2s, i_ifeq, i_ifne, i_iflt, i_ifge, i_ifgt, i_ifle, i_cmpeq, i_cmpne, i_cmplt, i_cmpge, i_cmpgt, i_cmple, i_acmpeq, i_acmpne, i_ifnull, i_ifnonnull, i_getI, i_getR, i_putI, i_putZ, i_putR, i_ald, i_ldL, i_ldR, i_ast, i_stL, i_stR, i_alen, i_new, i_newa, i_iret, i_zret, i_lret, i_aret, i_vret, i_raise, i_throw, i_recv, i_objinit, i_tsw3, lget, lset, lput1, lput2, lkil, ltrim, largs, isL, takev, dropv, nthv, pushO, catv, gd, true_and, and_true, Option.some.injEq, Prod.mk.injEq, exists_eq_left', if_true, if_false, reduceCtorEq, Bool.false_eq_true, lcmp_ge, lcmp_lt, lcmp_le, lcmp_gt, lcmp_eq, true_or, or_true, not_true_eq_false, not_false_eq_true, false_implies, true_implies, List.length_cons, List.length_nil, o]
    repeat (first | refine ⟨in_small (by omega) (by omega), ?_⟩ | (show (_ → _) ∧ (_ → _); first | refine ⟨by omega, fun _ => ?_⟩ | refine ⟨fun _ => ?_, by omega⟩) | refine ⟨by omega, ?_⟩ | refine ⟨⟨_, rfl, by assumption⟩, ?_⟩ | refine ⟨okT_I _, ?_⟩ | refine call0 (gd_of rfl) ?_)
    refine co_fin e2 hW hN e1 fun D2 e5 e6 => ?_
    simp only [P_X0_roots, i_kil, i_icon, i_lcon, i_null, i_loadI, i_loadL, i_loadR, i_istore, i_lstore, i_astore, i_iinc, i_dup, i_dup2, i_pop, i_iadd, i_isub, i_imul, i_idiv, i_irem, i_ineg, i_iand, i_ior, i_ishl, i_ishr, i_lxor, i_ladd, i_lsub, i_lmul, i_ldiv, i_lrem, i_lneg, i_lshl, i_lcmp, i_i2l, i_l2i, i_i2b, i_i2s, i_ifeq, i_ifne, i_iflt, i_ifge, i_ifgt, i_ifle, i_cmpeq, i_cmpne, i_cmplt, i_cmpge, i_cmpgt, i_cmple, i_acmpeq, i_acmpne, i_ifnull, i_ifnonnull, i_getI, i_getR, i_putI, i_putZ, i_putR, i_ald, i_ldL, i_ldR, i_ast, i_stL, i_stR, i_alen, i_new, i_newa, i_iret, i_zret, i_lret, i_aret, i_vret, i_raise, i_throw, i_recv, i_objinit, i_tsw3, lget, lset, lput1, lput2, lkil, ltrim, largs, isL, takev, dropv, nthv, pushO, catv, gd, true_and, and_true, Option.some.injEq, Prod.mk.injEq, exists_eq_left', if_true, if_false, reduceCtorEq, Bool.false_eq_true, lcmp_ge, lcmp_lt, lcmp_le, lcmp_gt, lcmp_eq, true_or, or_true, not_true_eq_false, not_false_eq_true, false_implies, true_implies, List.length_cons, List.length_nil]
    exact K _ _ _ _ _ e4 ⟨lz1, own1, w1, e5⟩ (e3.tr e6)
  have nx : ∀ n, S.2.2 ≤ n → coJ (S.1, S.2.1, n) D C s lz own mn w ∧ cFr S D (S.1, S.2.1, n) D C := fun n hn => ⟨h.keep hW (cSr.nx hn) (fun _ _ _ => rfl) h.sc, (cSr.nx hn).fr h.lzz.1 fun _ _ _ _ => rfl⟩
  refine wp_in ?_
  simp only [P_X0_roots, i_kil, i_icon, i_lcon, i_null, i_loadI, i_loadL, i_loadR, i_istore, i_lstore, i_astore, i_iinc, i_dup, i_dup2, i_pop, i_iadd, i_isub, i_imul, i_idiv, i_irem, i_ineg, i_iand, i_ior, i_ishl, i_ishr, i_lxor, i_ladd, i_lsub, i_lmul, i_ldiv, i_lrem, i_lneg, i_lshl, i_lcmp, i_i2l, i_l2i, i_i2b, i_i2s, i_ifeq, i_ifne, i_iflt, i_ifge, i_ifgt, i_ifle, i_cmpeq, i_cmpne, i_cmplt, i_cmpge, i_cmpgt, i_cmple, i_acmpeq, i_acmpne, i_ifnull, i_ifnonnull, i_getI, i_getR, i_putI, i_putZ, i_putR, i_ald, i_ldL, i_ldR, i_ast, i_stL, i_stR, i_alen, i_new, i_newa, i_iret, i_zret, i_lret, i_aret, i_vret, i_raise, i_throw, i_recv, i_objinit, i_tsw3, lget, lset, lput1, lput2, lkil, ltrim, largs, isL, takev, dropv, nthv, pushO, catv, gd, true_and, and_true, Option.some.injEq, Prod.mk.injEq, exists_eq_left', if_true, if_false, reduceCtorEq, Bool.false_eq_true, lcmp_ge, lcmp_lt, lcmp_le, lcmp_gt, lcmp_eq, true_or, or_true, not_true_eq_false, not_false_eq_true, false_implies, true_implies, List.length_cons, List.length_nil, o]
  refine ⟨⟨_, rfl, o⟩, callB 7 1200 (by omega) (gd_of rfl) ?_⟩
  refine poly_at h hW (by decide) (fun p a φ hp hp16 ht ha hD hS hac hl B1 => ?_) fun hx B1 n hn => ?_
  · subst hp
    have a5 := hS.1
    have hcn : D a 1 = (pcnt φ 455 : Nat) := hD.1.2
    have one : ∀ (B' : Nat × Nat) (v : Int), (v = 1 ∧ pcnt φ 455 ≠ 0 ∨ v = 0 ∧ pcnt φ 455 = 0) → Wp P_X0_roots E 1 [some (aR C), none, some (aR a)] [.inl v, .inr (.inr (some C))] B' S D := fun B' v hv => by
      refine wp_in ?_
      simp only [P_X0_roots, i_kil, i_icon, i_lcon, i_null, i_loadI, i_loadL, i_loadR, i_istore, i_lstore, i_astore, i_iinc, i_dup, i_dup2, i_pop, i_iadd, i_isub, i_imul, i_idiv, i_irem, i_ineg, i_iand, i_ior, i_ishl, i_ishr, i_lxor, i_ladd, i_lsub, i_lmul, i_ldiv, i_lrem, i_lneg, i_lshl, i_lcmp, i_i2l, i_l2i, i_i2b, i_i2s, i_ifeq, i_ifne, i_iflt, i_ifge, i_ifgt, i_ifle, i_cmpeq, i_cmpne, i_cmplt, i_cmpge, i_cmpgt, i_cmple, i_acmpeq, i_acmpne, i_ifnull, i_ifnonnull, i_getI, i_getR, i_putI, i_putZ, i_putR, i_ald, i_ldL, i_ldR, i_ast, i_stL, i_stR, i_alen, i_new, i_newa, i_iret, i_zret, i_lret, i_aret, i_vret, i_raise, i_throw, i_recv, i_objinit, i_tsw3, lget, lset, lput1, lput2, lkil, ltrim, largs, isL, takev, dropv, nthv, pushO, catv, gd, true_and, and_true, Option.some.injEq, Prod.mk.injEq, exists_eq_left', if_true, if_false, reduceCtorEq, Bool.false_eq_true, lcmp_ge, lcmp_lt, lcmp_le, lcmp_gt, lcmp_eq, true_or, or_true, not_true_eq_false, not_false_eq_true, false_implies, true_implies, List.length_cons, List.length_nil, o]
      repeat (first | refine ⟨in_small (by omega) (by omega), ?_⟩ | (show (_ → _) ∧ (_ → _); first | refine ⟨by omega, fun _ => ?_⟩ | refine ⟨fun _ => ?_, by omega⟩) | refine ⟨by omega, ?_⟩ | refine ⟨⟨_, rfl, by assumption⟩, ?_⟩ | refine ⟨okT_I _, ?_⟩ | refine call0 (gd_of rfl) ?_)
      refine need_at (k := 5) hf (by decide) (by decide) rfl (fun q => ?_) fun q => ?_
      · have hk : pcnt φ 455 ≠ 0 := by
          rcases hv with hv | hv
          · exact hv.2
          · exact absurd hv.1 q
        have hex : ∃ t, t < 455 ∧ φ t ≠ 0 := Classical.byContradiction fun z => hk ((pcnt_z1 455).mpr fun t ht => Classical.byContradiction fun y => z ⟨t, ht, y⟩)
        simp only [P_X0_roots, i_kil, i_icon, i_lcon, i_null, i_loadI, i_loadL, i_loadR, i_istore, i_lstore, i_astore, i_iinc, i_dup, i_dup2, i_pop, i_iadd, i_isub, i_imul, i_idiv, i_irem, i_ineg, i_iand, i_ior, i_ishl, i_ishr, i_lxor, i_ladd, i_lsub, i_lmul, i_ldiv, i_lrem, i_lneg, i_lshl, i_lcmp, i_i2l, i_l2i, i_i2b, i_i2s, i_ifeq, i_ifne, i_iflt, i_ifge, i_ifgt, i_ifle, i_cmpeq, i_cmpne, i_cmplt, i_cmpge, i_cmpgt, i_cmple, i_acmpeq, i_acmpne, i_ifnull, i_ifnonnull, i_getI, i_getR, i_putI, i_putZ, i_putR, i_ald, i_ldL, i_ldR, i_ast, i_stL, i_stR, i_alen, i_new, i_newa, i_iret, i_zret, i_lret, i_aret, i_vret, i_raise, i_throw, i_recv, i_objinit, i_tsw3, lget, lset, lput1, lput2, lkil, ltrim, largs, isL, takev, dropv, nthv, pushO, catv, gd, true_and, and_true, Option.some.injEq, Prod.mk.injEq, exists_eq_left', if_true, if_false, reduceCtorEq, Bool.false_eq_true, lcmp_ge, lcmp_lt, lcmp_le, lcmp_gt, lcmp_eq, true_or, or_true, not_true_eq_false, not_false_eq_true, false_implies, true_implies, List.length_cons, List.length_nil, o, r21]
        repeat (first | refine ⟨in_small (by omega) (by omega), ?_⟩ | (show (_ → _) ∧ (_ → _); first | refine ⟨by omega, fun _ => ?_⟩ | refine ⟨fun _ => ?_, by omega⟩) | refine ⟨by omega, ?_⟩ | refine ⟨⟨_, rfl, by assumption⟩, ?_⟩ | refine ⟨okT_I _, ?_⟩ | refine call0 (gd_of rfl) ?_)
        refine sp_X0_single o hfa T1 q91 r22 hS hD.1 T2 h.cx.2.1 q92 (by omega) (by omega) (by omega) (by omega) (by omega) (fun D1 e1 e2 => ?_) fun D1 e1 e2 e3 => ?_
        · obtain ⟨j1, F1⟩ := h.wk hW (D' := D1) (fun c i hc => e2 c i (by unfold wK at hc; omega) (by unfold wK at hc; omega)) ⟨φm, hφm.cgr fun c i hc => e2 c i (by omega) (by omega)⟩
          simp only [P_X0_roots, i_kil, i_icon, i_lcon, i_null, i_loadI, i_loadL, i_loadR, i_istore, i_lstore, i_astore, i_iinc, i_dup, i_dup2, i_pop, i_iadd, i_isub, i_imul, i_idiv, i_irem, i_ineg, i_iand, i_ior, i_ishl, i_ishr, i_lxor, i_ladd, i_lsub, i_lmul, i_ldiv, i_lrem, i_lneg, i_lshl, i_lcmp, i_i2l, i_l2i, i_i2b, i_i2s, i_ifeq, i_ifne, i_iflt, i_ifge, i_ifgt, i_ifle, i_cmpeq, i_cmpne, i_cmplt, i_cmpge, i_cmpgt, i_cmple, i_acmpeq, i_acmpne, i_ifnull, i_ifnonnull, i_getI, i_getR, i_putI, i_putZ, i_putR, i_ald, i_ldL, i_ldR, i_ast, i_stL, i_stR, i_alen, i_new, i_newa, i_iret, i_zret, i_lret, i_aret, i_vret, i_raise, i_throw, i_recv, i_objinit, i_tsw3, lget, lset, lput1, lput2, lkil, ltrim, largs, isL, takev, dropv, nthv, pushO, catv, gd, true_and, and_true, Option.some.injEq, Prod.mk.injEq, exists_eq_left', if_true, if_false, reduceCtorEq, Bool.false_eq_true, lcmp_ge, lcmp_lt, lcmp_le, lcmp_gt, lcmp_eq, true_or, or_true, not_true_eq_false, not_false_eq_true, false_implies, true_implies, List.length_cons, List.length_nil]
          exact err 6 _ _ _ _ _ _ (by decide) j1 F1 ⟨rR_q hl ⟨φ, by rw [show ((p : Nat) : Int).toNat = p by omega]; exact ht, .inr (.inl ⟨hk, e1, rfl, rfl⟩)⟩, hro _⟩
        · obtain ⟨d, hd, hd8, hu⟩ := uni_sum e1 hex
          rw [hd]
          obtain ⟨f, hfe⟩ : ∃ f : Nat → Int, f = fun k => usum φ k 455 := ⟨_, rfl⟩
          rw [← hfe] at hu
          have hf99 : ∀ k, (f k).natAbs ≤ 99 := fun k => by rw [hfe]; exact usum_99 e1 k
          have hfd := hu.lead hex
          have e3' : ∀ k : Nat, k < 9 → D1 (C + 716) k = f k := fun k hk => by rw [hfe]; exact e3 k hk
          have hR : ∀ (s' : Cst) (v : Int), ((d = 0 ∧ s' = uRo s ((f, 0), []) ∧ v = 0) ∨ (1 ≤ d ∧ s' = uRo s ((f, d), lv (nR (zp f (d + 1))) 390 0 0) ∧ v = ((lv (nR (zp f (d + 1))) 390 0 0).length : Nat))) → oRoots (p : Int) s s' v := fun s' v hh => rR_q hl ⟨φ, by rw [show ((p : Nat) : Int).toNat = p by omega]; exact ht, .inr (.inr ⟨hk, e1, f, d, hu, hh⟩)⟩
          have fin : ∀ (B2 : Nat × Nat) (D2 : Dat) (d' : Nat) (L : List (Nat × Int)) (v : Int), (∀ c i, ¬ wK C c → (c ≠ C ∨ i ≠ 33) → (c < C + 787 ∨ C + 818 < c) → D2 c i = D c i) → pP D2 (C + 705) φm → rtL D2 C f d' L → oRoots (p : Int) s (uRo s ((f, d'), L)) v → roW ((f, d'), L) → E (.inl (some (.inl v))) B2 S D2 := fun B2 D2 d' L v g1 g2 g3 g4 g5 => by
            refine K _ _ _ _ _ ⟨g4, fun z hz => by rw [← Option.some.inj hz]; exact g5⟩ ⟨lz, own, w, h.setRo hW cSr.rfl (fun c i a1 a2 => ?_) ⟨fun q => (nomatch q), fun q L' hq => ?_⟩ ?_⟩ ⟨Nat.le_refl _, fun _ _ => rfl, fun c i c1 c2 => ⟨rfl, g1 c i (by unfold wK; omega) (by omega) (by omega)⟩⟩
            · have := qK.bd hw1 a1
              unfold qRo at a2
              exact g1 c i (by unfold wK; omega) (by omega) (by omega)
            · have e := Option.some.inj hq
              have e1 : q = (f, d') := (congrArg Prod.fst e).symm
              have e2 : L' = L := (congrArg Prod.snd e).symm
              rw [e1, e2]; exact g3
            · obtain ⟨c1, ⟨φ2, c2⟩, ⟨φ3, c3⟩, ⟨φ4, c4⟩, c5, c6⟩ := h.sc
              refine ⟨⟨_, g2⟩, ⟨φ2, c2.cgr fun c i hc => g1 c i (by unfold wK; omega) (by omega) (by omega)⟩, ⟨φ3, c3.cgr fun c i hc => g1 c i (by unfold wK; omega) (by omega) (by omega)⟩, ⟨φ4, c4.cgr fun c i hc => g1 c i (by unfold wK; omega) (by omega) (by omega)⟩, fun k hk => ?_, fun k hk => ?_⟩
              · obtain ⟨φ, hφ⟩ := c5 k hk
                exact ⟨φ, hφ.cgr fun c i hc => g1 c i (by unfold wK; omega) (by omega) (by omega)⟩
              · obtain ⟨φ, hφ⟩ := c6 k hk
                exact ⟨φ, hφ.cgr fun c i hc => g1 c i (by unfold wK; omega) (by omega) (by omega)⟩
          have hm1 : pP (pmu D1 C 33 0) (C + 705) φm := hφm.cgr fun c i hc => by rw [pmx_ne (Or.inl (by omega)), e2 c i (by omega) (by omega)]
          have k1 : ∀ c i, ¬ wK C c → (c ≠ C ∨ i ≠ 33) → pmu D1 C 33 0 c i = D c i := fun c i c1 c2 => by
            unfold wK at c1
            rw [pmx_ne (by omega), e2 c i (by omega) (by omega)]
          simp only [P_X0_roots, i_kil, i_icon, i_lcon, i_null, i_loadI, i_loadL, i_loadR, i_istore, i_lstore, i_astore, i_iinc, i_dup, i_dup2, i_pop, i_iadd, i_isub, i_imul, i_idiv, i_irem, i_ineg, i_iand, i_ior, i_ishl, i_ishr, i_lxor, i_ladd, i_lsub, i_lmul, i_ldiv, i_lrem, i_lneg, i_lshl, i_lcmp, i_i2l, i_l2i, i_i2b, i_i2s, i_ifeq, i_ifne, i_iflt, i_ifge, i_ifgt, i_ifle, i_cmpeq, i_cmpne, i_cmplt, i_cmpge, i_cmpgt, i_cmple, i_acmpeq, i_acmpne, i_ifnull, i_ifnonnull, i_getI, i_getR, i_putI, i_putZ, i_putR, i_ald, i_ldL, i_ldR, i_ast, i_stL, i_stR, i_alen, i_new, i_newa, i_iret, i_zret, i_lret, i_aret, i_vret, i_raise, i_throw, i_recv, i_objinit, i_tsw3, lget, lset, lput1, lput2, lkil, ltrim, largs, isL, takev, dropv, nthv, pushO, catv, gd, true_and, and_true, Option.some.injEq, Prod.mk.injEq, exists_eq_left', if_true, if_false, reduceCtorEq, Bool.false_eq_true, lcmp_ge, lcmp_lt, lcmp_le, lcmp_gt, lcmp_eq, true_or, or_true, not_true_eq_false, not_false_eq_true, false_implies, true_implies, List.length_cons, List.length_nil, o, r4, r21]
          refine ⟨fun hd0 => ?_, fun hd0 => ?_⟩
          · have hd1 : 1 ≤ d := by omega
            repeat (first | refine ⟨in_small (by omega) (by omega), ?_⟩ | (show (_ → _) ∧ (_ → _); first | refine ⟨by omega, fun _ => ?_⟩ | refine ⟨fun _ => ?_, by omega⟩) | refine ⟨by omega, ?_⟩ | refine ⟨⟨_, rfl, by assumption⟩, ?_⟩ | refine ⟨okT_I _, ?_⟩ | refine call0 (gd_of rfl) ?_)
            refine sp_X8_begin (f := f) r5 r22 (by omega) hd8 hd1 (fun k hk => by rw [pmx_ne (Or.inl (by omega))]; exact e3' k (by omega)) (fun k _ => hf99 k) hfd fun D2 g1 g2 => ?_
            have hgd : gdN (nR (zp f (d + 1))) := g2.gd hd8 hd1 hfd fun k _ => hf99 k
            simp only [P_X0_roots, i_kil, i_icon, i_lcon, i_null, i_loadI, i_loadL, i_loadR, i_istore, i_lstore, i_astore, i_iinc, i_dup, i_dup2, i_pop, i_iadd, i_isub, i_imul, i_idiv, i_irem, i_ineg, i_iand, i_ior, i_ishl, i_ishr, i_lxor, i_ladd, i_lsub, i_lmul, i_ldiv, i_lrem, i_lneg, i_lshl, i_lcmp, i_i2l, i_l2i, i_i2b, i_i2s, i_ifeq, i_ifne, i_iflt, i_ifge, i_ifgt, i_ifle, i_cmpeq, i_cmpne, i_cmplt, i_cmpge, i_cmpgt, i_cmple, i_acmpeq, i_acmpne, i_ifnull, i_ifnonnull, i_getI, i_getR, i_putI, i_putZ, i_putR, i_ald, i_ldL, i_ldR, i_ast, i_stL, i_stR, i_alen, i_new, i_newa, i_iret, i_zret, i_lret, i_aret, i_vret, i_raise, i_throw, i_recv, i_objinit, i_tsw3, lget, lset, lput1, lput2, lkil, ltrim, largs, isL, takev, dropv, nthv, pushO, catv, gd, true_and, and_true, Option.some.injEq, Prod.mk.injEq, exists_eq_left', if_true, if_false, reduceCtorEq, Bool.false_eq_true, lcmp_ge, lcmp_lt, lcmp_le, lcmp_gt, lcmp_eq, true_or, or_true, not_true_eq_false, not_false_eq_true, false_implies, true_implies, List.length_cons, List.length_nil]
            have k2 : ∀ c i, ¬ wK C c → (c ≠ C ∨ i ≠ 33) → D2 c i = D c i := fun c i c1 c2 => by
              have c1' := c1
              unfold wK at c1'
              rw [g1 c i (by omega) (by omega), k1 c i c1 c2]
            have h33 : D2 C 33 = 0 := by rw [g1 _ _ (by omega) (by omega)]; exact pmx_eq
            have h716 : ∀ k : Nat, k < 9 → D2 (C + 716) k = f k := fun k hk => by rw [g1 _ _ (by omega) (by omega), pmx_ne (Or.inl (by omega))]; exact e3' k hk
            have hm2 : pP D2 (C + 705) φm := hm1.cgr fun c i hc => g1 c i (by omega) (by omega)
            have loop : ∀ (L i : Nat) (B2 : Nat × Nat) (D3 : Dat), i + L = 9 → (∀ c j, c ≠ C + 719 + 1 → D3 c j = D2 c j) → (∀ k : Nat, k < i → D3 (C + 719 + 1) k = f k) → Wp P_X0_roots E 2 [some (aR C), none, none, some (aI (d : Int)), some (aI (i : Int))] [] B2 S D3 := by
              intro L
              induction L with
              | zero =>
                intro i B2 D3 hi f1 f2
                have : i = 9 := by omega
                subst this
                refine wp_in ?_
                simp only [P_X0_roots, i_kil, i_icon, i_lcon, i_null, i_loadI, i_loadL, i_loadR, i_istore, i_lstore, i_astore, i_iinc, i_dup, i_dup2, i_pop, i_iadd, i_isub, i_imul, i_idiv, i_irem, i_ineg, i_iand, i_ior, i_ishl, i_ishr, i_lxor, i_ladd, i_lsub, i_lmul, i_ldiv, i_lrem, i_lneg, i_lshl, i_lcmp, i_i2l, i_l2i, i_i2b, i_i2s, i_ifeq, i_ifne, i_iflt, i_ifge, i_ifgt, i_ifle, i_cmpeq, i_cmpne, i_cmplt, i_cmpge, i_cmpgt, i_cmple, i_acmpeq, i_acmpne, i_ifnull, i_ifnonnull, i_getI, i_getR, i_putI, i_putZ, i_putR, i_ald, i_ldL, i_ldR, i_ast, i_stL, i_stR, i_alen, i_new, i_newa, i_iret, i_zret, i_lret, i_aret, i_vret, i_raise, i_throw, i_recv, i_objinit, i_tsw3, lget, lset, lput1, lput2, lkil, ltrim, largs, isL, takev, dropv, nthv, pushO, catv, gd, true_and, and_true, Option.some.injEq, Prod.mk.injEq, exists_eq_left', if_true, if_false, reduceCtorEq, Bool.false_eq_true, lcmp_ge, lcmp_lt, lcmp_le, lcmp_gt, lcmp_eq, true_or, or_true, not_true_eq_false, not_false_eq_true, false_implies, true_implies, List.length_cons, List.length_nil, o, r14, w1, w4, u1]
                refine ⟨fun _ => ?_, fun q => absurd q (by decide)⟩
                repeat (first | refine ⟨in_small (by omega) (by omega), ?_⟩ | (show (_ → _) ∧ (_ → _); first | refine ⟨by omega, fun _ => ?_⟩ | refine ⟨fun _ => ?_, by omega⟩) | refine ⟨by omega, ?_⟩ | refine ⟨⟨_, rfl, by assumption⟩, ?_⟩ | refine ⟨okT_I _, ?_⟩ | refine call0 (gd_of rfl) ?_)
                refine sp_X3_set w5 (by decide) (by decide) (by decide) fun D4 g3 g4 => ?_
                simp only [P_X0_roots, i_kil, i_icon, i_lcon, i_null, i_loadI, i_loadL, i_loadR, i_istore, i_lstore, i_astore, i_iinc, i_dup, i_dup2, i_pop, i_iadd, i_isub, i_imul, i_idiv, i_irem, i_ineg, i_iand, i_ior, i_ishl, i_ishr, i_lxor, i_ladd, i_lsub, i_lmul, i_ldiv, i_lrem, i_lneg, i_lshl, i_lcmp, i_i2l, i_l2i, i_i2b, i_i2s, i_ifeq, i_ifne, i_iflt, i_ifge, i_ifgt, i_ifle, i_cmpeq, i_cmpne, i_cmplt, i_cmpge, i_cmpgt, i_cmple, i_acmpeq, i_acmpne, i_ifnull, i_ifnonnull, i_getI, i_getR, i_putI, i_putZ, i_putR, i_ald, i_ldL, i_ldR, i_ast, i_stL, i_stR, i_alen, i_new, i_newa, i_iret, i_zret, i_lret, i_aret, i_vret, i_raise, i_throw, i_recv, i_objinit, i_tsw3, lget, lset, lput1, lput2, lkil, ltrim, largs, isL, takev, dropv, nthv, pushO, catv, gd, true_and, and_true, Option.some.injEq, Prod.mk.injEq, exists_eq_left', if_true, if_false, reduceCtorEq, Bool.false_eq_true, lcmp_ge, lcmp_lt, lcmp_le, lcmp_gt, lcmp_eq, true_or, or_true, not_true_eq_false, not_false_eq_true, false_implies, true_implies, List.length_cons, List.length_nil]
                have k4 : ∀ c j, c ≠ C + 719 → c ≠ C + 720 → c ≠ C + 721 → c ≠ C + 722 → D4 c j = D2 c j := fun c j c1 c2 c3 c4 => by
                  rw [g3 c j (by omega) (by omega), pmx_ne (Or.inl c1), pmx_ne (Or.inl c1), pmx_ne (Or.inl c1), f1 c j (by omega)]
                have hre : reD D4 (C + 719) f d 0 0 0 := by
                  refine ⟨fun k hk => ?_, ?_, ?_, ?_, g4⟩
                  · rw [g3 _ _ (by omega) (by omega), pmx_ne (Or.inl (by omega)), pmx_ne (Or.inl (by omega)), pmx_ne (Or.inl (by omega))]
                    exact f2 k hk
                  · rw [g3 _ _ (by omega) (by omega), pmx_ne (Or.inr (by decide)), pmx_ne (Or.inr (by decide))]
                    exact pmx_eq
                  · rw [g3 _ _ (by omega) (by omega), pmx_ne (Or.inr (by decide))]
                    exact pmx_eq
                  · rw [g3 _ _ (by omega) (by omega)]
                    exact pmx_eq
                have hB4 : chB (zp f (d + 1)) D4 (C + 225) := g2.congr fun c j c1 c2 => k4 c j (by omega) (by omega) (by omega) (by omega)
                refine roots_loop (L := []) hrt hgd 390 0 0 D4 rfl (by decide) (by decide) (by decide) hre hB4 ⟨by rw [k4 _ _ (by omega) (by omega) (by omega) (by omega)]; exact h33, by decide, fun k x hx => nomatch hx⟩ (by rw [show (([] : List (Nat × Int)).length : Int) = 0 from rfl, Int.zero_add]; exact hgd.2.2.1) fun D5 v1 v2 v3 => ?_
                rw [List.nil_append] at v3
                refine ⟨fun _ => ?_, fun x hx => nomatch hx⟩
                have h33' := v3.1
                refine wp_in ?_
                simp only [P_X0_roots, i_kil, i_icon, i_lcon, i_null, i_loadI, i_loadL, i_loadR, i_istore, i_lstore, i_astore, i_iinc, i_dup, i_dup2, i_pop, i_iadd, i_isub, i_imul, i_idiv, i_irem, i_ineg, i_iand, i_ior, i_ishl, i_ishr, i_lxor, i_ladd, i_lsub, i_lmul, i_ldiv, i_lrem, i_lneg, i_lshl, i_lcmp, i_i2l, i_l2i, i_i2b, i_i2s, i_ifeq, i_ifne, i_iflt, i_ifge, i_ifgt, i_ifle, i_cmpeq, i_cmpne, i_cmplt, i_cmpge, i_cmpgt, i_cmple, i_acmpeq, i_acmpne, i_ifnull, i_ifnonnull, i_getI, i_getR, i_putI, i_putZ, i_putR, i_ald, i_ldL, i_ldR, i_ast, i_stL, i_stR, i_alen, i_new, i_newa, i_iret, i_zret, i_lret, i_aret, i_vret, i_raise, i_throw, i_recv, i_objinit, i_tsw3, lget, lset, lput1, lput2, lkil, ltrim, largs, isL, takev, dropv, nthv, pushO, catv, gd, true_and, and_true, Option.some.injEq, Prod.mk.injEq, exists_eq_left', if_true, if_false, reduceCtorEq, Bool.false_eq_true, lcmp_ge, lcmp_lt, lcmp_le, lcmp_gt, lcmp_eq, true_or, or_true, not_true_eq_false, not_false_eq_true, false_implies, true_implies, List.length_cons, List.length_nil, o, h33']
                refine fin _ D5 d (lv (nR (zp f (d + 1))) 390 0 0) _ (fun c j c1 c2 c3 => ?_) (hm2.cgr fun c j hc => ?_) v3 (hR _ _ (.inr ⟨hd1, rfl, rfl⟩)) (.inr ⟨⟨hd1, hd8, hfd, uniR.beyond hu, hf99, hgd⟩, by have := lv_len hgd 390 0 0 (by decide) (by decide); have := hgd.2.2.1; show (lv (nR (zp f (d + 1))) 390 0 0).length ≤ 8; omega, fun h w hm => by
                  obtain ⟨x1, x2, x3, x4, x5⟩ := lv_in 390 0 0 (h, w) (by decide) (by decide) hm
                  exact ⟨by have : h < 0 + 390 := x2; omega, x3, x4, x5⟩⟩)
                · have c1' := c1
                  unfold wK at c1'
                  rw [v1 c j (by omega) (by omega) (by omega) c3 c2, k4 c j (by omega) (by omega) (by omega) (by omega)]
                  exact k2 c j c1 c2
                · rw [v1 c j (by omega) (by omega) (by omega) (by omega) (by omega), k4 c j (by omega) (by omega) (by omega) (by omega)]
              | succ L ih =>
                intro i B2 D3 hi f1 f2
                have e6 : D3 (C + 716) i = f i := by rw [f1 _ _ (by omega)]; exact h716 i (by omega)
                refine wp_in ?_
                simp only [P_X0_roots, i_kil, i_icon, i_lcon, i_null, i_loadI, i_loadL, i_loadR, i_istore, i_lstore, i_astore, i_iinc, i_dup, i_dup2, i_pop, i_iadd, i_isub, i_imul, i_idiv, i_irem, i_ineg, i_iand, i_ior, i_ishl, i_ishr, i_lxor, i_ladd, i_lsub, i_lmul, i_ldiv, i_lrem, i_lneg, i_lshl, i_lcmp, i_i2l, i_l2i, i_i2b, i_i2s, i_ifeq, i_ifne, i_iflt, i_ifge, i_ifgt, i_ifle, i_cmpeq, i_cmpne, i_cmplt, i_cmpge, i_cmpgt, i_cmple, i_acmpeq, i_acmpne, i_ifnull, i_ifnonnull, i_getI, i_getR, i_putI, i_putZ, i_putR, i_ald, i_ldL, i_ldR, i_ast, i_stL, i_stR, i_alen, i_new, i_newa, i_iret, i_zret, i_lret, i_aret, i_vret, i_raise, i_throw, i_recv, i_objinit, i_tsw3, lget, lset, lput1, lput2, lkil, ltrim, largs, isL, takev, dropv, nthv, pushO, catv, gd, true_and, and_true, Option.some.injEq, Prod.mk.injEq, exists_eq_left', if_true, if_false, reduceCtorEq, Bool.false_eq_true, lcmp_ge, lcmp_lt, lcmp_le, lcmp_gt, lcmp_eq, true_or, or_true, not_true_eq_false, not_false_eq_true, false_implies, true_implies, List.length_cons, List.length_nil, o, r14, w1, w2, w3, r21, r22, e6]
                refine ⟨fun q => by omega, fun _ => ?_⟩
                repeat (first | refine ⟨in_small (by omega) (by omega), ?_⟩ | (show (_ → _) ∧ (_ → _); first | refine ⟨by omega, fun _ => ?_⟩ | refine ⟨fun _ => ?_, by omega⟩) | refine ⟨by omega, ?_⟩ | refine ⟨⟨_, rfl, by assumption⟩, ?_⟩ | refine ⟨okT_I _, ?_⟩ | refine call0 (gd_of rfl) ?_)
                refine ih (i + 1) B2 _ (by omega) (fun c j hc => by rw [pmx_ne (Or.inl hc)]; exact f1 c j hc) fun k hk => ?_
                by_cases q : k = i
                · subst q; exact pmx_eq
                · rw [pmx_ne (Or.inr (by omega))]; exact f2 k (by omega)
            exact loop 9 0 _ D2 (by omega) (fun _ _ _ => rfl) fun k hk => absurd hk (Nat.not_lt_zero _)
          · have hd0' : d = 0 := by omega
            refine fin _ _ 0 [] 0 (fun c i c1 c2 _ => k1 c i c1 c2) hm1 ⟨pmx_eq, by decide, fun k x hx => nomatch hx⟩ (hR _ _ (.inl ⟨hd0', rfl, rfl⟩)) (.inl rfl)
      · have hk : pcnt φ 455 = 0 := by
          rcases hv with hv | hv
          · exact absurd (hv.1.symm.trans q) (by decide)
          · exact hv.2
        simp only [P_X0_roots, i_kil, i_icon, i_lcon, i_null, i_loadI, i_loadL, i_loadR, i_istore, i_lstore, i_astore, i_iinc, i_dup, i_dup2, i_pop, i_iadd, i_isub, i_imul, i_idiv, i_irem, i_ineg, i_iand, i_ior, i_ishl, i_ishr, i_lxor, i_ladd, i_lsub, i_lmul, i_ldiv, i_lrem, i_lneg, i_lshl, i_lcmp, i_i2l, i_l2i, i_i2b, i_i2s, i_ifeq, i_ifne, i_iflt, i_ifge, i_ifgt, i_ifle, i_cmpeq, i_cmpne, i_cmplt, i_cmpge, i_cmpgt, i_cmple, i_acmpeq, i_acmpne, i_ifnull, i_ifnonnull, i_getI, i_getR, i_putI, i_putZ, i_putR, i_ald, i_ldL, i_ldR, i_ast, i_stL, i_stR, i_alen, i_new, i_newa, i_iret, i_zret, i_lret, i_aret, i_vret, i_raise, i_throw, i_recv, i_objinit, i_tsw3, lget, lset, lput1, lput2, lkil, ltrim, largs, isL, takev, dropv, nthv, pushO, catv, gd, true_and, and_true, Option.some.injEq, Prod.mk.injEq, exists_eq_left', if_true, if_false, reduceCtorEq, Bool.false_eq_true, lcmp_ge, lcmp_lt, lcmp_le, lcmp_gt, lcmp_eq, true_or, or_true, not_true_eq_false, not_false_eq_true, false_implies, true_implies, List.length_cons, List.length_nil]
        exact err 5 _ _ _ _ _ _ (by decide) h cFr.rfl ⟨rR_q hl ⟨φ, by rw [show ((p : Nat) : Int).toNat = p by omega]; exact ht, .inl ⟨hk, rfl, rfl⟩⟩, hro _⟩
    simp only [P_X0_roots, i_kil, i_icon, i_lcon, i_null, i_loadI, i_loadL, i_loadR, i_istore, i_lstore, i_astore, i_iinc, i_dup, i_dup2, i_pop, i_iadd, i_isub, i_imul, i_idiv, i_irem, i_ineg, i_iand, i_ior, i_ishl, i_ishr, i_lxor, i_ladd, i_lsub, i_lmul, i_ldiv, i_lrem, i_lneg, i_lshl, i_lcmp, i_i2l, i_l2i, i_i2b, i_i2s, i_ifeq, i_ifne, i_iflt, i_ifge, i_ifgt, i_ifle, i_cmpeq, i_cmpne, i_cmplt, i_cmpge, i_cmpgt, i_cmple, i_acmpeq, i_acmpne, i_ifnull, i_ifnonnull, i_getI, i_getR, i_putI, i_putZ, i_putR, i_ald, i_ldL, i_ldR, i_ast, i_stL, i_stR, i_alen, i_new, i_newa, i_iret, i_zret, i_lret, i_aret, i_vret, i_raise, i_throw, i_recv, i_objinit, i_tsw3, lget, lset, lput1, lput2, lkil, ltrim, largs, isL, takev, dropv, nthv, pushO, catv, gd, true_and, and_true, Option.some.injEq, Prod.mk.injEq, exists_eq_left', if_true, if_false, reduceCtorEq, Bool.false_eq_true, lcmp_ge, lcmp_lt, lcmp_le, lcmp_gt, lcmp_eq, true_or, or_true, not_true_eq_false, not_false_eq_true, false_implies, true_implies, List.length_cons, List.length_nil, o, a5, hcn]
    exact ⟨fun q => one _ 0 (.inr ⟨rfl, by omega⟩), fun q => one _ 1 (.inl ⟨rfl, by omega⟩)⟩
  · simp only [P_X0_roots, i_kil, i_icon, i_lcon, i_null, i_loadI, i_loadL, i_loadR, i_istore, i_lstore, i_astore, i_iinc, i_dup, i_dup2, i_pop, i_iadd, i_isub, i_imul, i_idiv, i_irem, i_ineg, i_iand, i_ior, i_ishl, i_ishr, i_lxor, i_ladd, i_lsub, i_lmul, i_ldiv, i_lrem, i_lneg, i_lshl, i_lcmp, i_i2l, i_l2i, i_i2b, i_i2s, i_ifeq, i_ifne, i_iflt, i_ifge, i_ifgt, i_ifle, i_cmpeq, i_cmpne, i_cmplt, i_cmpge, i_cmpgt, i_cmple, i_acmpeq, i_acmpne, i_ifnull, i_ifnonnull, i_getI, i_getR, i_putI, i_putZ, i_putR, i_ald, i_ldL, i_ldR, i_ast, i_stL, i_stR, i_alen, i_new, i_newa, i_iret, i_zret, i_lret, i_aret, i_vret, i_raise, i_throw, i_recv, i_objinit, i_tsw3, lget, lset, lput1, lput2, lkil, ltrim, largs, isL, takev, dropv, nthv, pushO, catv, gd, true_and, and_true, Option.some.injEq, Prod.mk.injEq, exists_eq_left', if_true, if_false, reduceCtorEq, Bool.false_eq_true, lcmp_ge, lcmp_lt, lcmp_le, lcmp_gt, lcmp_eq, true_or, or_true, not_true_eq_false, not_false_eq_true, false_implies, true_implies, List.length_cons, List.length_nil]
    have := lkN_le s x 1
    exact err _ _ _ _ _ _ _ (by omega) (nx n hn).1 (nx n hn).2 ⟨rR_f hx rfl, hro _⟩
end CRT
