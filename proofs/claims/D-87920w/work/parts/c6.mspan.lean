/-! the model's span -/
set_option maxRecDepth 100000
set_option linter.unusedVariables false
/-- the ideal's list in the model -/
def midD (D : Dat) (M m : Nat) (I : Nat → Nat → Int) : Prop := m ≤ 4 ∧ D M 31 = m ∧ ∀ k, k < m → (∃ mk ek, midP D M k (I k) mk ek) ∧ idW (I k) ∧ ∃ t, t < 455 ∧ I k t ≠ 0
def snW (M : Nat) (D D' : Dat) : Prop := ∀ c i, (c ≤ M ∨ M + 20 < c) → (c ≠ M ∨ i ≠ 52 ∧ i ≠ 57) → (c ≠ M + 5699 ∧ c ≠ M + 5700 ∧ c ≠ M + 10778 ∧ c ≠ M + 10780) → (c < M + 568 ∨ M + 2392 < c) → (c < M + 5702 ∨ M + 10777 < c) → (c < M + 10781 ∨ M + 10788 < c) → (c < M + 19027 ∨ M + 27566 < c) → D' c i = D c i
theorem midD.congr {D D' : Dat} {M m : Nat} {I : Nat → Nat → Int} (h : midD D M m I) (e : snW M D D') : midD D' M m I := by
  obtain ⟨h1, h2, h3⟩ := h
  refine ⟨h1, by rw [e _ _ (by omega) (by omega) (by omega) (by omega) (by omega) (by omega) (by omega)]; exact h2, fun k hk => ?_⟩
  obtain ⟨⟨mk, ek, a1, a2, a3, a4, a5⟩, b, c⟩ := h3 k hk
  refine ⟨⟨mk, ek, a1, by rw [e _ _ (by omega) (by omega) (by omega) (by omega) (by omega) (by omega) (by omega)]; exact a2, fun j hj => ?_, a4, a5⟩, b, c⟩
  obtain ⟨x1, x2, x3, x4⟩ := a3 j hj
  exact ⟨x1, by rw [e _ _ (by omega) (by omega) (by omega) (by omega) (by omega) (by omega) (by omega)]; exact x2, by rw [e _ _ (by omega) (by omega) (by omega) (by omega) (by omega) (by omega) (by omega)]; exact x3, x4⟩
theorem mcD.congrS {D D' : Dat} {M c g d n : Nat} {tc : Nat → Nat} (h : mcD D M c g d n tc) (e : snW M D D') : mcD D' M c g d n tc := by
  obtain ⟨h1, h2, h3⟩ := h
  refine ⟨h1, by rw [e _ _ (by omega) (by omega) (by omega) (by omega) (by omega) (by omega) (by omega)]; exact h2, fun i hi => ?_⟩
  rw [e _ _ (by omega) (by omega) (by omega) (by omega) (by omega) (by omega) (by omega), e _ _ (by omega) (by omega) (by omega) (by omega) (by omega) (by omega) (by omega)]
  exact h3 i hi
theorem usW.sn {D D' : Dat} {M : Nat} (h : usW M D D') : snW M D D' := fun c i a1 a2 a3 a4 a5 a6 a7 => h c i (by omega) a2 (by omega) a5 a6
theorem teW.sn {D D' : Dat} {M : Nat} (h : teW M D D') : snW M D D' := fun c i a1 a2 a3 a4 a5 a6 a7 => h c i a1 a4 (by omega) a7
theorem snW.trans {D D1 D2 : Dat} {M : Nat} (h1 : snW M D D1) (h2 : snW M D1 D2) : snW M D D2 := fun c i a1 a2 a3 a4 a5 a6 a7 => by rw [h2 c i a1 a2 a3 a4 a5 a6 a7]; exact h1 c i a1 a2 a3 a4 a5 a6 a7
set_option maxHeartbeats 4000000 in
theorem sp_X16_span3 {E : Ex} {B : Nat × Nat} {S : Stat} {D : Dat} {M c g d n m : Nat} {tc : Nat → Nat} {I : Nat → Nat → Int} (hM : mtS S M) (ho : ordOK c g) (hd : d ≤ 4) (hT : mcD D M c g d n tc) (hI : midD D M m I) (h52 : D M 52 = 0) (h57 : D M 57 = 0) (hsm : ∃ φ, smP D (M + 568) φ)
    (K : ∀ (D' : Dat) (st : spst) (V : Nat → Nat → Int) (pm σ : Nat → Nat), snW M D D' → spR c g I d m st → spOK st → spL c g st → msI D' M n d tc st V pm → spSo c g st σ → (∀ k : Nat, k < st.1 → D' (M + 10780) k = σ k ∧ mpP D' (M + 19027 + 244 * k) (spEl st σ k)) → (∃ φ, smP D' (M + 568) φ) → E (.inl (some (.inl (st.1 : Int)))) B S D') : Wp P_X16_span E 3 [some (aR M), none, some (aI d), none, some (aI 0)] [] B S D := by
  have hM' := id hM
  obtain ⟨hm, hg, ⟨sm1, sm2⟩, -⟩ := hM'
  obtain ⟨hms, hw, hcs, ⟨r1, r2, r3⟩, ⟨p1, p2⟩, ⟨u1, u2⟩, ⟨v1, v2⟩, ⟨i1, i2⟩, ⟨j1, j2⟩, ⟨k1, k2⟩⟩ := id hm
  obtain ⟨M1, c1, c2, c3, c4'⟩ := id hcs
  have hC := hT.1
  have hn := hC.2.2.2
  have hm4 := hI.1
  have outer : ∀ (L a : Nat) (st : spst) (V : Nat → Nat → Int) (pm : Nat → Nat) (D1 : Dat), a + L = m → snW M D D1 → spR c g I d a st → spOK st → spL c g st → msI D1 M n d tc st V pm → (∃ φ, smP D1 (M + 568) φ) → Wp P_X16_span E 3 [some (aR M), none, some (aI d), none, some (aI a)] [] B S D1 := by
    intro L
    induction L with
    | zero =>
      intro a st V pm D1 ha f1 f2 f3 f4 f5 f6
      have : a = m := by omega
      subst this
      have e31 := (hI.congr f1).2.1
      refine wp_in ?_
      simp only [P_X16_span, i_kil, i_icon, i_lcon, i_null, i_loadI, i_loadL, i_loadR, i_istore, i_lstore, i_astore, i_iinc, i_dup, i_dup2, i_pop, i_iadd, i_isub, i_imul, i_idiv, i_irem, i_ineg, i_iand, i_ior, i_ishl, i_ishr, i_lxor, i_ladd, i_lsub, i_lmul, i_ldiv, i_lrem, i_lneg, i_lshl, i_lcmp, i_i2l, i_l2i, i_i2b, i_i2s, i_ifeq, i_ifne, i_iflt, i_ifge, i_ifgt, i_ifle, i_cmpeq, i_cmpne, i_cmplt, i_cmpge, i_cmpgt, i_cmple, i_acmpeq, i_acmpne, i_ifnull, i_ifnonnull, i_getI, i_getR, i_putI, i_putZ, i_putR, i_ald, i_ldL, i_ldR, i_ast, i_stL, i_stR, i_alen, i_new, i_newa, i_iret, i_zret, i_lret, i_aret, i_vret, i_raise, i_throw, i_recv, i_objinit, i_tsw3, lget, lset, lput1, lput2, lkil, ltrim, largs, isL, takev, dropv, nthv, pushO, catv, gd, true_and, and_true, Option.some.injEq, Prod.mk.injEq, exists_eq_left', if_true, if_false, reduceCtorEq, Bool.false_eq_true, lcmp_ge, lcmp_lt, lcmp_le, lcmp_gt, lcmp_eq, true_or, or_true, not_true_eq_false, not_false_eq_true, false_implies, true_implies, List.length_cons, List.length_nil, M1, e31]
      repeat (first | refine ⟨in_small (by omega) (by omega), ?_⟩ | (show (_ → _) ∧ (_ → _); first | refine ⟨by omega, fun _ => ?_⟩ | refine ⟨fun _ => ?_, by omega⟩) | refine ⟨by omega, ?_⟩ | refine ⟨⟨_, rfl, by assumption⟩, ?_⟩ | refine ⟨okT_I _, ?_⟩ | refine ⟨okT_S (by omega) (by omega), ?_⟩ | refine ⟨okT_B (by omega) (by omega), ?_⟩ | refine call0 (gd_of rfl) ?_)
      refine sp_X16_tellElements hM ho hd (hT.congrS f1) f3 f4 f5 f6 fun D2 σ g1 g2 g3 g4 => ?_
      have hst' : msI D2 M n d tc st V pm := by
        obtain ⟨s1, s2, s3, s4⟩ := f5
        refine ⟨by rw [g1 _ _ (by omega) (by omega) (by omega) (by omega)]; exact s1, by rw [g1 _ _ (by omega) (by omega) (by omega) (by omega)]; exact s2, s3, fun r hr => ?_⟩
        have hk35 := f3.1
        obtain ⟨x1, x2, x3, x4, x5, x6⟩ := s4 r hr
        exact ⟨x1.congr fun x y b1 b2 => g1 x y (by omega) (by omega) (by omega) (by omega), x2, x3, by rw [g1 _ _ (by omega) (by omega) (by omega) (by omega)]; exact x4, by rw [g1 _ _ (by omega) (by omega) (by omega) (by omega)]; exact x5, by rw [g1 _ _ (by omega) (by omega) (by omega) (by omega)]; exact x6⟩
      have e57 := hst'.2.1
      simp only [P_X16_span, i_kil, i_icon, i_lcon, i_null, i_loadI, i_loadL, i_loadR, i_istore, i_lstore, i_astore, i_iinc, i_dup, i_dup2, i_pop, i_iadd, i_isub, i_imul, i_idiv, i_irem, i_ineg, i_iand, i_ior, i_ishl, i_ishr, i_lxor, i_ladd, i_lsub, i_lmul, i_ldiv, i_lrem, i_lneg, i_lshl, i_lcmp, i_i2l, i_l2i, i_i2b, i_i2s, i_ifeq, i_ifne, i_iflt, i_ifge, i_ifgt, i_ifle, i_cmpeq, i_cmpne, i_cmplt, i_cmpge, i_cmpgt, i_cmple, i_acmpeq, i_acmpne, i_ifnull, i_ifnonnull, i_getI, i_getR, i_putI, i_putZ, i_putR, i_ald, i_ldL, i_ldR, i_ast, i_stL, i_stR, i_alen, i_new, i_newa, i_iret, i_zret, i_lret, i_aret, i_vret, i_raise, i_throw, i_recv, i_objinit, i_tsw3, lget, lset, lput1, lput2, lkil, ltrim, largs, isL, takev, dropv, nthv, pushO, catv, gd, true_and, and_true, Option.some.injEq, Prod.mk.injEq, exists_eq_left', if_true, if_false, reduceCtorEq, Bool.false_eq_true, lcmp_ge, lcmp_lt, lcmp_le, lcmp_gt, lcmp_eq, true_or, or_true, not_true_eq_false, not_false_eq_true, false_implies, true_implies, List.length_cons, List.length_nil, M1, e57]
      exact K D2 st V pm σ (f1.trans g1.sn) f2 f3 f4 hst' g2 g3 g4
    | succ L ih =>
      intro a st V pm D1 ha f1 f2 f3 f4 f5 f6
      have e31 := (hI.congr f1).2.1
      obtain ⟨⟨mk, ek, hid⟩, hW, t0, ht0, hne0⟩ := (hI.congr f1).2.2 a (by omega)
      obtain ⟨q1, q2, q3, q4, q5⟩ := id hid
      have e49 := (hT.congrS f1).2.1
      -- the multiples
      have mults : ∀ (dg : Nat), (dg : Int) = degI (idQ (I a)) 455 → ∀ (L2 x : Nat) (V : Nat → Nat → Int) (pm : Nat → Nat) (Ls : List Nat) (D2 : Dat), x = L2 → x ≤ n → snW M D D2 → isAsc c g Ls → (∀ t, t ∈ Ls ↔ spM (I a) d t ∧ ∃ j, x ≤ j ∧ j < n ∧ tc j = t) → spOK (spF c g (I a) a Ls st) → spL c g (spF c g (I a) a Ls st) → msI D2 M n d tc (spF c g (I a) a Ls st) V pm → (∃ φ, smP D2 (M + 568) φ) → Wp P_X16_span E 5 [some (aR M), none, some (aI d), none, some (aI a), some (aI dg), some (aI ((x : Int) - 1))] [] B S D2 := by
        intro dg hdg L2
        induction L2 with
        | zero =>
          intro x V pm Ls D2 hx hxn g1 g2 g3 g4 g5 g6 g7
          subst hx
          refine wp_in ?_
          simp only [P_X16_span, i_kil, i_icon, i_lcon, i_null, i_loadI, i_loadL, i_loadR, i_istore, i_lstore, i_astore, i_iinc, i_dup, i_dup2, i_pop, i_iadd, i_isub, i_imul, i_idiv, i_irem, i_ineg, i_iand, i_ior, i_ishl, i_ishr, i_lxor, i_ladd, i_lsub, i_lmul, i_ldiv, i_lrem, i_lneg, i_lshl, i_lcmp, i_i2l, i_l2i, i_i2b, i_i2s, i_ifeq, i_ifne, i_iflt, i_ifge, i_ifgt, i_ifle, i_cmpeq, i_cmpne, i_cmplt, i_cmpge, i_cmpgt, i_cmple, i_acmpeq, i_acmpne, i_ifnull, i_ifnonnull, i_getI, i_getR, i_putI, i_putZ, i_putR, i_ald, i_ldL, i_ldR, i_ast, i_stL, i_stR, i_alen, i_new, i_newa, i_iret, i_zret, i_lret, i_aret, i_vret, i_raise, i_throw, i_recv, i_objinit, i_tsw3, lget, lset, lput1, lput2, lkil, ltrim, largs, isL, takev, dropv, nthv, pushO, catv, gd, true_and, and_true, Option.some.injEq, Prod.mk.injEq, exists_eq_left', if_true, if_false, reduceCtorEq, Bool.false_eq_true, lcmp_ge, lcmp_lt, lcmp_le, lcmp_gt, lcmp_eq, true_or, or_true, not_true_eq_false, not_false_eq_true, false_implies, true_implies, List.length_cons, List.length_nil]
          repeat (first | refine ⟨in_small (by omega) (by omega), ?_⟩ | (show (_ → _) ∧ (_ → _); first | refine ⟨by omega, fun _ => ?_⟩ | refine ⟨fun _ => ?_, by omega⟩) | refine ⟨by omega, ?_⟩ | refine ⟨⟨_, rfl, by assumption⟩, ?_⟩ | refine ⟨okT_I _, ?_⟩ | refine ⟨okT_S (by omega) (by omega), ?_⟩ | refine ⟨okT_B (by omega) (by omega), ?_⟩ | refine call0 (gd_of rfl) ?_)
          refine ih (a + 1) _ V pm D2 (by omega) g1 ⟨st, Ls, f2, g2, fun t => ?_, rfl⟩ g4 g5 g6 g7
          rw [g3 t]
          refine ⟨fun h => h.1, fun h => ⟨h, ?_⟩⟩
          obtain ⟨j, hj, e⟩ := hC.2.2.1 t h.1 (by have := h.2.2; omega)
          exact ⟨j, Nat.zero_le _, hj, e⟩
        | succ L2 ih2 =>
          intro x V pm Ls D2 hx hxn g1 g2 g3 g4 g5 g6 g7
          subst hx
          have x1 : ((L2 + 1 : Nat) : Int) - 1 = (L2 : Nat) := by omega
          have htc := hC.1 L2 (by omega)
          have ec := ((hT.congrS g1).2.2 L2 (by omega)).1
          have lc := tcode_lim htc.1
          have next : ∀ (V : Nat → Nat → Int) (pm : Nat → Nat) (Ls' : List Nat) (D3 : Dat), snW M D D3 → isAsc c g Ls' → (∀ t, t ∈ Ls' ↔ spM (I a) d t ∧ ∃ j, L2 ≤ j ∧ j < n ∧ tc j = t) → spOK (spF c g (I a) a Ls' st) → spL c g (spF c g (I a) a Ls' st) → msI D3 M n d tc (spF c g (I a) a Ls' st) V pm → (∃ φ, smP D3 (M + 568) φ) → Wp P_X16_span E 6 [some (aR M), none, some (aI d), none, some (aI a), some (aI dg), some (aI L2)] [] B S D3 := fun V pm Ls' D3 b1 b2 b3 b4 b5 b6 b7 => by
            refine wp_in ?_
            simp only [P_X16_span, i_kil, i_icon, i_lcon, i_null, i_loadI, i_loadL, i_loadR, i_istore, i_lstore, i_astore, i_iinc, i_dup, i_dup2, i_pop, i_iadd, i_isub, i_imul, i_idiv, i_irem, i_ineg, i_iand, i_ior, i_ishl, i_ishr, i_lxor, i_ladd, i_lsub, i_lmul, i_ldiv, i_lrem, i_lneg, i_lshl, i_lcmp, i_i2l, i_l2i, i_i2b, i_i2s, i_ifeq, i_ifne, i_iflt, i_ifge, i_ifgt, i_ifle, i_cmpeq, i_cmpne, i_cmplt, i_cmpge, i_cmpgt, i_cmple, i_acmpeq, i_acmpne, i_ifnull, i_ifnonnull, i_getI, i_getR, i_putI, i_putZ, i_putR, i_ald, i_ldL, i_ldR, i_ast, i_stL, i_stR, i_alen, i_new, i_newa, i_iret, i_zret, i_lret, i_aret, i_vret, i_raise, i_throw, i_recv, i_objinit, i_tsw3, lget, lset, lput1, lput2, lkil, ltrim, largs, isL, takev, dropv, nthv, pushO, catv, gd, true_and, and_true, Option.some.injEq, Prod.mk.injEq, exists_eq_left', if_true, if_false, reduceCtorEq, Bool.false_eq_true, lcmp_ge, lcmp_lt, lcmp_le, lcmp_gt, lcmp_eq, true_or, or_true, not_true_eq_false, not_false_eq_true, false_implies, true_implies, List.length_cons, List.length_nil]
            repeat (first | refine ⟨in_small (by omega) (by omega), ?_⟩ | (show (_ → _) ∧ (_ → _); first | refine ⟨by omega, fun _ => ?_⟩ | refine ⟨fun _ => ?_, by omega⟩) | refine ⟨by omega, ?_⟩ | refine ⟨⟨_, rfl, by assumption⟩, ?_⟩ | refine ⟨okT_I _, ?_⟩ | refine ⟨okT_S (by omega) (by omega), ?_⟩ | refine ⟨okT_B (by omega) (by omega), ?_⟩ | refine call0 (gd_of rfl) ?_)
            exact ih2 L2 V pm Ls' D3 rfl (by omega) b1 b2 b3 b4 b5 b6 b7
          refine wp_in ?_
          simp only [P_X16_span, i_kil, i_icon, i_lcon, i_null, i_loadI, i_loadL, i_loadR, i_istore, i_lstore, i_astore, i_iinc, i_dup, i_dup2, i_pop, i_iadd, i_isub, i_imul, i_idiv, i_irem, i_ineg, i_iand, i_ior, i_ishl, i_ishr, i_lxor, i_ladd, i_lsub, i_lmul, i_ldiv, i_lrem, i_lneg, i_lshl, i_lcmp, i_i2l, i_l2i, i_i2b, i_i2s, i_ifeq, i_ifne, i_iflt, i_ifge, i_ifgt, i_ifle, i_cmpeq, i_cmpne, i_cmplt, i_cmpge, i_cmpgt, i_cmple, i_acmpeq, i_acmpne, i_ifnull, i_ifnonnull, i_getI, i_getR, i_putI, i_putZ, i_putR, i_ald, i_ldL, i_ldR, i_ast, i_stL, i_stR, i_alen, i_new, i_newa, i_iret, i_zret, i_lret, i_aret, i_vret, i_raise, i_throw, i_recv, i_objinit, i_tsw3, lget, lset, lput1, lput2, lkil, ltrim, largs, isL, takev, dropv, nthv, pushO, catv, gd, true_and, and_true, Option.some.injEq, Prod.mk.injEq, exists_eq_left', if_true, if_false, reduceCtorEq, Bool.false_eq_true, lcmp_ge, lcmp_lt, lcmp_le, lcmp_gt, lcmp_eq, true_or, or_true, not_true_eq_false, not_false_eq_true, false_implies, true_implies, List.length_cons, List.length_nil, M1, x1, c1, c2, ec]
          repeat (first | refine ⟨in_small (by omega) (by omega), ?_⟩ | (show (_ → _) ∧ (_ → _); first | refine ⟨by omega, fun _ => ?_⟩ | refine ⟨fun _ => ?_, by omega⟩) | refine ⟨by omega, ?_⟩ | refine ⟨⟨_, rfl, by assumption⟩, ?_⟩ | refine ⟨okT_I _, ?_⟩ | refine ⟨okT_S (by omega) (by omega), ?_⟩ | refine ⟨okT_B (by omega) (by omega), ?_⟩ | refine call0 (gd_of rfl) ?_)
          refine zdeg_at ⟨by omega, by omega⟩ ?_
          have ez := zdg_code htc.1
          rw [ez]
          have ht12 : tdg (tc L2) ≤ 4 := by omega
          have hdg4 : degI (idQ (I a)) 455 ≤ 4 := by
            rcases degI_law (φ := idQ (I a)) 455 with ⟨h1, _⟩ | ⟨⟨t, h1, h2, h3⟩, _⟩
            · omega
            · rw [h3]
              have := hW.2 t h1 fun w => h2 (by show ((I a t : Int) : Rat) = 0; rw [w]; rfl)
              omega
          simp only [P_X16_span, i_kil, i_icon, i_lcon, i_null, i_loadI, i_loadL, i_loadR, i_istore, i_lstore, i_astore, i_iinc, i_dup, i_dup2, i_pop, i_iadd, i_isub, i_imul, i_idiv, i_irem, i_ineg, i_iand, i_ior, i_ishl, i_ishr, i_lxor, i_ladd, i_lsub, i_lmul, i_ldiv, i_lrem, i_lneg, i_lshl, i_lcmp, i_i2l, i_l2i, i_i2b, i_i2s, i_ifeq, i_ifne, i_iflt, i_ifge, i_ifgt, i_ifle, i_cmpeq, i_cmpne, i_cmplt, i_cmpge, i_cmpgt, i_cmple, i_acmpeq, i_acmpne, i_ifnull, i_ifnonnull, i_getI, i_getR, i_putI, i_putZ, i_putR, i_ald, i_ldL, i_ldR, i_ast, i_stL, i_stR, i_alen, i_new, i_newa, i_iret, i_zret, i_lret, i_aret, i_vret, i_raise, i_throw, i_recv, i_objinit, i_tsw3, lget, lset, lput1, lput2, lkil, ltrim, largs, isL, takev, dropv, nthv, pushO, catv, gd, true_and, and_true, Option.some.injEq, Prod.mk.injEq, exists_eq_left', if_true, if_false, reduceCtorEq, Bool.false_eq_true, lcmp_ge, lcmp_lt, lcmp_le, lcmp_gt, lcmp_eq, true_or, or_true, not_true_eq_false, not_false_eq_true, false_implies, true_implies, List.length_cons, List.length_nil, M1, x1, c1, c2, ec]
          refine ⟨in_small (by omega) (by omega), fun hgt => ?_, fun hle => ?_⟩
          · refine next V pm Ls D2 g1 g2 (fun t => ?_) g4 g5 g6 g7
            rw [g3 t]
            refine ⟨fun ⟨h1, j, h2, h3, h4⟩ => ⟨h1, j, by omega, h3, h4⟩, fun ⟨h1, j, h2, h3, h4⟩ => ⟨h1, j, ?_, h3, h4⟩⟩
            by_cases w : j = L2
            · have := h1.2.2
              rw [← h4, w] at this
              omega
            · omega
          · repeat (first | refine ⟨in_small (by omega) (by omega), ?_⟩ | (show (_ → _) ∧ (_ → _); first | refine ⟨by omega, fun _ => ?_⟩ | refine ⟨fun _ => ?_, by omega⟩) | refine ⟨by omega, ?_⟩ | refine ⟨⟨_, rfl, by assumption⟩, ?_⟩ | refine ⟨okT_I _, ?_⟩ | refine ⟨okT_S (by omega) (by omega), ?_⟩ | refine ⟨okT_B (by omega) (by omega), ?_⟩ | refine call0 (gd_of rfl) ?_)
            obtain ⟨⟨mk2, ek2, hid2⟩, -⟩ := (hI.congr g1).2.2 a (by omega)
            refine sp_X16_use (u := tc L2) hm ho hd (hT.congrS g1) hid2 hW (by omega) htc.1 (fun t ht h => ?_) g4 g6 rfl rfl fun D3 V' pm' b1 b2 => ?_
            · have : (tdg t : Int) ≤ degI (idQ (I a)) 455 := by
                rcases degI_law (φ := idQ (I a)) 455 with ⟨h1, h2⟩ | ⟨_, h2⟩
                · exact absurd (Rat.intCast_inj.mp (show ((I a t : Int) : Rat) = ((0 : Int) : Rat) from h2 t ht)) h
                · exact h2 t ht fun w => h (Rat.intCast_inj.mp (show ((I a t : Int) : Rat) = ((0 : Int) : Rat) from w))
              omega
            · simp only [P_X16_span, i_kil, i_icon, i_lcon, i_null, i_loadI, i_loadL, i_loadR, i_istore, i_lstore, i_astore, i_iinc, i_dup, i_dup2, i_pop, i_iadd, i_isub, i_imul, i_idiv, i_irem, i_ineg, i_iand, i_ior, i_ishl, i_ishr, i_lxor, i_ladd, i_lsub, i_lmul, i_ldiv, i_lrem, i_lneg, i_lshl, i_lcmp, i_i2l, i_l2i, i_i2b, i_i2s, i_ifeq, i_ifne, i_iflt, i_ifge, i_ifgt, i_ifle, i_cmpeq, i_cmpne, i_cmplt, i_cmpge, i_cmpgt, i_cmple, i_acmpeq, i_acmpne, i_ifnull, i_ifnonnull, i_getI, i_getR, i_putI, i_putZ, i_putR, i_ald, i_ldL, i_ldR, i_ast, i_stL, i_stR, i_alen, i_new, i_newa, i_iret, i_zret, i_lret, i_aret, i_vret, i_raise, i_throw, i_recv, i_objinit, i_tsw3, lget, lset, lput1, lput2, lkil, ltrim, largs, isL, takev, dropv, nthv, pushO, catv, gd, true_and, and_true, Option.some.injEq, Prod.mk.injEq, exists_eq_left', if_true, if_false, reduceCtorEq, Bool.false_eq_true, lcmp_ge, lcmp_lt, lcmp_le, lcmp_gt, lcmp_eq, true_or, or_true, not_true_eq_false, not_false_eq_true, false_implies, true_implies, List.length_cons, List.length_nil]
              have hvd : ∀ t, t < 455 → I a t ≠ 0 → tdg t + tdg (tc L2) ≤ 4 := fun t ht h => by
                have : (tdg t : Int) ≤ degI (idQ (I a)) 455 := by
                  rcases degI_law (φ := idQ (I a)) 455 with ⟨h1, h2⟩ | ⟨_, h2⟩
                  · exact absurd (Rat.intCast_inj.mp (show ((I a t : Int) : Rat) = ((0 : Int) : Rat) from h2 t ht)) h
                  · exact h2 t ht fun w => h (Rat.intCast_inj.mp (show ((I a t : Int) : Rat) = ((0 : Int) : Rat) from w))
                omega
              have hvw : spW (mulV (I a) (tc L2)) := mulV_w hW hvd
              refine next V' pm' (Ls ++ [tc L2]) D3 (g1.trans b1.sn) (asc_snoc ho g2 fun v hv => ?_) (fun t => ?_) ?_ ?_ ?_ ?_
              · obtain ⟨-, j, y1, y2, rfl⟩ := (g3 v).mp hv
                exact hC.2.1 _ _ (by omega) y2
              · rw [List.mem_append, List.mem_singleton, g3 t]
                constructor
                · rintro (⟨h1, j, y1, y2, y3⟩ | rfl)
                  · exact ⟨h1, j, by omega, y2, y3⟩
                  · exact ⟨⟨htc.1, ht12, by omega⟩, L2, Nat.le_refl _, by omega, rfl⟩
                · rintro ⟨h1, j, y1, y2, y3⟩
                  by_cases w : j = L2
                  · right; rw [← y3, w]
                  · exact .inl ⟨h1, j, by omega, y2, y3⟩
              · rw [spF_snoc]; exact g4.take ho hvw _
              · rw [spF_snoc]; exact spL.take ho g4 g5 _
              · rw [spF_snoc]; exact b2
              · obtain ⟨φ, hφ⟩ := g7
                exact ⟨φ, hφ.congr fun x y a1 a2 => b1 x y (by omega) (by omega) (by omega) (by omega) (by omega)⟩
      -- the degree
      have degs : ∀ (L2 x : Nat) (dg : Nat), x + L2 = mk → (∀ j, j < x → tdg (ek j) ≤ dg) → (dg = 0 ∨ ∃ j, j < x ∧ dg = tdg (ek j)) → Wp P_X16_span E 4 [some (aR M), none, some (aI d), none, some (aI a), some (aI dg), some (aI (12 * (a : Int) + x))] [] B S D1 := by
        intro L2
        induction L2 with
        | zero =>
          intro x dg hx h1 h2
          have : x = mk := by omega
          subst this
          refine wp_in ?_
          simp only [P_X16_span, i_kil, i_icon, i_lcon, i_null, i_loadI, i_loadL, i_loadR, i_istore, i_lstore, i_astore, i_iinc, i_dup, i_dup2, i_pop, i_iadd, i_isub, i_imul, i_idiv, i_irem, i_ineg, i_iand, i_ior, i_ishl, i_ishr, i_lxor, i_ladd, i_lsub, i_lmul, i_ldiv, i_lrem, i_lneg, i_lshl, i_lcmp, i_i2l, i_l2i, i_i2b, i_i2s, i_ifeq, i_ifne, i_iflt, i_ifge, i_ifgt, i_ifle, i_cmpeq, i_cmpne, i_cmplt, i_cmpge, i_cmpgt, i_cmple, i_acmpeq, i_acmpne, i_ifnull, i_ifnonnull, i_getI, i_getR, i_putI, i_putZ, i_putR, i_ald, i_ldL, i_ldR, i_ast, i_stL, i_stR, i_alen, i_new, i_newa, i_iret, i_zret, i_lret, i_aret, i_vret, i_raise, i_throw, i_recv, i_objinit, i_tsw3, lget, lset, lput1, lput2, lkil, ltrim, largs, isL, takev, dropv, nthv, pushO, catv, gd, true_and, and_true, Option.some.injEq, Prod.mk.injEq, exists_eq_left', if_true, if_false, reduceCtorEq, Bool.false_eq_true, lcmp_ge, lcmp_lt, lcmp_le, lcmp_gt, lcmp_eq, true_or, or_true, not_true_eq_false, not_false_eq_true, false_implies, true_implies, List.length_cons, List.length_nil, M1, i1, i2, q2, e49]
          repeat (first | refine ⟨in_small (by omega) (by omega), ?_⟩ | (show (_ → _) ∧ (_ → _); first | refine ⟨by omega, fun _ => ?_⟩ | refine ⟨fun _ => ?_, by omega⟩) | refine ⟨by omega, ?_⟩ | refine ⟨⟨_, rfl, by assumption⟩, ?_⟩ | refine ⟨okT_I _, ?_⟩ | refine ⟨okT_S (by omega) (by omega), ?_⟩ | refine ⟨okT_B (by omega) (by omega), ?_⟩ | refine call0 (gd_of rfl) ?_)
          refine mults dg ?_ n n V pm [] D1 rfl (Nat.le_refl _) f1 List.Pairwise.nil (fun t => ⟨fun h => absurd h (List.not_mem_nil), fun ⟨_, j, y1, y2, _⟩ => by omega⟩) f3 f4 f5 f6
          rcases degI_law (φ := idQ (I a)) 455 with ⟨_, w2⟩ | ⟨⟨t, w1, w2, w3⟩, w4⟩
          · exact absurd (Rat.intCast_inj.mp (show ((I a t0 : Int) : Rat) = ((0 : Int) : Rat) from w2 t0 ht0)) hne0
          · have hIt : I a t ≠ 0 := fun w => w2 (by show ((I a t : Int) : Rat) = 0; rw [w]; rfl)
            have : ∃ j, j < x ∧ ek j = t := Classical.byContradiction fun q => hIt (q5 t w1 fun j hj w => q ⟨j, hj, w⟩)
            obtain ⟨j, hj, rfl⟩ := this
            have b1 := h1 j hj
            rcases h2 with h2 | ⟨j2, hj2, h2⟩
            · omega
            · obtain ⟨z1, _, _, z4⟩ := q3 j2 hj2
              have := w4 _ z1 fun w => z4 (Rat.intCast_inj.mp (show ((I a (ek j2) : Int) : Rat) = ((0 : Int) : Rat) from w))
              omega
        | succ L2 ih2 =>
          intro x dg hx h1 h2
          obtain ⟨z1, z2, z3, z4⟩ := q3 x (by omega)
          have lz := tcode_lim z1
          refine wp_in ?_
          simp only [P_X16_span, i_kil, i_icon, i_lcon, i_null, i_loadI, i_loadL, i_loadR, i_istore, i_lstore, i_astore, i_iinc, i_dup, i_dup2, i_pop, i_iadd, i_isub, i_imul, i_idiv, i_irem, i_ineg, i_iand, i_ior, i_ishl, i_ishr, i_lxor, i_ladd, i_lsub, i_lmul, i_ldiv, i_lrem, i_lneg, i_lshl, i_lcmp, i_i2l, i_l2i, i_i2b, i_i2s, i_ifeq, i_ifne, i_iflt, i_ifge, i_ifgt, i_ifle, i_cmpeq, i_cmpne, i_cmplt, i_cmpge, i_cmpgt, i_cmple, i_acmpeq, i_acmpne, i_ifnull, i_ifnonnull, i_getI, i_getR, i_putI, i_putZ, i_putR, i_ald, i_ldL, i_ldR, i_ast, i_stL, i_stR, i_alen, i_new, i_newa, i_iret, i_zret, i_lret, i_aret, i_vret, i_raise, i_throw, i_recv, i_objinit, i_tsw3, lget, lset, lput1, lput2, lkil, ltrim, largs, isL, takev, dropv, nthv, pushO, catv, gd, true_and, and_true, Option.some.injEq, Prod.mk.injEq, exists_eq_left', if_true, if_false, reduceCtorEq, Bool.false_eq_true, lcmp_ge, lcmp_lt, lcmp_le, lcmp_gt, lcmp_eq, true_or, or_true, not_true_eq_false, not_false_eq_true, false_implies, true_implies, List.length_cons, List.length_nil, M1, i1, i2, q2, j1, j2, z2]
          repeat (first | refine ⟨in_small (by omega) (by omega), ?_⟩ | (show (_ → _) ∧ (_ → _); first | refine ⟨by omega, fun _ => ?_⟩ | refine ⟨fun _ => ?_, by omega⟩) | refine ⟨by omega, ?_⟩ | refine ⟨⟨_, rfl, by assumption⟩, ?_⟩ | refine ⟨okT_I _, ?_⟩ | refine ⟨okT_S (by omega) (by omega), ?_⟩ | refine ⟨okT_B (by omega) (by omega), ?_⟩ | refine call0 (gd_of rfl) ?_)
          refine zdeg_at ⟨by omega, by omega⟩ ?_
          rw [zdg_code z1]
          simp only [P_X16_span, i_kil, i_icon, i_lcon, i_null, i_loadI, i_loadL, i_loadR, i_istore, i_lstore, i_astore, i_iinc, i_dup, i_dup2, i_pop, i_iadd, i_isub, i_imul, i_idiv, i_irem, i_ineg, i_iand, i_ior, i_ishl, i_ishr, i_lxor, i_ladd, i_lsub, i_lmul, i_ldiv, i_lrem, i_lneg, i_lshl, i_lcmp, i_i2l, i_l2i, i_i2b, i_i2s, i_ifeq, i_ifne, i_iflt, i_ifge, i_ifgt, i_ifle, i_cmpeq, i_cmpne, i_cmplt, i_cmpge, i_cmpgt, i_cmple, i_acmpeq, i_acmpne, i_ifnull, i_ifnonnull, i_getI, i_getR, i_putI, i_putZ, i_putR, i_ald, i_ldL, i_ldR, i_ast, i_stL, i_stR, i_alen, i_new, i_newa, i_iret, i_zret, i_lret, i_aret, i_vret, i_raise, i_throw, i_recv, i_objinit, i_tsw3, lget, lset, lput1, lput2, lkil, ltrim, largs, isL, takev, dropv, nthv, pushO, catv, gd, true_and, and_true, Option.some.injEq, Prod.mk.injEq, exists_eq_left', if_true, if_false, reduceCtorEq, Bool.false_eq_true, lcmp_ge, lcmp_lt, lcmp_le, lcmp_gt, lcmp_eq, true_or, or_true, not_true_eq_false, not_false_eq_true, false_implies, true_implies, List.length_cons, List.length_nil]
          repeat (first | refine ⟨in_small (by omega) (by omega), ?_⟩ | (show (_ → _) ∧ (_ → _); first | refine ⟨by omega, fun _ => ?_⟩ | refine ⟨fun _ => ?_, by omega⟩) | refine ⟨by omega, ?_⟩ | refine ⟨⟨_, rfl, by assumption⟩, ?_⟩ | refine ⟨okT_I _, ?_⟩ | refine ⟨okT_S (by omega) (by omega), ?_⟩ | refine ⟨okT_B (by omega) (by omega), ?_⟩ | refine call0 (gd_of rfl) ?_)
          refine sp_J9_max ?_
          simp only [P_X16_span, i_kil, i_icon, i_lcon, i_null, i_loadI, i_loadL, i_loadR, i_istore, i_lstore, i_astore, i_iinc, i_dup, i_dup2, i_pop, i_iadd, i_isub, i_imul, i_idiv, i_irem, i_ineg, i_iand, i_ior, i_ishl, i_ishr, i_lxor, i_ladd, i_lsub, i_lmul, i_ldiv, i_lrem, i_lneg, i_lshl, i_lcmp, i_i2l, i_l2i, i_i2b, i_i2s, i_ifeq, i_ifne, i_iflt, i_ifge, i_ifgt, i_ifle, i_cmpeq, i_cmpne, i_cmplt, i_cmpge, i_cmpgt, i_cmple, i_acmpeq, i_acmpne, i_ifnull, i_ifnonnull, i_getI, i_getR, i_putI, i_putZ, i_putR, i_ald, i_ldL, i_ldR, i_ast, i_stL, i_stR, i_alen, i_new, i_newa, i_iret, i_zret, i_lret, i_aret, i_vret, i_raise, i_throw, i_recv, i_objinit, i_tsw3, lget, lset, lput1, lput2, lkil, ltrim, largs, isL, takev, dropv, nthv, pushO, catv, gd, true_and, and_true, Option.some.injEq, Prod.mk.injEq, exists_eq_left', if_true, if_false, reduceCtorEq, Bool.false_eq_true, lcmp_ge, lcmp_lt, lcmp_le, lcmp_gt, lcmp_eq, true_or, or_true, not_true_eq_false, not_false_eq_true, false_implies, true_implies, List.length_cons, List.length_nil]
          repeat (first | refine ⟨in_small (by omega) (by omega), ?_⟩ | (show (_ → _) ∧ (_ → _); first | refine ⟨by omega, fun _ => ?_⟩ | refine ⟨fun _ => ?_, by omega⟩) | refine ⟨by omega, ?_⟩ | refine ⟨⟨_, rfl, by assumption⟩, ?_⟩ | refine ⟨okT_I _, ?_⟩ | refine ⟨okT_S (by omega) (by omega), ?_⟩ | refine ⟨okT_B (by omega) (by omega), ?_⟩ | refine call0 (gd_of rfl) ?_)
          rw [show 12 * (a : Int) + (x : Int) + 1 = 12 * (a : Int) + ((x + 1 : Nat) : Int) by omega]
          by_cases w : dg < tdg (ek x)
          · rw [if_pos (by omega)]
            refine ih2 (x + 1) (tdg (ek x)) (by omega) (fun j hj => ?_) (.inr ⟨x, by omega, rfl⟩)
            by_cases y : j = x
            · rw [y]; exact Nat.le_refl _
            · have := h1 j (by omega); omega
          · rw [if_neg (by omega)]
            refine ih2 (x + 1) dg (by omega) (fun j hj => ?_) ?_
            · by_cases y : j = x
              · rw [y]; omega
              · exact h1 j (by omega)
            · rcases h2 with h2 | ⟨j, hj, h2⟩
              · exact .inl h2
              · exact .inr ⟨j, by omega, h2⟩
      refine wp_in ?_
      simp only [P_X16_span, i_kil, i_icon, i_lcon, i_null, i_loadI, i_loadL, i_loadR, i_istore, i_lstore, i_astore, i_iinc, i_dup, i_dup2, i_pop, i_iadd, i_isub, i_imul, i_idiv, i_irem, i_ineg, i_iand, i_ior, i_ishl, i_ishr, i_lxor, i_ladd, i_lsub, i_lmul, i_ldiv, i_lrem, i_lneg, i_lshl, i_lcmp, i_i2l, i_l2i, i_i2b, i_i2s, i_ifeq, i_ifne, i_iflt, i_ifge, i_ifgt, i_ifle, i_cmpeq, i_cmpne, i_cmplt, i_cmpge, i_cmpgt, i_cmple, i_acmpeq, i_acmpne, i_ifnull, i_ifnonnull, i_getI, i_getR, i_putI, i_putZ, i_putR, i_ald, i_ldL, i_ldR, i_ast, i_stL, i_stR, i_alen, i_new, i_newa, i_iret, i_zret, i_lret, i_aret, i_vret, i_raise, i_throw, i_recv, i_objinit, i_tsw3, lget, lset, lput1, lput2, lkil, ltrim, largs, isL, takev, dropv, nthv, pushO, catv, gd, true_and, and_true, Option.some.injEq, Prod.mk.injEq, exists_eq_left', if_true, if_false, reduceCtorEq, Bool.false_eq_true, lcmp_ge, lcmp_lt, lcmp_le, lcmp_gt, lcmp_eq, true_or, or_true, not_true_eq_false, not_false_eq_true, false_implies, true_implies, List.length_cons, List.length_nil, M1, e31]
      repeat (first | refine ⟨in_small (by omega) (by omega), ?_⟩ | (show (_ → _) ∧ (_ → _); first | refine ⟨by omega, fun _ => ?_⟩ | refine ⟨fun _ => ?_, by omega⟩) | refine ⟨by omega, ?_⟩ | refine ⟨⟨_, rfl, by assumption⟩, ?_⟩ | refine ⟨okT_I _, ?_⟩ | refine ⟨okT_S (by omega) (by omega), ?_⟩ | refine ⟨okT_B (by omega) (by omega), ?_⟩ | refine call0 (gd_of rfl) ?_)
      have := degs mk 0 0 (by omega) (fun j hj => by omega) (.inl rfl)
      rw [show 12 * (a : Int) + ((0 : Nat) : Int) = 12 * (a : Int) by omega] at this
      exact this
  exact outer m 0 spst0 (fun _ _ => 0) (fun _ => 0) D (by omega) (fun _ _ _ _ _ _ _ _ _ => rfl) rfl (spOK.zero _ _ _) (fun r t hr => absurd hr (Nat.not_lt_zero r)) ⟨h52, h57, fun r t hr => absurd hr (Nat.not_lt_zero r), fun r hr => absurd hr (Nat.not_lt_zero r)⟩ hsm
