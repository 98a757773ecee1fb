/-! a member in the model -/
set_option maxRecDepth 100000
set_option linter.unusedVariables false
theorem mrst_zero {c g : Nat} {st : spst} {σ : Nat → Nat} {φ : Nat → Rat} (hO : spOK st) (hs : spSo c g st σ) (hφ : spSm φ) {t : Nat} (ht : t < 455) (hd : 4 < tdg t) : ∀ k, k ≤ st.1 → mrst st σ φ k t = 0 := by
  intro k
  induction k with
  | zero => intro _; exact hφ.2 t ht hd
  | succ k ih =>
    intro hk
    simp only [mrst]
    have e : spEl st σ k t = 0 := by
      unfold spEl
      rw [if_pos ht]
      exact (hO.2.2 _ (hs.1 k (by omega))).2 t ht hd
    rw [ih (by omega), e]; grind
theorem mrst_far {st : spst} {σ : Nat → Nat} {φ : Nat → Rat} {t : Nat} (ht : ¬ t < 455) (h0 : φ t = 0) : ∀ k, mrst st σ φ k t = 0 := by
  intro k
  induction k with
  | zero => exact h0
  | succ k ih =>
    simp only [mrst]
    have e : spEl st σ k t = 0 := by unfold spEl; rw [if_neg ht]
    rw [ih, e]; grind
theorem mrst_rest {c g : Nat} {st : spst} {σ : Nat → Nat} {φ : Nat → Rat} (ho : ordOK c g) (hO : spOK st) (hs : spSo c g st σ) (h0 : ∀ t, 455 ≤ t → φ t = 0) : mrst st σ φ st.1 = spRest st φ := by
  funext t
  by_cases ht : t < 455
  · exact mrst_all ho hO hs ht
  · rw [mrst_far ht (h0 t (by omega))]
    unfold spRest; rw [if_neg ht]
theorem mpD_none {D : Dat} {p n : Nat} {φ : Nat → Rat} {e : Nat → Nat} (h : mpD D p φ n e) : n = 0 ↔ ∀ t, t < 455 → φ t = 0 := by
  obtain ⟨f1, f2, f3, f4, f5, f6⟩ := h
  constructor
  · intro w t ht; exact f5 t ht fun k hk => by omega
  · intro w
    refine Classical.byContradiction fun q => ?_
    obtain ⟨x1, x2, x3, x4⟩ := f3 0 (by omega)
    exact x4 (w _ x1)
set_option maxHeartbeats 4000000 in
theorem sp_X16_member4 {E : Ex} {B : Nat × Nat} {S : Stat} {D : Dat} {M c g d n m pa : Nat} {tc : Nat → Nat} {st : spst} {σ : Nat → Nat} {φ ρ : Nat → Rat} {χ : Nat → Nat → Rat} (hM : mvS S M) (ho : ordOK c g) (h : msE D M c g d n tc st σ) (hU : spU m st) (hU4 : spU4 st) (hm4 : m ≤ 4) (h48 : D M 48 = m) (hpS : mpS S pa) (hpa : M + 12195 ≤ pa ∧ pa + 243 < M + 16099) (hp : mpP D pa φ) (hφ : spSm φ) (hsm : smP D (M + 568) φ) (hR : mpP D (M + 80) ρ) (hχ : ∀ k, k < 6 → mpP D (M + 16343 + 488 * k) (χ k))
    (K : ∀ (D' : Dat) (v : Int), (∀ x y, (x ≤ M ∨ M + 20 < x) → (x ≠ M ∨ y ≠ 25 ∧ y ≠ 27) → (x < M + 80 ∨ M + 323 < x) → (x < M + 568 ∨ M + 2392 < x) → (x < M + 4221 ∨ M + 4222 < x) → (∀ j, j < 6 → x < M + 16343 + 488 * j ∨ M + 16343 + 488 * j + 243 < x) → D' x y = D x y) → (v = 0 ∨ v = 1) → (v = 1 ↔ ∀ t, t < 455 → spRest st φ t = 0) → D' M 27 = 1 → D' M 25 = (if v = 1 then (m : Int) else 0) → (∃ ψ, smP D' (M + 568) ψ) → mpP D' (M + 80) (spRest st φ) → (∀ k, k < 6 → ∃ χ', mpP D' (M + 16343 + 488 * k) χ') → (v = 1 → ∀ k, k < m → mpP D' (M + 16343 + 488 * k) (spWay st φ st.1 k)) → E (.inl (some (.inl v))) B S D') : Wp P_X16_member E 4 [some (aR M), none, none, some (aR pa), some (aI 0)] [] B S D := by
  obtain ⟨hMt, ⟨t1, t2⟩, ⟨w1, w2, w3⟩, ⟨z1, z2⟩⟩ := id hM
  obtain ⟨hm, hg, ⟨sm1, sm2⟩, ⟨l1, l2, l3⟩, ⟨o1, o2⟩⟩ := id hMt
  obtain ⟨hms, -⟩ := hm
  have M1 := hms.1
  have ms2 := hms.2.1
  have ms3 := hms.2.2.1
  have hO := h.2.1
  have hSo := h.2.2.2.1
  have hk35 := hO.1
  have pS := hpS
  obtain ⟨a1, a2, a3, a4, a5, a6, a7⟩ := pS
  obtain ⟨na, ea, hpD⟩ := hp
  have hφ0 : ∀ t, 455 ≤ t → φ t = 0 := hpD.2.2.2.2.2.2
  have sg1 := sm2.1
  have rg1 := z2.1
  -- the ways
  have ways : ∀ (v : Int), (v = 0 ∨ v = 1) → (v = 1 ↔ ∀ t, t < 455 → spRest st φ t = 0) → ∀ (mq : Nat), mq = (if v = 1 then m else 0) → ∀ (L q : Nat) (D1 : Dat), q + L = mq → (∀ x y, (x ≤ M ∨ M + 20 < x) → (x ≠ M ∨ y ≠ 25 ∧ y ≠ 27) → (x < M + 80 ∨ M + 323 < x) → (x < M + 568 ∨ M + 2392 < x) → (x < M + 4221 ∨ M + 4222 < x) → (∀ j, j < 6 → x < M + 16343 + 488 * j ∨ M + 16343 + 488 * j + 243 < x) → D1 x y = D x y) → D1 M 27 = 1 → D1 M 25 = mq → (∃ ψ, smP D1 (M + 568) ψ) → mpP D1 (M + 80) (spRest st φ) → (∀ k, k < 6 → ∃ χ', mpP D1 (M + 16343 + 488 * k) χ') → (∀ k, k < q → mpP D1 (M + 16343 + 488 * k) (spWay st φ st.1 k)) → Wp P_X16_member E 8 [some (aR M), none, none, some (aR pa), some (aI q)] [] B S D1 := by
    intro v v1 v2 mq hmq L
    have hmq4 : mq ≤ m := by rw [hmq]; split <;> omega
    induction L with
    | zero =>
      intro q D1 hq f1 f2 f3 f4 f5 f6 f7
      have : q = mq := by omega
      subst this
      obtain ⟨nr, er, hr⟩ := id f5
      have hn0 := mpD_none hr
      have hr2 := hr.2.1
      have fin : ∀ v' : Int, v' = v → E (.inl (some (.inl v'))) B S D1 := fun v' e => by
        subst e
        refine K D1 v' f1 v1 v2 f2 ?_ f4 f5 f6 fun hv k hk => f7 k (by rw [hmq, if_pos hv]; exact hk)
        rw [f3, hmq]
        split <;> rfl
      refine wp_in ?_
      simp only [P_X16_member, i_kil, i_icon, i_lcon, i_null, i_loadI, i_loadL, i_loadR, i_istore, i_lstore, i_astore, i_iinc, i_dup, i_dup2, i_pop, i_iadd, i_isub, i_imul, i_idiv, i_irem, i_ineg, i_iand, i_ior, i_ishl, i_ishr, i_lxor, i_ladd, i_lsub, i_lmul, i_ldiv, i_lrem, i_lneg, i_lshl, i_lcmp, i_i2l, i_l2i, i_i2b, i_i2s, i_ifeq, i_ifne, i_iflt, i_ifge, i_ifgt, i_ifle, i_cmpeq, i_cmpne, i_cmplt, i_cmpge, i_cmpgt, i_cmple, i_acmpeq, i_acmpne, i_ifnull, i_ifnonnull, i_getI, i_getR, i_putI, i_putZ, i_putR, i_ald, i_ldL, i_ldR, i_ast, i_stL, i_stR, i_alen, i_new, i_newa, i_iret, i_zret, i_lret, i_aret, i_vret, i_raise, i_throw, i_recv, i_objinit, i_tsw3, lget, lset, lput1, lput2, lkil, ltrim, largs, isL, takev, dropv, nthv, pushO, catv, gd, true_and, and_true, Option.some.injEq, Prod.mk.injEq, exists_eq_left', if_true, if_false, reduceCtorEq, Bool.false_eq_true, lcmp_ge, lcmp_lt, lcmp_le, lcmp_gt, lcmp_eq, true_or, or_true, not_true_eq_false, not_false_eq_true, false_implies, true_implies, List.length_cons, List.length_nil, M1, f3, z1, rg1, hr2]
      repeat (first | refine ⟨in_small (by omega) (by omega), ?_⟩ | (show (_ → _) ∧ (_ → _); first | refine ⟨by omega, fun _ => ?_⟩ | refine ⟨fun _ => ?_, by omega⟩) | refine ⟨by omega, ?_⟩ | refine ⟨⟨_, rfl, by assumption⟩, ?_⟩ | refine ⟨okT_I _, ?_⟩ | refine ⟨okT_S (by omega) (by omega), ?_⟩ | refine ⟨okT_B (by omega) (by omega), ?_⟩ | refine call0 (gd_of rfl) ?_)
      refine ⟨fun w => ?_, fun w => ?_⟩
      · refine wp_in ?_
        simp only [P_X16_member, i_kil, i_icon, i_lcon, i_null, i_loadI, i_loadL, i_loadR, i_istore, i_lstore, i_astore, i_iinc, i_dup, i_dup2, i_pop, i_iadd, i_isub, i_imul, i_idiv, i_irem, i_ineg, i_iand, i_ior, i_ishl, i_ishr, i_lxor, i_ladd, i_lsub, i_lmul, i_ldiv, i_lrem, i_lneg, i_lshl, i_lcmp, i_i2l, i_l2i, i_i2b, i_i2s, i_ifeq, i_ifne, i_iflt, i_ifge, i_ifgt, i_ifle, i_cmpeq, i_cmpne, i_cmplt, i_cmpge, i_cmpgt, i_cmple, i_acmpeq, i_acmpne, i_ifnull, i_ifnonnull, i_getI, i_getR, i_putI, i_putZ, i_putR, i_ald, i_ldL, i_ldR, i_ast, i_stL, i_stR, i_alen, i_new, i_newa, i_iret, i_zret, i_lret, i_aret, i_vret, i_raise, i_throw, i_recv, i_objinit, i_tsw3, lget, lset, lput1, lput2, lkil, ltrim, largs, isL, takev, dropv, nthv, pushO, catv, gd, true_and, and_true, Option.some.injEq, Prod.mk.injEq, exists_eq_left', if_true, if_false, reduceCtorEq, Bool.false_eq_true, lcmp_ge, lcmp_lt, lcmp_le, lcmp_gt, lcmp_eq, true_or, or_true, not_true_eq_false, not_false_eq_true, false_implies, true_implies, List.length_cons, List.length_nil]
        refine fin 0 ?_
        rcases v1 with x | x
        · exact x.symm
        · have := hn0.mpr (v2.mp x); omega
      · refine wp_in ?_
        simp only [P_X16_member, i_kil, i_icon, i_lcon, i_null, i_loadI, i_loadL, i_loadR, i_istore, i_lstore, i_astore, i_iinc, i_dup, i_dup2, i_pop, i_iadd, i_isub, i_imul, i_idiv, i_irem, i_ineg, i_iand, i_ior, i_ishl, i_ishr, i_lxor, i_ladd, i_lsub, i_lmul, i_ldiv, i_lrem, i_lneg, i_lshl, i_lcmp, i_i2l, i_l2i, i_i2b, i_i2s, i_ifeq, i_ifne, i_iflt, i_ifge, i_ifgt, i_ifle, i_cmpeq, i_cmpne, i_cmplt, i_cmpge, i_cmpgt, i_cmple, i_acmpeq, i_acmpne, i_ifnull, i_ifnonnull, i_getI, i_getR, i_putI, i_putZ, i_putR, i_ald, i_ldL, i_ldR, i_ast, i_stL, i_stR, i_alen, i_new, i_newa, i_iret, i_zret, i_lret, i_aret, i_vret, i_raise, i_throw, i_recv, i_objinit, i_tsw3, lget, lset, lput1, lput2, lkil, ltrim, largs, isL, takev, dropv, nthv, pushO, catv, gd, true_and, and_true, Option.some.injEq, Prod.mk.injEq, exists_eq_left', if_true, if_false, reduceCtorEq, Bool.false_eq_true, lcmp_ge, lcmp_lt, lcmp_le, lcmp_gt, lcmp_eq, true_or, or_true, not_true_eq_false, not_false_eq_true, false_implies, true_implies, List.length_cons, List.length_nil]
        refine fin 1 ?_
        exact (v2.mpr (hn0.mp (by omega))).symm
    | succ L ih =>
      intro q D1 hq f1 f2 f3 f4 f5 f6 f7
      have h1 : msE D1 M c g d n tc st σ := h.congrA fun x y hx => f1 x y (by omega) (by omega) (by omega) (by omega) (by omega) (by omega)
      obtain ⟨χ', hχ'⟩ := f6 q (by omega)
      refine wp_in ?_
      simp only [P_X16_member, i_kil, i_icon, i_lcon, i_null, i_loadI, i_loadL, i_loadR, i_istore, i_lstore, i_astore, i_iinc, i_dup, i_dup2, i_pop, i_iadd, i_isub, i_imul, i_idiv, i_irem, i_ineg, i_iand, i_ior, i_ishl, i_ishr, i_lxor, i_ladd, i_lsub, i_lmul, i_ldiv, i_lrem, i_lneg, i_lshl, i_lcmp, i_i2l, i_l2i, i_i2b, i_i2s, i_ifeq, i_ifne, i_iflt, i_ifge, i_ifgt, i_ifle, i_cmpeq, i_cmpne, i_cmplt, i_cmpge, i_cmpgt, i_cmple, i_acmpeq, i_acmpne, i_ifnull, i_ifnonnull, i_getI, i_getR, i_putI, i_putZ, i_putR, i_ald, i_ldL, i_ldR, i_ast, i_stL, i_stR, i_alen, i_new, i_newa, i_iret, i_zret, i_lret, i_aret, i_vret, i_raise, i_throw, i_recv, i_objinit, i_tsw3, lget, lset, lput1, lput2, lkil, ltrim, largs, isL, takev, dropv, nthv, pushO, catv, gd, true_and, and_true, Option.some.injEq, Prod.mk.injEq, exists_eq_left', if_true, if_false, reduceCtorEq, Bool.false_eq_true, lcmp_ge, lcmp_lt, lcmp_le, lcmp_gt, lcmp_eq, true_or, or_true, not_true_eq_false, not_false_eq_true, false_implies, true_implies, List.length_cons, List.length_nil, M1, f3]
      repeat (first | refine ⟨in_small (by omega) (by omega), ?_⟩ | (show (_ → _) ∧ (_ → _); first | refine ⟨by omega, fun _ => ?_⟩ | refine ⟨fun _ => ?_, by omega⟩) | refine ⟨by omega, ?_⟩ | refine ⟨⟨_, rfl, by assumption⟩, ?_⟩ | refine ⟨okT_I _, ?_⟩ | refine ⟨okT_S (by omega) (by omega), ?_⟩ | refine ⟨okT_B (by omega) (by omega), ?_⟩ | refine call0 (gd_of rfl) ?_)
      refine sp_X16_tellWay (q := q) hM ho h1 hU hU4 hpS hpa ⟨na, ea, hpD.congr fun x y b1 b2 => f1 x y (by omega) (by omega) (by omega) (by omega) (by omega) (by omega)⟩ hφ (by omega) rfl f4 hχ' fun D2 g1 g2 g3 => ?_
      simp only [P_X16_member, i_kil, i_icon, i_lcon, i_null, i_loadI, i_loadL, i_loadR, i_istore, i_lstore, i_astore, i_iinc, i_dup, i_dup2, i_pop, i_iadd, i_isub, i_imul, i_idiv, i_irem, i_ineg, i_iand, i_ior, i_ishl, i_ishr, i_lxor, i_ladd, i_lsub, i_lmul, i_ldiv, i_lrem, i_lneg, i_lshl, i_lcmp, i_i2l, i_l2i, i_i2b, i_i2s, i_ifeq, i_ifne, i_iflt, i_ifge, i_ifgt, i_ifle, i_cmpeq, i_cmpne, i_cmplt, i_cmpge, i_cmpgt, i_cmple, i_acmpeq, i_acmpne, i_ifnull, i_ifnonnull, i_getI, i_getR, i_putI, i_putZ, i_putR, i_ald, i_ldL, i_ldR, i_ast, i_stL, i_stR, i_alen, i_new, i_newa, i_iret, i_zret, i_lret, i_aret, i_vret, i_raise, i_throw, i_recv, i_objinit, i_tsw3, lget, lset, lput1, lput2, lkil, ltrim, largs, isL, takev, dropv, nthv, pushO, catv, gd, true_and, and_true, Option.some.injEq, Prod.mk.injEq, exists_eq_left', if_true, if_false, reduceCtorEq, Bool.false_eq_true, lcmp_ge, lcmp_lt, lcmp_le, lcmp_gt, lcmp_eq, true_or, or_true, not_true_eq_false, not_false_eq_true, false_implies, true_implies, List.length_cons, List.length_nil]
      repeat (first | refine ⟨in_small (by omega) (by omega), ?_⟩ | (show (_ → _) ∧ (_ → _); first | refine ⟨by omega, fun _ => ?_⟩ | refine ⟨fun _ => ?_, by omega⟩) | refine ⟨by omega, ?_⟩ | refine ⟨⟨_, rfl, by assumption⟩, ?_⟩ | refine ⟨okT_I _, ?_⟩ | refine ⟨okT_S (by omega) (by omega), ?_⟩ | refine ⟨okT_B (by omega) (by omega), ?_⟩ | refine call0 (gd_of rfl) ?_)
      refine ih (q + 1) D2 (by omega) (fun x y y1 y2 y3 y4 y5 y6 => by rw [g1 x y (by omega) (by omega) (by omega) (y6 q (by omega))]; exact f1 x y y1 y2 y3 y4 y5 y6) (by rw [g1 _ _ (by omega) (by omega) (by omega) (by omega)]; exact f2) (by rw [g1 _ _ (by omega) (by omega) (by omega) (by omega)]; exact f3) g2 (f5.congr fun x y b1 b2 => g1 x y (by omega) (by omega) (by omega) (by omega)) (fun k hk => ?_) fun k hk => ?_
      · by_cases w : k = q
        · rw [w]; exact ⟨_, g3⟩
        · obtain ⟨χ2, hχ2⟩ := f6 k hk
          exact ⟨χ2, hχ2.congr fun x y b1 b2 => g1 x y (by omega) (by omega) (by omega) (by omega)⟩
      · by_cases w : k = q
        · rw [w]; exact g3
        · exact (f7 k (by omega)).congr fun x y b1 b2 => g1 x y (by omega) (by omega) (by omega) (by omega)
  have rows : ∀ (L k : Nat) (D1 : Dat), k + L = st.1 → mvW M D D1 → smP D1 (M + 568) (mrst st σ φ k) → Wp P_X16_member E 4 [some (aR M), none, none, some (aR pa), some (aI k)] [] B S D1 := by
    intro L
    induction L with
    | zero =>
      intro k D1 hk f1 f2
      have : k = st.1 := by omega
      subst this
      have e57 : D1 M 57 = st.1 := by rw [f1 _ _ (by omega) (by omega) (by omega)]; exact h.rows
      have hcnt : pcnt (mrst st σ φ st.1) 455 ≤ 60 := by
        have := pcnt_c4 (φ := mrst st σ φ st.1) (fun t ht hd => mrst_zero hO hSo hφ ht hd st.1 (Nat.le_refl _)) 455 (Nat.le_refl _)
        rw [c4_all] at this; omega
      refine wp_in ?_
      simp only [P_X16_member, i_kil, i_icon, i_lcon, i_null, i_loadI, i_loadL, i_loadR, i_istore, i_lstore, i_astore, i_iinc, i_dup, i_dup2, i_pop, i_iadd, i_isub, i_imul, i_idiv, i_irem, i_ineg, i_iand, i_ior, i_ishl, i_ishr, i_lxor, i_ladd, i_lsub, i_lmul, i_ldiv, i_lrem, i_lneg, i_lshl, i_lcmp, i_i2l, i_l2i, i_i2b, i_i2s, i_ifeq, i_ifne, i_iflt, i_ifge, i_ifgt, i_ifle, i_cmpeq, i_cmpne, i_cmplt, i_cmpge, i_cmpgt, i_cmple, i_acmpeq, i_acmpne, i_ifnull, i_ifnonnull, i_getI, i_getR, i_putI, i_putZ, i_putR, i_ald, i_ldL, i_ldR, i_ast, i_stL, i_stR, i_alen, i_new, i_newa, i_iret, i_zret, i_lret, i_aret, i_vret, i_raise, i_throw, i_recv, i_objinit, i_tsw3, lget, lset, lput1, lput2, lkil, ltrim, largs, isL, takev, dropv, nthv, pushO, catv, gd, true_and, and_true, Option.some.injEq, Prod.mk.injEq, exists_eq_left', if_true, if_false, reduceCtorEq, Bool.false_eq_true, lcmp_ge, lcmp_lt, lcmp_le, lcmp_gt, lcmp_eq, true_or, or_true, not_true_eq_false, not_false_eq_true, false_implies, true_implies, List.length_cons, List.length_nil, M1, e57, sm1, z1]
      repeat (first | refine ⟨in_small (by omega) (by omega), ?_⟩ | (show (_ → _) ∧ (_ → _); first | refine ⟨by omega, fun _ => ?_⟩ | refine ⟨fun _ => ?_, by omega⟩) | refine ⟨by omega, ?_⟩ | refine ⟨⟨_, rfl, by assumption⟩, ?_⟩ | refine ⟨okT_I _, ?_⟩ | refine ⟨okT_S (by omega) (by omega), ?_⟩ | refine ⟨okT_B (by omega) (by omega), ?_⟩ | refine call0 (gd_of rfl) ?_)
      refine sp_X19_to sm2 z2 (by omega) f2 hcnt fun D2 g1 g2 => ?_
      rw [mrst_rest ho hO hSo hφ0] at g2
      obtain ⟨nr, er, hr⟩ := id g2
      have hn0 := mpD_none hr
      have hr2 : pmu D2 M 27 1 (M + 80) 0 = nr := by simp only [pmu]; rw [if_neg (fun w => by omega)]; exact hr.2.1
      have e48 : pmu D2 M 27 1 M 48 = m := by
        simp only [pmu]
        rw [if_neg (fun w => by omega), g1 _ _ (by omega), f1 _ _ (by omega) (by omega) (by omega)]
        exact h48
      have seven : ∀ (v : Int) (mq : Nat), (v = 0 ∨ v = 1) → (v = 1 ↔ ∀ t, t < 455 → spRest st φ t = 0) → mq = (if v = 1 then m else 0) → Wp P_X16_member E 7 [some (aR M), none, none, some (aR pa)] [.inl (mq : Int), .inr (.inr (some M))] B S (pmu D2 M 27 1) := fun v mq v1 v2 hmq => by
        refine wp_in ?_
        simp only [P_X16_member, i_kil, i_icon, i_lcon, i_null, i_loadI, i_loadL, i_loadR, i_istore, i_lstore, i_astore, i_iinc, i_dup, i_dup2, i_pop, i_iadd, i_isub, i_imul, i_idiv, i_irem, i_ineg, i_iand, i_ior, i_ishl, i_ishr, i_lxor, i_ladd, i_lsub, i_lmul, i_ldiv, i_lrem, i_lneg, i_lshl, i_lcmp, i_i2l, i_l2i, i_i2b, i_i2s, i_ifeq, i_ifne, i_iflt, i_ifge, i_ifgt, i_ifle, i_cmpeq, i_cmpne, i_cmplt, i_cmpge, i_cmpgt, i_cmple, i_acmpeq, i_acmpne, i_ifnull, i_ifnonnull, i_getI, i_getR, i_putI, i_putZ, i_putR, i_ald, i_ldL, i_ldR, i_ast, i_stL, i_stR, i_alen, i_new, i_newa, i_iret, i_zret, i_lret, i_aret, i_vret, i_raise, i_throw, i_recv, i_objinit, i_tsw3, lget, lset, lput1, lput2, lkil, ltrim, largs, isL, takev, dropv, nthv, pushO, catv, gd, true_and, and_true, Option.some.injEq, Prod.mk.injEq, exists_eq_left', if_true, if_false, reduceCtorEq, Bool.false_eq_true, lcmp_ge, lcmp_lt, lcmp_le, lcmp_gt, lcmp_eq, true_or, or_true, not_true_eq_false, not_false_eq_true, false_implies, true_implies, List.length_cons, List.length_nil, M1]
        have fr : ∀ x y, (x ≠ M ∨ y ≠ 25 ∧ y ≠ 27) → pmu (pmu D2 M 27 1) M 25 (mq : Int) x y = D2 x y := fun x y h => by
          simp only [pmu]; rw [if_neg (fun w => by omega), if_neg (fun w => by omega)]
        refine ways v v1 v2 mq hmq mq 0 _ (by omega) (fun x y y1 y2 y3 y4 y5 y6 => by rw [fr x y y2, g1 x y (by omega)]; exact f1 x y y1 y4 y5) (by simp [pmu]) (by simp [pmu]) ⟨_, f2.congr fun x y b1 b2 => by rw [fr x y (by omega), g1 x y (by omega)]⟩ (g2.congr fun x y b1 b2 => fr x y (by omega)) (fun q hq => ⟨χ q, (hχ q hq).congr fun x y b1 b2 => by rw [fr x y (by omega), g1 x y (by omega)]; exact f1 x y (by omega) (by omega) (by omega)⟩) fun q hq => by omega
      simp only [P_X16_member, i_kil, i_icon, i_lcon, i_null, i_loadI, i_loadL, i_loadR, i_istore, i_lstore, i_astore, i_iinc, i_dup, i_dup2, i_pop, i_iadd, i_isub, i_imul, i_idiv, i_irem, i_ineg, i_iand, i_ior, i_ishl, i_ishr, i_lxor, i_ladd, i_lsub, i_lmul, i_ldiv, i_lrem, i_lneg, i_lshl, i_lcmp, i_i2l, i_l2i, i_i2b, i_i2s, i_ifeq, i_ifne, i_iflt, i_ifge, i_ifgt, i_ifle, i_cmpeq, i_cmpne, i_cmplt, i_cmpge, i_cmpgt, i_cmple, i_acmpeq, i_acmpne, i_ifnull, i_ifnonnull, i_getI, i_getR, i_putI, i_putZ, i_putR, i_ald, i_ldL, i_ldR, i_ast, i_stL, i_stR, i_alen, i_new, i_newa, i_iret, i_zret, i_lret, i_aret, i_vret, i_raise, i_throw, i_recv, i_objinit, i_tsw3, lget, lset, lput1, lput2, lkil, ltrim, largs, isL, takev, dropv, nthv, pushO, catv, gd, true_and, and_true, Option.some.injEq, Prod.mk.injEq, exists_eq_left', if_true, if_false, reduceCtorEq, Bool.false_eq_true, lcmp_ge, lcmp_lt, lcmp_le, lcmp_gt, lcmp_eq, true_or, or_true, not_true_eq_false, not_false_eq_true, false_implies, true_implies, List.length_cons, List.length_nil, M1, z1, rg1, hr2, e48]
      repeat (first | refine ⟨in_small (by omega) (by omega), ?_⟩ | (show (_ → _) ∧ (_ → _); first | refine ⟨by omega, fun _ => ?_⟩ | refine ⟨fun _ => ?_, by omega⟩) | refine ⟨by omega, ?_⟩ | refine ⟨⟨_, rfl, by assumption⟩, ?_⟩ | refine ⟨okT_I _, ?_⟩ | refine ⟨okT_S (by omega) (by omega), ?_⟩ | refine ⟨okT_B (by omega) (by omega), ?_⟩ | refine call0 (gd_of rfl) ?_)
      refine ⟨fun w => ?_, fun w => ?_⟩
      · exact seven 0 0 (.inl rfl) ⟨fun x => by omega, fun x => by have := hn0.mpr x; omega⟩ (by rw [if_neg (by decide)])
      · have w0 : nr = 0 := by omega
        exact seven 1 m (.inr rfl) ⟨fun _ => hn0.mp w0, fun _ => rfl⟩ (by rw [if_pos rfl])
    | succ L ih =>
      intro k D1 hk f1 f2
      have hks : k < st.1 := by omega
      have hsk := hSo.1 k hks
      have h1 : msE D1 M c g d n tc st σ := h.congrA fun x y hx => f1 x y (by omega) (by omega) (by omega)
      have e57 := h1.rows
      have hlt := (spLd_lt hO hSo hks).1
      have hpD1 : mpD D1 pa φ na ea := hpD.congr fun x y b1 b2 => f1 x y (by omega) (by omega) (by omega)
      obtain ⟨m1, m2⟩ := l3 k (by omega)
      obtain ⟨b1, b2, b3, b4, b5, b6, b7⟩ := id m2
      have b51 := b5.1
      have b71 := b7.1
      obtain ⟨me, ee, hel⟩ := (h1.2.2.2.2.2 k hks).2
      have eid : ∀ i j, i < me → j < me → ee i = ee j → i = j := fun i j hi hj e => by
        rcases Nat.lt_trichotomy i j with x | x | x
        · have := hel.2.2.2.1 i j x hj; omega
        · exact x
        · have := hel.2.2.2.1 j i x hi; omega
      have eno : ∀ t, (∀ i, i < me → ee i ≠ t) → spEl st σ k t = 0 := fun t ht => by
        by_cases w : t < 455
        · exact hel.2.2.2.2.1 t w ht
        · unfold spEl; rw [if_neg w]
      have six : ∀ D2 : Dat, mvW M D D2 → smP D2 (M + 568) (mrst st σ φ (k + 1)) → Wp P_X16_member E 6 [some (aR M), none, none, some (aR pa), some (aI k)] [] B S D2 := fun D2 g1 g2 => by
        refine wp_in ?_
        simp only [P_X16_member, i_kil, i_icon, i_lcon, i_null, i_loadI, i_loadL, i_loadR, i_istore, i_lstore, i_astore, i_iinc, i_dup, i_dup2, i_pop, i_iadd, i_isub, i_imul, i_idiv, i_irem, i_ineg, i_iand, i_ior, i_ishl, i_ishr, i_lxor, i_ladd, i_lsub, i_lmul, i_ldiv, i_lrem, i_lneg, i_lshl, i_lcmp, i_i2l, i_l2i, i_i2b, i_i2s, i_ifeq, i_ifne, i_iflt, i_ifge, i_ifgt, i_ifle, i_cmpeq, i_cmpne, i_cmplt, i_cmpge, i_cmpgt, i_cmple, i_acmpeq, i_acmpne, i_ifnull, i_ifnonnull, i_getI, i_getR, i_putI, i_putZ, i_putR, i_ald, i_ldL, i_ldR, i_ast, i_stL, i_stR, i_alen, i_new, i_newa, i_iret, i_zret, i_lret, i_aret, i_vret, i_raise, i_throw, i_recv, i_objinit, i_tsw3, lget, lset, lput1, lput2, lkil, ltrim, largs, isL, takev, dropv, nthv, pushO, catv, gd, true_and, and_true, Option.some.injEq, Prod.mk.injEq, exists_eq_left', if_true, if_false, reduceCtorEq, Bool.false_eq_true, lcmp_ge, lcmp_lt, lcmp_le, lcmp_gt, lcmp_eq, true_or, or_true, not_true_eq_false, not_false_eq_true, false_implies, true_implies, List.length_cons, List.length_nil]
        repeat (first | refine ⟨in_small (by omega) (by omega), ?_⟩ | (show (_ → _) ∧ (_ → _); first | refine ⟨by omega, fun _ => ?_⟩ | refine ⟨fun _ => ?_, by omega⟩) | refine ⟨by omega, ?_⟩ | refine ⟨⟨_, rfl, by assumption⟩, ?_⟩ | refine ⟨okT_I _, ?_⟩ | refine ⟨okT_S (by omega) (by omega), ?_⟩ | refine ⟨okT_B (by omega) (by omega), ?_⟩ | refine call0 (gd_of rfl) ?_)
        exact ih (k + 1) D2 (by omega) g1 g2
      refine wp_in ?_
      simp only [P_X16_member, i_kil, i_icon, i_lcon, i_null, i_loadI, i_loadL, i_loadR, i_istore, i_lstore, i_astore, i_iinc, i_dup, i_dup2, i_pop, i_iadd, i_isub, i_imul, i_idiv, i_irem, i_ineg, i_iand, i_ior, i_ishl, i_ishr, i_lxor, i_ladd, i_lsub, i_lmul, i_ldiv, i_lrem, i_lneg, i_lshl, i_lcmp, i_i2l, i_l2i, i_i2b, i_i2s, i_ifeq, i_ifne, i_iflt, i_ifge, i_ifgt, i_ifle, i_cmpeq, i_cmpne, i_cmplt, i_cmpge, i_cmpgt, i_cmple, i_acmpeq, i_acmpne, i_ifnull, i_ifnonnull, i_getI, i_getR, i_putI, i_putZ, i_putR, i_ald, i_ldL, i_ldR, i_ast, i_stL, i_stR, i_alen, i_new, i_newa, i_iret, i_zret, i_lret, i_aret, i_vret, i_raise, i_throw, i_recv, i_objinit, i_tsw3, lget, lset, lput1, lput2, lkil, ltrim, largs, isL, takev, dropv, nthv, pushO, catv, gd, true_and, and_true, Option.some.injEq, Prod.mk.injEq, exists_eq_left', if_true, if_false, reduceCtorEq, Bool.false_eq_true, lcmp_ge, lcmp_lt, lcmp_le, lcmp_gt, lcmp_eq, true_or, or_true, not_true_eq_false, not_false_eq_true, false_implies, true_implies, List.length_cons, List.length_nil, M1, e57]
      repeat (first | refine ⟨in_small (by omega) (by omega), ?_⟩ | (show (_ → _) ∧ (_ → _); first | refine ⟨by omega, fun _ => ?_⟩ | refine ⟨fun _ => ?_, by omega⟩) | refine ⟨by omega, ?_⟩ | refine ⟨⟨_, rfl, by assumption⟩, ?_⟩ | refine ⟨okT_I _, ?_⟩ | refine ⟨okT_S (by omega) (by omega), ?_⟩ | refine ⟨okT_B (by omega) (by omega), ?_⟩ | refine call0 (gd_of rfl) ?_)
      refine mlead_at (k := k) hMt h1 hks rfl ?_
      simp only [P_X16_member, i_kil, i_icon, i_lcon, i_null, i_loadI, i_loadL, i_loadR, i_istore, i_lstore, i_astore, i_iinc, i_dup, i_dup2, i_pop, i_iadd, i_isub, i_imul, i_idiv, i_irem, i_ineg, i_iand, i_ior, i_ishl, i_ishr, i_lxor, i_ladd, i_lsub, i_lmul, i_ldiv, i_lrem, i_lneg, i_lshl, i_lcmp, i_i2l, i_l2i, i_i2b, i_i2s, i_ifeq, i_ifne, i_iflt, i_ifge, i_ifgt, i_ifle, i_cmpeq, i_cmpne, i_cmplt, i_cmpge, i_cmpgt, i_cmple, i_acmpeq, i_acmpne, i_ifnull, i_ifnonnull, i_getI, i_getR, i_putI, i_putZ, i_putR, i_ald, i_ldL, i_ldR, i_ast, i_stL, i_stR, i_alen, i_new, i_newa, i_iret, i_zret, i_lret, i_aret, i_vret, i_raise, i_throw, i_recv, i_objinit, i_tsw3, lget, lset, lput1, lput2, lkil, ltrim, largs, isL, takev, dropv, nthv, pushO, catv, gd, true_and, and_true, Option.some.injEq, Prod.mk.injEq, exists_eq_left', if_true, if_false, reduceCtorEq, Bool.false_eq_true, lcmp_ge, lcmp_lt, lcmp_le, lcmp_gt, lcmp_eq, true_or, or_true, not_true_eq_false, not_false_eq_true, false_implies, true_implies, List.length_cons, List.length_nil]
      repeat (first | refine ⟨in_small (by omega) (by omega), ?_⟩ | (show (_ → _) ∧ (_ → _); first | refine ⟨by omega, fun _ => ?_⟩ | refine ⟨fun _ => ?_, by omega⟩) | refine ⟨by omega, ?_⟩ | refine ⟨⟨_, rfl, by assumption⟩, ?_⟩ | refine ⟨okT_I _, ?_⟩ | refine ⟨okT_S (by omega) (by omega), ?_⟩ | refine ⟨okT_B (by omega) (by omega), ?_⟩ | refine call0 (gd_of rfl) ?_)
      refine find_at (t := spLd st σ k) hpS hpD1 hlt rfl (fun hf0 => ?_) (fun j hj hej => ?_)
      · have hel2 := hel.2.1
        have same : mrst st σ φ (k + 1) = mrst st σ φ k := by
          funext t
          simp only [mrst]
          rw [hf0]; grind
        simp only [P_X16_member, i_kil, i_icon, i_lcon, i_null, i_loadI, i_loadL, i_loadR, i_istore, i_lstore, i_astore, i_iinc, i_dup, i_dup2, i_pop, i_iadd, i_isub, i_imul, i_idiv, i_irem, i_ineg, i_iand, i_ior, i_ishl, i_ishr, i_lxor, i_ladd, i_lsub, i_lmul, i_ldiv, i_lrem, i_lneg, i_lshl, i_lcmp, i_i2l, i_l2i, i_i2b, i_i2s, i_ifeq, i_ifne, i_iflt, i_ifge, i_ifgt, i_ifle, i_cmpeq, i_cmpne, i_cmplt, i_cmpge, i_cmpgt, i_cmple, i_acmpeq, i_acmpne, i_ifnull, i_ifnonnull, i_getI, i_getR, i_putI, i_putZ, i_putR, i_ald, i_ldL, i_ldR, i_ast, i_stL, i_stR, i_alen, i_new, i_newa, i_iret, i_zret, i_lret, i_aret, i_vret, i_raise, i_throw, i_recv, i_objinit, i_tsw3, lget, lset, lput1, lput2, lkil, ltrim, largs, isL, takev, dropv, nthv, pushO, catv, gd, true_and, and_true, Option.some.injEq, Prod.mk.injEq, exists_eq_left', if_true, if_false, reduceCtorEq, Bool.false_eq_true, lcmp_ge, lcmp_lt, lcmp_le, lcmp_gt, lcmp_eq, true_or, or_true, not_true_eq_false, not_false_eq_true, false_implies, true_implies, List.length_cons, List.length_nil]
        refine wp_in ?_
        simp only [P_X16_member, i_kil, i_icon, i_lcon, i_null, i_loadI, i_loadL, i_loadR, i_istore, i_lstore, i_astore, i_iinc, i_dup, i_dup2, i_pop, i_iadd, i_isub, i_imul, i_idiv, i_irem, i_ineg, i_iand, i_ior, i_ishl, i_ishr, i_lxor, i_ladd, i_lsub, i_lmul, i_ldiv, i_lrem, i_lneg, i_lshl, i_lcmp, i_i2l, i_l2i, i_i2b, i_i2s, i_ifeq, i_ifne, i_iflt, i_ifge, i_ifgt, i_ifle, i_cmpeq, i_cmpne, i_cmplt, i_cmpge, i_cmpgt, i_cmple, i_acmpeq, i_acmpne, i_ifnull, i_ifnonnull, i_getI, i_getR, i_putI, i_putZ, i_putR, i_ald, i_ldL, i_ldR, i_ast, i_stL, i_stR, i_alen, i_new, i_newa, i_iret, i_zret, i_lret, i_aret, i_vret, i_raise, i_throw, i_recv, i_objinit, i_tsw3, lget, lset, lput1, lput2, lkil, ltrim, largs, isL, takev, dropv, nthv, pushO, catv, gd, true_and, and_true, Option.some.injEq, Prod.mk.injEq, exists_eq_left', if_true, if_false, reduceCtorEq, Bool.false_eq_true, lcmp_ge, lcmp_lt, lcmp_le, lcmp_gt, lcmp_eq, true_or, or_true, not_true_eq_false, not_false_eq_true, false_implies, true_implies, List.length_cons, List.length_nil, M1, l1, l2, m1, b1, hel2]
        repeat (first | refine ⟨in_small (by omega) (by omega), ?_⟩ | (show (_ → _) ∧ (_ → _); first | refine ⟨by omega, fun _ => ?_⟩ | refine ⟨fun _ => ?_, by omega⟩) | refine ⟨by omega, ?_⟩ | refine ⟨⟨_, rfl, by assumption⟩, ?_⟩ | refine ⟨okT_I _, ?_⟩ | refine ⟨okT_S (by omega) (by omega), ?_⟩ | refine ⟨okT_B (by omega) (by omega), ?_⟩ | refine call0 (gd_of rfl) ?_)
        have fin := six D1 f1 (by rw [same]; exact f2)
        exact ⟨fun _ => fin, fun _ => ⟨fun _ => fin, fun w => absurd w (by decide)⟩⟩
      · obtain ⟨y1, y2, y3, y4⟩ := hpD1.2.2.1 j hj
        have na60 := hpD1.1
        have num1 := (a5.2 j (by omega))
        have a51 := a5.1
        have n11 := num1.1
        obtain ⟨φd, φn⟩ := hφ.1 _ hlt
        have hb1 : ((φ (spLd st σ k)).num.natAbs : Int) < 1000000000 ^ 1 := by
          have : (1000000000 : Int) ^ 1 = 1000000000 := by decide
          rw [this]; omega
        have terms : ∀ (L2 i : Nat) (D2 : Dat), i + L2 = me → mvW M D D2 → smP D2 (M + 568) (gat (mrst st σ φ k) ee (fun i => -φ (spLd st σ k) * spEl st σ k (ee i)) i) → Wp P_X16_member E 5 [some (aR M), none, none, some (aR pa), some (aI k), some (aI j), some (aI i)] [] B S D2 := by
          intro L2
          induction L2 with
          | zero =>
            intro i D2 hi g1 g2
            have : i = me := by omega
            subst this
            have hel2 : D2 (M + 19027 + 244 * k) 0 = i := by rw [g1 _ _ (by omega) (by omega) (by omega), ← f1 _ _ (by omega) (by omega) (by omega)]; exact hel.2.1
            refine wp_in ?_
            simp only [P_X16_member, i_kil, i_icon, i_lcon, i_null, i_loadI, i_loadL, i_loadR, i_istore, i_lstore, i_astore, i_iinc, i_dup, i_dup2, i_pop, i_iadd, i_isub, i_imul, i_idiv, i_irem, i_ineg, i_iand, i_ior, i_ishl, i_ishr, i_lxor, i_ladd, i_lsub, i_lmul, i_ldiv, i_lrem, i_lneg, i_lshl, i_lcmp, i_i2l, i_l2i, i_i2b, i_i2s, i_ifeq, i_ifne, i_iflt, i_ifge, i_ifgt, i_ifle, i_cmpeq, i_cmpne, i_cmplt, i_cmpge, i_cmpgt, i_cmple, i_acmpeq, i_acmpne, i_ifnull, i_ifnonnull, i_getI, i_getR, i_putI, i_putZ, i_putR, i_ald, i_ldL, i_ldR, i_ast, i_stL, i_stR, i_alen, i_new, i_newa, i_iret, i_zret, i_lret, i_aret, i_vret, i_raise, i_throw, i_recv, i_objinit, i_tsw3, lget, lset, lput1, lput2, lkil, ltrim, largs, isL, takev, dropv, nthv, pushO, catv, gd, true_and, and_true, Option.some.injEq, Prod.mk.injEq, exists_eq_left', if_true, if_false, reduceCtorEq, Bool.false_eq_true, lcmp_ge, lcmp_lt, lcmp_le, lcmp_gt, lcmp_eq, true_or, or_true, not_true_eq_false, not_false_eq_true, false_implies, true_implies, List.length_cons, List.length_nil, M1, l1, l2, m1, b1, hel2]
            repeat (first | refine ⟨in_small (by omega) (by omega), ?_⟩ | (show (_ → _) ∧ (_ → _); first | refine ⟨by omega, fun _ => ?_⟩ | refine ⟨fun _ => ?_, by omega⟩) | refine ⟨by omega, ?_⟩ | refine ⟨⟨_, rfl, by assumption⟩, ?_⟩ | refine ⟨okT_I _, ?_⟩ | refine ⟨okT_S (by omega) (by omega), ?_⟩ | refine ⟨okT_B (by omega) (by omega), ?_⟩ | refine call0 (gd_of rfl) ?_)
            refine six D2 g1 ?_
            rw [gat_all eid eno] at g2
            have e : mrst st σ φ (k + 1) = fun t => mrst st σ φ k t + -φ (spLd st σ k) * spEl st σ k t := by
              funext t
              simp only [mrst]; grind
            rw [e]; exact g2
          | succ L2 ih2 =>
            intro i D2 hi g1 g2
            have hel' : mpD D2 (M + 19027 + 244 * k) (spEl st σ k) me ee := hel.congr fun x y b1 b2 => by rw [g1 _ _ (by omega) (by omega) (by omega), f1 _ _ (by omega) (by omega) (by omega)]
            have me60 := hel'.1
            have hel2 := hel'.2.1
            obtain ⟨c1, c2, c3, c4⟩ := hel'.2.2.1 i (by omega)
            obtain ⟨d1, d2⟩ := b5.2 i (by omega)
            obtain ⟨d3, d4⟩ := b7.2 i (by omega)
            have hpD2 : mpD D2 pa φ na ea := hpD.congr fun x y b1 b2 => g1 x y (by omega) (by omega) (by omega)
            have hnum : wD 2 1 D2 (pa + 3 + 2 * j) (φ (spLd st σ k)).num := by rw [← hej]; exact (hpD2.2.2.1 j hj).2.2.1.1
            have hf : qfit (spEl st σ k (ee i)) := hel'.2.2.2.2.2.1 _ c1
            have hden : ((spEl st σ k (ee i)).den : Int) ≠ 0 := by have := (spEl st σ k (ee i)).den_pos; omega
            refine wp_in ?_
            simp only [P_X16_member, i_kil, i_icon, i_lcon, i_null, i_loadI, i_loadL, i_loadR, i_istore, i_lstore, i_astore, i_iinc, i_dup, i_dup2, i_pop, i_iadd, i_isub, i_imul, i_idiv, i_irem, i_ineg, i_iand, i_ior, i_ishl, i_ishr, i_lxor, i_ladd, i_lsub, i_lmul, i_ldiv, i_lrem, i_lneg, i_lshl, i_lcmp, i_i2l, i_l2i, i_i2b, i_i2s, i_ifeq, i_ifne, i_iflt, i_ifge, i_ifgt, i_ifle, i_cmpeq, i_cmpne, i_cmplt, i_cmpge, i_cmpgt, i_cmple, i_acmpeq, i_acmpne, i_ifnull, i_ifnonnull, i_getI, i_getR, i_putI, i_putZ, i_putR, i_ald, i_ldL, i_ldR, i_ast, i_stL, i_stR, i_alen, i_new, i_newa, i_iret, i_zret, i_lret, i_aret, i_vret, i_raise, i_throw, i_recv, i_objinit, i_tsw3, lget, lset, lput1, lput2, lkil, ltrim, largs, isL, takev, dropv, nthv, pushO, catv, gd, true_and, and_true, Option.some.injEq, Prod.mk.injEq, exists_eq_left', if_true, if_false, reduceCtorEq, Bool.false_eq_true, lcmp_ge, lcmp_lt, lcmp_le, lcmp_gt, lcmp_eq, true_or, or_true, not_true_eq_false, not_false_eq_true, false_implies, true_implies, List.length_cons, List.length_nil, M1, l1, l2, m1, b1, hel2]
            repeat (first | refine ⟨in_small (by omega) (by omega), ?_⟩ | (show (_ → _) ∧ (_ → _); first | refine ⟨by omega, fun _ => ?_⟩ | refine ⟨fun _ => ?_, by omega⟩) | refine ⟨by omega, ?_⟩ | refine ⟨⟨_, rfl, by assumption⟩, ?_⟩ | refine ⟨okT_I _, ?_⟩ | refine ⟨okT_S (by omega) (by omega), ?_⟩ | refine ⟨okT_B (by omega) (by omega), ?_⟩ | refine call0 (gd_of rfl) ?_)
            simp only [P_X16_member, i_kil, i_icon, i_lcon, i_null, i_loadI, i_loadL, i_loadR, i_istore, i_lstore, i_astore, i_iinc, i_dup, i_dup2, i_pop, i_iadd, i_isub, i_imul, i_idiv, i_irem, i_ineg, i_iand, i_ior, i_ishl, i_ishr, i_lxor, i_ladd, i_lsub, i_lmul, i_ldiv, i_lrem, i_lneg, i_lshl, i_lcmp, i_i2l, i_l2i, i_i2b, i_i2s, i_ifeq, i_ifne, i_iflt, i_ifge, i_ifgt, i_ifle, i_cmpeq, i_cmpne, i_cmplt, i_cmpge, i_cmpgt, i_cmple, i_acmpeq, i_acmpne, i_ifnull, i_ifnonnull, i_getI, i_getR, i_putI, i_putZ, i_putR, i_ald, i_ldL, i_ldR, i_ast, i_stL, i_stR, i_alen, i_new, i_newa, i_iret, i_zret, i_lret, i_aret, i_vret, i_raise, i_throw, i_recv, i_objinit, i_tsw3, lget, lset, lput1, lput2, lkil, ltrim, largs, isL, takev, dropv, nthv, pushO, catv, gd, true_and, and_true, Option.some.injEq, Prod.mk.injEq, exists_eq_left', if_true, if_false, reduceCtorEq, Bool.false_eq_true, lcmp_ge, lcmp_lt, lcmp_le, lcmp_gt, lcmp_eq, true_or, or_true, not_true_eq_false, not_false_eq_true, false_implies, true_implies, List.length_cons, List.length_nil, M1, t1, a1, a4, a51, n11, l1, l2, m1, b1, b4, b51, d1]
            repeat (first | refine ⟨in_small (by omega) (by omega), ?_⟩ | (show (_ → _) ∧ (_ → _); first | refine ⟨by omega, fun _ => ?_⟩ | refine ⟨fun _ => ?_, by omega⟩) | refine ⟨by omega, ?_⟩ | refine ⟨⟨_, rfl, by assumption⟩, ?_⟩ | refine ⟨okT_I _, ?_⟩ | refine ⟨okT_S (by omega) (by omega), ?_⟩ | refine ⟨okT_B (by omega) (by omega), ?_⟩ | refine call0 (gd_of rfl) ?_)
            refine sp_X16_multiply (p := 1) (q := 14) t2 num1.2 d2 M1 ms2 ms3 (by omega) (by omega) (by omega) hnum c3.1 hb1 hf.n (by omega) (by omega) (by omega) (by omega) (by omega) (by omega) (by omega) fun D3 j1 j2 => ?_
            have ec3 : D3 (M + 19027 + 244 * k + 1) i = tcode (ee i) := by rw [j1 _ _ (by omega) (by omega) (by omega)]; exact c2
            have zd : wD 2 1 D3 (M + 19027 + 244 * k + 124 + 2 * i) ((spEl st σ k (ee i)).den : Int) := c3.2.congr (fun y => j1 _ _ (by omega) (by omega) (by omega)) (fun y => j1 _ _ (by omega) (by omega) (by omega))
            simp only [P_X16_member, i_kil, i_icon, i_lcon, i_null, i_loadI, i_loadL, i_loadR, i_istore, i_lstore, i_astore, i_iinc, i_dup, i_dup2, i_pop, i_iadd, i_isub, i_imul, i_idiv, i_irem, i_ineg, i_iand, i_ior, i_ishl, i_ishr, i_lxor, i_ladd, i_lsub, i_lmul, i_ldiv, i_lrem, i_lneg, i_lshl, i_lcmp, i_i2l, i_l2i, i_i2b, i_i2s, i_ifeq, i_ifne, i_iflt, i_ifge, i_ifgt, i_ifle, i_cmpeq, i_cmpne, i_cmplt, i_cmpge, i_cmpgt, i_cmple, i_acmpeq, i_acmpne, i_ifnull, i_ifnonnull, i_getI, i_getR, i_putI, i_putZ, i_putR, i_ald, i_ldL, i_ldR, i_ast, i_stL, i_stR, i_alen, i_new, i_newa, i_iret, i_zret, i_lret, i_aret, i_vret, i_raise, i_throw, i_recv, i_objinit, i_tsw3, lget, lset, lput1, lput2, lkil, ltrim, largs, isL, takev, dropv, nthv, pushO, catv, gd, true_and, and_true, Option.some.injEq, Prod.mk.injEq, exists_eq_left', if_true, if_false, reduceCtorEq, Bool.false_eq_true, lcmp_ge, lcmp_lt, lcmp_le, lcmp_gt, lcmp_eq, true_or, or_true, not_true_eq_false, not_false_eq_true, false_implies, true_implies, List.length_cons, List.length_nil, M1, sm1, t1, l1, l2, m1, b1, b2, b3, ec3, b6, b71, d3]
            repeat (first | refine ⟨in_small (by omega) (by omega), ?_⟩ | (show (_ → _) ∧ (_ → _); first | refine ⟨by omega, fun _ => ?_⟩ | refine ⟨fun _ => ?_, by omega⟩) | refine ⟨by omega, ?_⟩ | refine ⟨⟨_, rfl, by assumption⟩, ?_⟩ | refine ⟨okT_I _, ?_⟩ | refine ⟨okT_S (by omega) (by omega), ?_⟩ | refine ⟨okT_B (by omega) (by omega), ?_⟩ | refine call0 (gd_of rfl) ?_)
            have hdv : Rat.divInt ((φ (spLd st σ k)).num * (spEl st σ k (ee i)).num) ((spEl st σ k (ee i)).den : Int) = φ (spLd st σ k) * spEl st σ k (ee i) := by
              have hq : (((spEl st σ k (ee i)).den : Int) : Rat) ≠ 0 := fun w => hden (Rat.intCast_inj.mp w)
              rw [Rat.divInt_eq_div, Rat.intCast_mul, ← rat_num φd, ← den_qmul, Rat.div_def]
              have : (((spEl st σ k (ee i)).den : Int) : Rat) * (((spEl st σ k (ee i)).den : Int) : Rat)⁻¹ = 1 := Rat.mul_inv_cancel _ hq
              grind
            have hat : gat (mrst st σ φ k) ee (fun i => -φ (spLd st σ k) * spEl st σ k (ee i)) i (ee i) = mrst st σ φ k (ee i) := gat_at i (ee i) fun y hy w => by
              have := eid y i (by omega) (by omega) w
              omega
            have hsum : gat (mrst st σ φ k) ee (fun i => -φ (spLd st σ k) * spEl st σ k (ee i)) i (ee i) + ((-1 : Int) : Rat) * Rat.divInt ((φ (spLd st σ k)).num * (spEl st σ k (ee i)).num) ((spEl st σ k (ee i)).den : Int) = gat (mrst st σ φ k) ee (fun i => -φ (spLd st σ k) * spEl st σ k (ee i)) i (ee i) + -φ (spLd st σ k) * spEl st σ k (ee i) := by
              rw [hdv]
              have : ((-1 : Int) : Rat) = -1 := rfl
              rw [this]; grind
            have hpr := pw_mul hb1 hf.n
            rw [show 1 + 14 = 15 from rfl] at hpr
            refine sp_X16_gather (t := ee i) (p := 15) (q := 14) hg sm2 (by omega) (g2.congr fun x y y1 y2 => j1 x y (by omega) (by omega) (by omega)) c1 rfl t2 d4 (by omega) (by omega) (by omega) (by omega) j2 zd hden (.inr rfl) hpr hf.d (by omega) (by omega) (by omega) (by omega) (by omega) (by omega) (fun D4 k1 k2 k3 => ?_) (fun D4 k1 k2 k3 => ?_)
            · simp only [P_X16_member, i_kil, i_icon, i_lcon, i_null, i_loadI, i_loadL, i_loadR, i_istore, i_lstore, i_astore, i_iinc, i_dup, i_dup2, i_pop, i_iadd, i_isub, i_imul, i_idiv, i_irem, i_ineg, i_iand, i_ior, i_ishl, i_ishr, i_lxor, i_ladd, i_lsub, i_lmul, i_ldiv, i_lrem, i_lneg, i_lshl, i_lcmp, i_i2l, i_l2i, i_i2b, i_i2s, i_ifeq, i_ifne, i_iflt, i_ifge, i_ifgt, i_ifle, i_cmpeq, i_cmpne, i_cmplt, i_cmpge, i_cmpgt, i_cmple, i_acmpeq, i_acmpne, i_ifnull, i_ifnonnull, i_getI, i_getR, i_putI, i_putZ, i_putR, i_ald, i_ldL, i_ldR, i_ast, i_stL, i_stR, i_alen, i_new, i_newa, i_iret, i_zret, i_lret, i_aret, i_vret, i_raise, i_throw, i_recv, i_objinit, i_tsw3, lget, lset, lput1, lput2, lkil, ltrim, largs, isL, takev, dropv, nthv, pushO, catv, gd, true_and, and_true, Option.some.injEq, Prod.mk.injEq, exists_eq_left', if_true, if_false, reduceCtorEq, Bool.false_eq_true, lcmp_ge, lcmp_lt, lcmp_le, lcmp_gt, lcmp_eq, true_or, or_true, not_true_eq_false, not_false_eq_true, false_implies, true_implies, List.length_cons, List.length_nil]
              repeat (first | refine ⟨in_small (by omega) (by omega), ?_⟩ | (show (_ → _) ∧ (_ → _); first | refine ⟨by omega, fun _ => ?_⟩ | refine ⟨fun _ => ?_, by omega⟩) | refine ⟨by omega, ?_⟩ | refine ⟨⟨_, rfl, by assumption⟩, ?_⟩ | refine ⟨okT_I _, ?_⟩ | refine ⟨okT_S (by omega) (by omega), ?_⟩ | refine ⟨okT_B (by omega) (by omega), ?_⟩ | refine call0 (gd_of rfl) ?_)
              rw [hsum] at k3
              refine ih2 (i + 1) D4 (by omega) (fun x y z1 z2 z3 => by rw [k1 x y (by omega) (by omega), j1 x y (by omega) (by omega) (by omega)]; exact g1 x y z1 z2 z3) ?_
              exact k3
            · rw [hsum, hat] at k2
              have e : mrst st σ φ k (ee i) + -φ (spLd st σ k) * spEl st σ k (ee i) = mrst st σ φ (k + 1) (ee i) := by
                simp only [mrst]; grind
              rw [e] at k2
              exact absurd (mrst_fit hO hSo hφ c1 (by omega)) k2
        simp only [P_X16_member, i_kil, i_icon, i_lcon, i_null, i_loadI, i_loadL, i_loadR, i_istore, i_lstore, i_astore, i_iinc, i_dup, i_dup2, i_pop, i_iadd, i_isub, i_imul, i_idiv, i_irem, i_ineg, i_iand, i_ior, i_ishl, i_ishr, i_lxor, i_ladd, i_lsub, i_lmul, i_ldiv, i_lrem, i_lneg, i_lshl, i_lcmp, i_i2l, i_l2i, i_i2b, i_i2s, i_ifeq, i_ifne, i_iflt, i_ifge, i_ifgt, i_ifle, i_cmpeq, i_cmpne, i_cmplt, i_cmpge, i_cmpgt, i_cmple, i_acmpeq, i_acmpne, i_ifnull, i_ifnonnull, i_getI, i_getR, i_putI, i_putZ, i_putR, i_ald, i_ldL, i_ldR, i_ast, i_stL, i_stR, i_alen, i_new, i_newa, i_iret, i_zret, i_lret, i_aret, i_vret, i_raise, i_throw, i_recv, i_objinit, i_tsw3, lget, lset, lput1, lput2, lkil, ltrim, largs, isL, takev, dropv, nthv, pushO, catv, gd, true_and, and_true, Option.some.injEq, Prod.mk.injEq, exists_eq_left', if_true, if_false, reduceCtorEq, Bool.false_eq_true, lcmp_ge, lcmp_lt, lcmp_le, lcmp_gt, lcmp_eq, true_or, or_true, not_true_eq_false, not_false_eq_true, false_implies, true_implies, List.length_cons, List.length_nil]
        exact terms me 0 D1 (by omega) f1 f2
  exact rows st.1 0 D (by omega) (fun _ _ _ _ _ => rfl) hsm
