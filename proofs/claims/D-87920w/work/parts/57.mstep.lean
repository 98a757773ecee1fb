/-! the model's step: one digit of a quotient -/
set_option maxRecDepth 100000
set_option linter.unusedVariables false
theorem wp_J9_floorMod {K : Tm} {ls : List (Option PV)} {st : List PV} {B : Nat × Nat} {S : Stat} {D : Dat} {x : Int} (hc : gdb (.inr (.inl 1000000000) :: .inr (.inl x) :: st) 2 4 = true) (hx : -9223372036854775808 ≤ x ∧ x ≤ 9223372036854775807) (h : K ls (.inr (.inl (x % 1000000000)) :: st) B S D) : i_call K P_J9_floorMod 2 4 i_none ls (.inr (.inl 1000000000) :: .inr (.inl x) :: st) B S D := by
  refine call0 (gd_of hc) ?_
  simp only [takev, takev0, largs, isL, if_true]
  refine sp_J9_floorMod hx ?_
  show K ls (.inr (.inl _) :: dropv (.inr (.inl 1000000000) :: .inr (.inl x) :: st) 2) B S D
  simp only [dropv, dropv0]
  exact h
/-- the rows upper (u) and lower (v) of the model M -/
def mR (S : Stat) (M u v : Nat) : Prop := S.1 M = some (16, 0) ∧ S.2.1 M 1 = some u ∧ S.1 u = some (100, 266) ∧ S.2.1 M 2 = some v ∧ S.1 v = some (100, 266) ∧ u ≠ v
set_option maxHeartbeats 1000000 in
theorem sp_X16_step3 {E : Ex} {B : Nat × Nat} {S : Stat} {D0 : Dat} {M u v n k : Nat} {g ca : Int} (hM : mR S M u v) (hkn : k + n < 266) (hv : dok (D0 v) n) (hu : dok (sh (D0 u) k) n) (hca : -1000000000000 ≤ ca ∧ ca ≤ 1000000000000)
    (K : ∀ (D' : Dat) (mo : Int), (mo = 0 ∨ mo = 1) → (∀ c l, ¬ (c = u ∧ (k : Int) ≤ l ∧ l < k + n) → D' c l = D0 c l) → dok (sh (D' u) k) n → dv (sh (D' u) k) n + mo * 1000000000 ^ n = dv (sh (D0 u) k) n + dv (D0 v) n →
      Wp P_X16_step E 2 [some (aR M), some (aI k), some (aI n), none, none, some (aL g), none, some (aL (ca + mo))] [] B S D') :
    ∀ (L i : Nat) (mo : Int) (D' : Dat), i + L = n → (mo = 0 ∨ mo = 1) → (∀ c l, ¬ (c = u ∧ (k : Int) ≤ l ∧ l < k + i) → D' c l = D0 c l) → dok (sh (D' u) k) n → dv (sh (D' u) k) i + mo * 1000000000 ^ i = dv (sh (D0 u) k) i + dv (D0 v) i →
      Wp P_X16_step E 3 [some (aR M), some (aI k), some (aI n), none, none, some (aL g), none, some (aL ca), none, some (aL mo), none, some (aI i)] [] B S D' := by
  obtain ⟨m1, m2, m3, m4, m5, m6⟩ := hM
  intro L
  induction L with
  | zero =>
    intro i mo D' hi hmo hf hd hval
    have hin : i = n := by omega
    subst hin
    refine wp_in ?_
    simp only [P_X16_step, i_kil, i_icon, i_lcon, i_null, i_loadI, i_loadL, i_loadR, i_istore, i_lstore, i_astore, i_iinc, i_dup, i_dup2, i_pop, i_iadd, i_isub, i_imul, i_idiv, i_irem, i_ineg, i_iand, i_ior, i_ishl, i_ishr, i_lxor, i_ladd, i_lsub, i_lmul, i_ldiv, i_lrem, i_lneg, i_lshl, i_lcmp, i_i2l, i_l2i, i_i2b, i_i2s, i_ifeq, i_ifne, i_iflt, i_ifge, i_ifgt, i_ifle, i_cmpeq, i_cmpne, i_cmplt, i_cmpge, i_cmpgt, i_cmple, i_acmpeq, i_acmpne, i_ifnull, i_ifnonnull, i_getI, i_getR, i_putI, i_putZ, i_putR, i_ald, i_ldL, i_ldR, i_ast, i_stL, i_stR, i_alen, i_new, i_newa, i_iret, i_zret, i_lret, i_aret, i_vret, i_raise, i_throw, i_recv, i_objinit, i_tsw3, lget, lset, lput1, lput2, lkil, ltrim, largs, isL, takev, dropv, nthv, pushO, catv, gd, true_and, and_true, Option.some.injEq, Prod.mk.injEq, exists_eq_left', if_true, if_false, reduceCtorEq, Bool.false_eq_true, lcmp_ge, lcmp_lt, lcmp_le, lcmp_gt, lcmp_eq, true_or, or_true, not_true_eq_false, not_false_eq_true, false_implies, true_implies, List.length_cons, List.length_nil, m1, m2, m3, m4, m5]
    exact ⟨fun _ => ⟨by unfold inL; omega, K D' mo hmo hf hd hval⟩, fun h => absurd h (Int.lt_irrefl _)⟩
  | succ L ih =>
    intro i mo D' hi hmo hf hd hval
    refine wp_in ?_
    simp only [P_X16_step, i_kil, i_icon, i_lcon, i_null, i_loadI, i_loadL, i_loadR, i_istore, i_lstore, i_astore, i_iinc, i_dup, i_dup2, i_pop, i_iadd, i_isub, i_imul, i_idiv, i_irem, i_ineg, i_iand, i_ior, i_ishl, i_ishr, i_lxor, i_ladd, i_lsub, i_lmul, i_ldiv, i_lrem, i_lneg, i_lshl, i_lcmp, i_i2l, i_l2i, i_i2b, i_i2s, i_ifeq, i_ifne, i_iflt, i_ifge, i_ifgt, i_ifle, i_cmpeq, i_cmpne, i_cmplt, i_cmpge, i_cmpgt, i_cmple, i_acmpeq, i_acmpne, i_ifnull, i_ifnonnull, i_getI, i_getR, i_putI, i_putZ, i_putR, i_ald, i_ldL, i_ldR, i_ast, i_stL, i_stR, i_alen, i_new, i_newa, i_iret, i_zret, i_lret, i_aret, i_vret, i_raise, i_throw, i_recv, i_objinit, i_tsw3, lget, lset, lput1, lput2, lkil, ltrim, largs, isL, takev, dropv, nthv, pushO, catv, gd, true_and, and_true, Option.some.injEq, Prod.mk.injEq, exists_eq_left', if_true, if_false, reduceCtorEq, Bool.false_eq_true, lcmp_ge, lcmp_lt, lcmp_le, lcmp_gt, lcmp_eq, true_or, or_true, not_true_eq_false, not_false_eq_true, false_implies, true_implies, List.length_cons, List.length_nil, m1, m2, m3, m4, m5]
    have ev : D' v i = D0 v i := hf _ _ (fun h => m6 h.1.symm)
    have eu : D' u ((k : Int) + i) = D0 u ((k : Int) + i) := hf _ _ (fun h => by omega)
    have cv := hv i (by omega) (by omega)
    have cu := hu i (by omega) (by omega)
    simp only [sh] at cu
    rw [ev, eu]
    generalize hT : mo + (D0 u ((k : Int) + i) + D0 v i) = T
    rw [tdiv_nn (by omega), tmod_nn (by omega)]
    refine ⟨fun h => by omega, fun _ => ⟨in_small (by omega) (by omega), by omega, by omega, by omega, by omega, by unfold inL; omega, by unfold inL; omega, in_small (by omega) (by omega), by decide, by unfold inL; omega, by unfold inI; omega, by omega, by omega, by simp [okT], by decide, by unfold inL; omega, in_small (by omega) (by omega), ?_⟩⟩
    have ez : ∀ l, pmu D' u ((k : Int) + i) (T % 1000000000) u l = if l = (k : Int) + i then T % 1000000000 else D' u l := fun l => by simp [pmu]
    refine ih (i + 1) (T / 1000000000) _ (by omega) (by omega) (fun c l h => ?_) (fun l g1 g2 => ?_) ?_
    · simp only [pmu]
      rw [if_neg (fun g => h ⟨g.1, by omega, by omega⟩)]
      exact hf c l (fun g => h ⟨g.1, by omega, by omega⟩)
    · simp only [sh]; rw [ez]; split
      · omega
      · exact hd l g1 g2
    · have e1 : dv (sh (pmu D' u ((k : Int) + i) (T % 1000000000) u) k) i = dv (sh (D' u) k) i := dv_congr fun l g1 g2 => by simp only [sh]; rw [ez, if_neg (by omega)]
      simp only [dv]
      rw [e1, pw_succ]
      simp only [sh]
      rw [ez, if_pos rfl]
      have h6 := Int.emod_add_mul_ediv T 1000000000
      generalize T % 1000000000 = q1 at *
      generalize T / 1000000000 = q2 at *
      generalize D0 u ((k : Int) + i) = wv at *
      generalize D0 v (i : Int) = vv at *
      generalize dv (sh (D' u) k) i = z1 at *
      generalize dv (sh (D0 u) k) i = z2 at *
      generalize dv (D0 v) i = z3 at *
      generalize (1000000000 : Int) ^ i = pi at *
      clear hf hd ih K ez e1 hv hu
      grind
set_option maxHeartbeats 1000000 in
theorem sp_X16_step2 {E : Ex} {B : Nat × Nat} {S : Stat} {D0 : Dat} {M u v n k : Nat} {U q : Int} (hM : mR S M u v) (hkn : k + n < 266) (hv : dok (D0 v) n) (hq0 : 0 ≤ q) (hq1 : q * dv (D0 v) n ≤ U) (hq2 : U < (q + 1) * dv (D0 v) n)
    (K : ∀ D' : Dat, (∀ c l, ¬ (c = u ∧ (k : Int) ≤ l ∧ l < k + n) → D' c l = D0 c l) → dok (sh (D' u) k) n → dv (sh (D' u) k) n = U - q * dv (D0 v) n → E (.inl (some (.inr (.inl q)))) B S D') :
    ∀ (e : Nat) (g ca : Int) (D' : Dat), g = q + e → g ≤ 1000000000 → (∀ c l, ¬ (c = u ∧ (k : Int) ≤ l ∧ l < k + n) → D' c l = D0 c l) → dok (sh (D' u) k) n → dv (sh (D' u) k) n + ca * 1000000000 ^ n = U - g * dv (D0 v) n → (-10000000000 ≤ ca ∧ ca ≤ 10000000000) →
      Wp P_X16_step E 2 [some (aR M), some (aI k), some (aI n), none, none, some (aL g), none, some (aL ca)] [] B S D' := by
  have hM0 := hM
  obtain ⟨m1, m2, m3, m4, m5, m6⟩ := hM
  have hVn := dv_nn hv
  have hpn := pw_pos n
  intro e
  induction e with
  | zero =>
    intro g ca D' hg hgB hf hd hval hca
    have hgq : g = q := by omega
    subst hgq
    have hdn := dv_nn hd
    rw [Int.add_mul] at hq2
    have hc0 : ca = 0 := by
      rcases Int.lt_trichotomy ca 0 with h | h | h
      · exfalso
        have : ca * 1000000000 ^ n ≤ (-1) * 1000000000 ^ n := Int.mul_le_mul_of_nonneg_right (by omega) (by omega)
        omega
      · exact h
      · exfalso
        have : 1 * 1000000000 ^ n ≤ ca * 1000000000 ^ n := Int.mul_le_mul_of_nonneg_right (by omega) (by omega)
        omega
    subst hc0
    rw [Int.zero_mul, Int.add_zero] at hval
    refine wp_in ?_
    simp only [P_X16_step, i_kil, i_icon, i_lcon, i_null, i_loadI, i_loadL, i_loadR, i_istore, i_lstore, i_astore, i_iinc, i_dup, i_dup2, i_pop, i_iadd, i_isub, i_imul, i_idiv, i_irem, i_ineg, i_iand, i_ior, i_ishl, i_ishr, i_lxor, i_ladd, i_lsub, i_lmul, i_ldiv, i_lrem, i_lneg, i_lshl, i_lcmp, i_i2l, i_l2i, i_i2b, i_i2s, i_ifeq, i_ifne, i_iflt, i_ifge, i_ifgt, i_ifle, i_cmpeq, i_cmpne, i_cmplt, i_cmpge, i_cmpgt, i_cmple, i_acmpeq, i_acmpne, i_ifnull, i_ifnonnull, i_getI, i_getR, i_putI, i_putZ, i_putR, i_ald, i_ldL, i_ldR, i_ast, i_stL, i_stR, i_alen, i_new, i_newa, i_iret, i_zret, i_lret, i_aret, i_vret, i_raise, i_throw, i_recv, i_objinit, i_tsw3, lget, lset, lput1, lput2, lkil, ltrim, largs, isL, takev, dropv, nthv, pushO, catv, gd, true_and, and_true, Option.some.injEq, Prod.mk.injEq, exists_eq_left', if_true, if_false, reduceCtorEq, Bool.false_eq_true, lcmp_ge, lcmp_lt, lcmp_le, lcmp_gt, lcmp_eq, true_or, or_true, not_true_eq_false, not_false_eq_true, false_implies, true_implies, List.length_cons, List.length_nil, m1, m2, m3, m4, m5]
    first
    | exact ⟨fun _ => K D' hf hd hval, fun h => absurd h (Int.lt_irrefl _)⟩
    | exact K D' hf hd hval
  | succ e ih =>
    intro g ca D' hg hgB hf hd hval hca
    have hdn := dv_nn hd
    have hneg : ca < 0 := by
      rcases Int.lt_or_le ca 0 with h | h
      · exact h
      · exfalso
        have h1 : 0 ≤ ca * 1000000000 ^ n := Int.mul_nonneg h (by omega)
        have h2 : (q + 1) * dv (D0 v) n ≤ g * dv (D0 v) n := Int.mul_le_mul_of_nonneg_right (by omega) hVn.1
        omega
    refine wp_in ?_
    simp only [P_X16_step, i_kil, i_icon, i_lcon, i_null, i_loadI, i_loadL, i_loadR, i_istore, i_lstore, i_astore, i_iinc, i_dup, i_dup2, i_pop, i_iadd, i_isub, i_imul, i_idiv, i_irem, i_ineg, i_iand, i_ior, i_ishl, i_ishr, i_lxor, i_ladd, i_lsub, i_lmul, i_ldiv, i_lrem, i_lneg, i_lshl, i_lcmp, i_i2l, i_l2i, i_i2b, i_i2s, i_ifeq, i_ifne, i_iflt, i_ifge, i_ifgt, i_ifle, i_cmpeq, i_cmpne, i_cmplt, i_cmpge, i_cmpgt, i_cmple, i_acmpeq, i_acmpne, i_ifnull, i_ifnonnull, i_getI, i_getR, i_putI, i_putZ, i_putR, i_ald, i_ldL, i_ldR, i_ast, i_stL, i_stR, i_alen, i_new, i_newa, i_iret, i_zret, i_lret, i_aret, i_vret, i_raise, i_throw, i_recv, i_objinit, i_tsw3, lget, lset, lput1, lput2, lkil, ltrim, largs, isL, takev, dropv, nthv, pushO, catv, gd, true_and, and_true, Option.some.injEq, Prod.mk.injEq, exists_eq_left', if_true, if_false, reduceCtorEq, Bool.false_eq_true, lcmp_ge, lcmp_lt, lcmp_le, lcmp_gt, lcmp_eq, true_or, or_true, not_true_eq_false, not_false_eq_true, false_implies, true_implies, List.length_cons, List.length_nil, m1, m2, m3, m4, m5]
    refine ⟨fun h => by omega, fun _ => ⟨by unfold inL; omega, ?_⟩⟩
    have ev : D' v = D0 v := funext fun l => hf v l (fun h => m6 h.1.symm)
    refine sp_X16_step3 hM0 hkn (D0 := D') (by rw [ev]; exact hv) hd (by omega) (fun D'' mo hmo h1 h2 h3 => ?_) n 0 0 D' (by omega) (.inl rfl) (fun _ _ _ => rfl) hd (by simp [dv])
    rw [ev] at h3
    refine ih (g - 1) (ca + mo) D'' (by omega) (by omega) (fun c l h => by rw [h1 c l h, hf c l h]) h2 ?_ (by omega)
    rw [Int.add_mul, Int.sub_mul, Int.one_mul]
    omega
set_option maxHeartbeats 1000000 in
theorem sp_X16_step1 {E : Ex} {B : Nat × Nat} {S : Stat} {D0 : Dat} {M u v n k : Nat} {g : Int} (hM : mR S M u v) (hkn : k + n < 266) (hv : dok (D0 v) n) (hu : dok (sh (D0 u) k) n) (hg : 0 ≤ g ∧ g < 1000000000)
    (K : ∀ (D' : Dat) (ca : Int), (-1000000000 ≤ ca ∧ ca ≤ 0) → (∀ c l, ¬ (c = u ∧ (k : Int) ≤ l ∧ l < k + n) → D' c l = D0 c l) → dok (sh (D' u) k) n → dv (sh (D' u) k) n + ca * 1000000000 ^ n = dv (sh (D0 u) k) n - g * dv (D0 v) n →
      Wp P_X16_step E 1 [some (aR M), some (aI k), some (aI n), none, none, some (aL g), none, some (aL ca), none, some (aI n)] [] B S D') :
    ∀ (L i : Nat) (ca : Int) (D' : Dat), i + L = n → (-1000000000 ≤ ca ∧ ca ≤ 0) → (∀ c l, ¬ (c = u ∧ (k : Int) ≤ l ∧ l < k + i) → D' c l = D0 c l) → dok (sh (D' u) k) n → dv (sh (D' u) k) i + ca * 1000000000 ^ i = dv (sh (D0 u) k) i - g * dv (D0 v) i →
      Wp P_X16_step E 1 [some (aR M), some (aI k), some (aI n), none, none, some (aL g), none, some (aL ca), none, some (aI i)] [] B S D' := by
  obtain ⟨m1, m2, m3, m4, m5, m6⟩ := hM
  intro L
  induction L with
  | zero =>
    intro i ca D' hi hca hf hd hval
    have hin : i = n := by omega
    subst hin
    exact K D' ca hca hf hd hval
  | succ L ih =>
    intro i ca D' hi hca hf hd hval
    refine wp_in ?_
    simp only [P_X16_step, i_kil, i_icon, i_lcon, i_null, i_loadI, i_loadL, i_loadR, i_istore, i_lstore, i_astore, i_iinc, i_dup, i_dup2, i_pop, i_iadd, i_isub, i_imul, i_idiv, i_irem, i_ineg, i_iand, i_ior, i_ishl, i_ishr, i_lxor, i_ladd, i_lsub, i_lmul, i_ldiv, i_lrem, i_lneg, i_lshl, i_lcmp, i_i2l, i_l2i, i_i2b, i_i2s, i_ifeq, i_ifne, i_iflt, i_ifge, i_ifgt, i_ifle, i_cmpeq, i_cmpne, i_cmplt, i_cmpge, i_cmpgt, i_cmple, i_acmpeq, i_acmpne, i_ifnull, i_ifnonnull, i_getI, i_getR, i_putI, i_putZ, i_putR, i_ald, i_ldL, i_ldR, i_ast, i_stL, i_stR, i_alen, i_new, i_newa, i_iret, i_zret, i_lret, i_aret, i_vret, i_raise, i_throw, i_recv, i_objinit, i_tsw3, lget, lset, lput1, lput2, lkil, ltrim, largs, isL, takev, dropv, nthv, pushO, catv, gd, true_and, and_true, Option.some.injEq, Prod.mk.injEq, exists_eq_left', if_true, if_false, reduceCtorEq, Bool.false_eq_true, lcmp_ge, lcmp_lt, lcmp_le, lcmp_gt, lcmp_eq, true_or, or_true, not_true_eq_false, not_false_eq_true, false_implies, true_implies, List.length_cons, List.length_nil, m1, m2, m3, m4, m5]
    have ev : D' v i = D0 v i := hf _ _ (fun h => m6 h.1.symm)
    have eu : D' u ((k : Int) + i) = D0 u ((k : Int) + i) := hf _ _ (fun h => by omega)
    have cv := hv i (by omega) (by omega)
    have cu := hu i (by omega) (by omega)
    simp only [sh] at cu
    rw [ev, eu]
    have hm0 : 0 ≤ g * D0 v i := Int.mul_nonneg hg.1 cv.1
    have hm1 : g * D0 v i ≤ 999999999 * 999999999 := Int.mul_le_mul (by omega) (by omega) cv.1 (by decide)
    generalize hT : ca + (D0 u ((k : Int) + i) - g * D0 v i) = T
    refine ⟨fun h => by omega, fun _ => ⟨in_small (by omega) (by omega), by omega, by omega, by omega, by omega, by unfold inL; omega, by unfold inL; omega, by unfold inL; omega, ?_⟩⟩
    refine wp_J9_floorMod rfl (by omega) ?_
    simp only [P_X16_step, i_kil, i_icon, i_lcon, i_null, i_loadI, i_loadL, i_loadR, i_istore, i_lstore, i_astore, i_iinc, i_dup, i_dup2, i_pop, i_iadd, i_isub, i_imul, i_idiv, i_irem, i_ineg, i_iand, i_ior, i_ishl, i_ishr, i_lxor, i_ladd, i_lsub, i_lmul, i_ldiv, i_lrem, i_lneg, i_lshl, i_lcmp, i_i2l, i_l2i, i_i2b, i_i2s, i_ifeq, i_ifne, i_iflt, i_ifge, i_ifgt, i_ifle, i_cmpeq, i_cmpne, i_cmplt, i_cmpge, i_cmpgt, i_cmple, i_acmpeq, i_acmpne, i_ifnull, i_ifnonnull, i_getI, i_getR, i_putI, i_putZ, i_putR, i_ald, i_ldL, i_ldR, i_ast, i_stL, i_stR, i_alen, i_new, i_newa, i_iret, i_zret, i_lret, i_aret, i_vret, i_raise, i_throw, i_recv, i_objinit, i_tsw3, lget, lset, lput1, lput2, lkil, ltrim, largs, isL, takev, dropv, nthv, pushO, catv, gd, true_and, and_true, Option.some.injEq, Prod.mk.injEq, exists_eq_left', if_true, if_false, reduceCtorEq, Bool.false_eq_true, lcmp_ge, lcmp_lt, lcmp_le, lcmp_gt, lcmp_eq, true_or, or_true, not_true_eq_false, not_false_eq_true, false_implies, true_implies, List.length_cons, List.length_nil, m1, m2, m3, m4, m5]
    have hex : (T - T % 1000000000).tdiv 1000000000 = T / 1000000000 := by
      have h6 := Int.emod_add_mul_ediv T 1000000000
      rw [show T - T % 1000000000 = 1000000000 * (T / 1000000000) by omega]
      exact Int.mul_tdiv_cancel_left _ (by decide)
    rw [hex]
    refine ⟨in_small (by omega) (by omega), by unfold inI; omega, by omega, by omega, by simp [okT], by unfold inL; omega, by decide, by unfold inL; omega, in_small (by omega) (by omega), ?_⟩
    have ez : ∀ l, pmu D' u ((k : Int) + i) (T % 1000000000) u l = if l = (k : Int) + i then T % 1000000000 else D' u l := fun l => by simp [pmu]
    refine ih (i + 1) (T / 1000000000) _ (by omega) (by omega) (fun c l h => ?_) (fun l g1 g2 => ?_) ?_
    · simp only [pmu]
      rw [if_neg (fun g => h ⟨g.1, by omega, by omega⟩)]
      exact hf c l (fun g => h ⟨g.1, by omega, by omega⟩)
    · simp only [sh]; rw [ez]; split
      · omega
      · exact hd l g1 g2
    · have e1 : dv (sh (pmu D' u ((k : Int) + i) (T % 1000000000) u) k) i = dv (sh (D' u) k) i := dv_congr fun l g1 g2 => by simp only [sh]; rw [ez, if_neg (by omega)]
      simp only [dv]
      rw [e1, pw_succ]
      simp only [sh]
      rw [ez, if_pos rfl]
      have h6 := Int.emod_add_mul_ediv T 1000000000
      generalize T % 1000000000 = q1 at *
      generalize T / 1000000000 = q2 at *
      generalize D0 u ((k : Int) + i) = wv at *
      generalize D0 v (i : Int) = vv at *
      generalize dv (sh (D' u) k) i = z1 at *
      generalize dv (sh (D0 u) k) i = z2 at *
      generalize dv (D0 v) i = z3 at *
      generalize (1000000000 : Int) ^ i = pi at *
      clear hf hd ih K ez e1 hv hu hm0 hm1 hex
      grind
theorem wp_J9_min {K : Tm} {ls : List (Option PV)} {st : List PV} {B : Nat × Nat} {S : Stat} {D : Dat} {x y : Int} (hc : gdb (.inr (.inl y) :: .inr (.inl x) :: st) 2 4 = true) (h : K ls (.inr (.inl (if x ≤ y then x else y)) :: st) B S D) : i_call K P_J9_min 2 4 i_none ls (.inr (.inl y) :: .inr (.inl x) :: st) B S D := by
  refine call0 (gd_of hc) ?_
  simp only [takev, takev0, largs, isL, if_true]
  refine sp_J9_min ?_
  show K ls (.inr (.inl _) :: dropv (.inr (.inl y) :: .inr (.inl x) :: st) 2) B S D
  simp only [dropv, dropv0]
  exact h
set_option maxHeartbeats 1000000 in
theorem sp_X16_step {E : Ex} {B : Nat × Nat} {S : Stat} {D : Dat} {M u v n k : Nat} {q : Int} (hM : mR S M u v) (hn : 1 ≤ n) (hkn : k + n < 266) (hv : dok (D v) n) (hv1 : 1 ≤ D v ((n : Int) - 1)) (hu : dok (sh (D u) k) (n + 1)) (hq0 : 0 ≤ q) (hqB : q < 1000000000) (hq1 : q * dv (D v) n ≤ dv (sh (D u) k) (n + 1)) (hq2 : dv (sh (D u) k) (n + 1) < (q + 1) * dv (D v) n)
    (K : ∀ D' : Dat, (∀ c l, ¬ (c = u ∧ (k : Int) ≤ l ∧ l ≤ k + n) → D' c l = D c l) → dok (sh (D' u) k) (n + 1) → dv (sh (D' u) k) n = dv (sh (D u) k) (n + 1) - q * dv (D v) n → E (.inl (some (.inr (.inl q)))) B S D') :
    Wp P_X16_step E 0 [some (aR M), some (aI k), some (aI n)] [] B S D := by
  have hM0 := hM
  obtain ⟨m1, m2, m3, m4, m5, m6⟩ := hM
  obtain ⟨p, rfl⟩ : ∃ p, n = p + 1 := ⟨n - 1, by omega⟩
  rw [show ((p + 1 : Nat) : Int) - 1 = p by omega] at hv1
  have cv := hv p (by omega) (by omega)
  have c1 := hu p (by omega) (by omega)
  have c2 := hu ((p + 1 : Nat) : Int) (by omega) (by omega)
  simp only [sh] at c1 c2
  refine wp_in ?_
  simp only [P_X16_step, i_kil, i_icon, i_lcon, i_null, i_loadI, i_loadL, i_loadR, i_istore, i_lstore, i_astore, i_iinc, i_dup, i_dup2, i_pop, i_iadd, i_isub, i_imul, i_idiv, i_irem, i_ineg, i_iand, i_ior, i_ishl, i_ishr, i_lxor, i_ladd, i_lsub, i_lmul, i_ldiv, i_lrem, i_lneg, i_lshl, i_lcmp, i_i2l, i_l2i, i_i2b, i_i2s, i_ifeq, i_ifne, i_iflt, i_ifge, i_ifgt, i_ifle, i_cmpeq, i_cmpne, i_cmplt, i_cmpge, i_cmpgt, i_cmple, i_acmpeq, i_acmpne, i_ifnull, i_ifnonnull, i_getI, i_getR, i_putI, i_putZ, i_putR, i_ald, i_ldL, i_ldR, i_ast, i_stL, i_stR, i_alen, i_new, i_newa, i_iret, i_zret, i_lret, i_aret, i_vret, i_raise, i_throw, i_recv, i_objinit, i_tsw3, lget, lset, lput1, lput2, lkil, ltrim, largs, isL, takev, dropv, nthv, pushO, catv, gd, true_and, and_true, Option.some.injEq, Prod.mk.injEq, exists_eq_left', if_true, if_false, reduceCtorEq, Bool.false_eq_true, lcmp_ge, lcmp_lt, lcmp_le, lcmp_gt, lcmp_eq, true_or, or_true, not_true_eq_false, not_false_eq_true, false_implies, true_implies, List.length_cons, List.length_nil, m1, m2, m3, m4, m5]
  have e1 : (k : Int) + ((p + 1 : Nat) : Int) - 1 = (k : Int) + p := by omega
  have e2 : ((p + 1 : Nat) : Int) - 1 = p := by omega
  simp only [e1, e2]
  have hU1 : dv (sh (D u) k) (p + 1 + 1) = dv (sh (D u) k) p + D u ((k : Int) + (p : Int)) * 1000000000 ^ p + D u ((k : Int) + ((p + 1 : Nat) : Int)) * 1000000000 ^ (p + 1) := rfl
  have hU2 : dv (sh (D u) k) (p + 1 + 1) = dv (sh (D u) k) (p + 1) + D u ((k : Int) + ((p + 1 : Nat) : Int)) * 1000000000 ^ (p + 1) := rfl
  have hV1 : dv (D v) (p + 1) = dv (D v) p + D v (p : Int) * 1000000000 ^ p := rfl
  generalize hu1 : D u ((k : Int) + ((p + 1 : Nat) : Int)) = x1 at *
  generalize hu2 : D u ((k : Int) + (p : Int)) = x2 at *
  generalize hv2 : D v (p : Int) = y1 at *
  have d1 := dv_nn (hu.mono (show p ≤ p + 1 + 1 by omega))
  have d2 := dv_nn (hv.mono (Nat.le_succ p))
  obtain ⟨tp, htp⟩ : ∃ tp, tp = x1 * 1000000000 + x2 := ⟨_, rfl⟩
  have hlo : q * y1 ≤ tp := by
    refine kn_lo (pw_pos p) (U := dv (sh (D u) k) (p + 1 + 1)) (V := dv (D v) (p + 1)) ?_ (by omega) hq0 hq1
    rw [hU1, pw_succ, Int.add_mul, htp, Int.add_mul, Int.one_mul, Int.mul_assoc x1, Int.mul_comm 1000000000 (1000000000 ^ p)]
    omega
  rw [← htp, tdiv_nn (by omega)]
  have hqt : q ≤ tp / y1 := (Int.le_ediv_iff_mul_le (by omega)).mpr hlo
  have ht0 : 0 ≤ tp / y1 := by omega
  have ht1 : tp / y1 ≤ tp := Int.ediv_le_self _ (by omega)
  refine ⟨in_small (by omega) (by omega), by omega, by omega, by unfold inL; omega, in_small (by omega) (by omega), in_small (by omega) (by omega), by omega, by omega, by unfold inL; omega, in_small (by omega) (by omega), by omega, by omega, by omega, by unfold inL; omega, ?_⟩
  refine wp_J9_min rfl ?_
  simp only [P_X16_step, i_kil, i_icon, i_lcon, i_null, i_loadI, i_loadL, i_loadR, i_istore, i_lstore, i_astore, i_iinc, i_dup, i_dup2, i_pop, i_iadd, i_isub, i_imul, i_idiv, i_irem, i_ineg, i_iand, i_ior, i_ishl, i_ishr, i_lxor, i_ladd, i_lsub, i_lmul, i_ldiv, i_lrem, i_lneg, i_lshl, i_lcmp, i_i2l, i_l2i, i_i2b, i_i2s, i_ifeq, i_ifne, i_iflt, i_ifge, i_ifgt, i_ifle, i_cmpeq, i_cmpne, i_cmplt, i_cmpge, i_cmpgt, i_cmple, i_acmpeq, i_acmpne, i_ifnull, i_ifnonnull, i_getI, i_getR, i_putI, i_putZ, i_putR, i_ald, i_ldL, i_ldR, i_ast, i_stL, i_stR, i_alen, i_new, i_newa, i_iret, i_zret, i_lret, i_aret, i_vret, i_raise, i_throw, i_recv, i_objinit, i_tsw3, lget, lset, lput1, lput2, lkil, ltrim, largs, isL, takev, dropv, nthv, pushO, catv, gd, true_and, and_true, Option.some.injEq, Prod.mk.injEq, exists_eq_left', if_true, if_false, reduceCtorEq, Bool.false_eq_true, lcmp_ge, lcmp_lt, lcmp_le, lcmp_gt, lcmp_eq, true_or, or_true, not_true_eq_false, not_false_eq_true, false_implies, true_implies, List.length_cons, List.length_nil, m1, m2, m3, m4, m5]
  obtain ⟨g, hg⟩ : ∃ g, g = if tp / y1 ≤ 999999999 then tp / y1 else 999999999 := ⟨_, rfl⟩
  rw [← hg]
  have hgb : q ≤ g ∧ g < 1000000000 := by split at hg <;> omega
  refine sp_X16_step1 hM0 hkn hv (hu.mono (Nat.le_succ _)) ⟨by omega, hgb.2⟩ (fun D1 ca hca f1 f2 f3 => ?_) (p + 1) 0 0 D (by omega) (by omega) (fun _ _ _ => rfl) (hu.mono (Nat.le_succ _)) (by simp [dv])
  refine wp_in ?_
  simp only [P_X16_step, i_kil, i_icon, i_lcon, i_null, i_loadI, i_loadL, i_loadR, i_istore, i_lstore, i_astore, i_iinc, i_dup, i_dup2, i_pop, i_iadd, i_isub, i_imul, i_idiv, i_irem, i_ineg, i_iand, i_ior, i_ishl, i_ishr, i_lxor, i_ladd, i_lsub, i_lmul, i_ldiv, i_lrem, i_lneg, i_lshl, i_lcmp, i_i2l, i_l2i, i_i2b, i_i2s, i_ifeq, i_ifne, i_iflt, i_ifge, i_ifgt, i_ifle, i_cmpeq, i_cmpne, i_cmplt, i_cmpge, i_cmpgt, i_cmple, i_acmpeq, i_acmpne, i_ifnull, i_ifnonnull, i_getI, i_getR, i_putI, i_putZ, i_putR, i_ald, i_ldL, i_ldR, i_ast, i_stL, i_stR, i_alen, i_new, i_newa, i_iret, i_zret, i_lret, i_aret, i_vret, i_raise, i_throw, i_recv, i_objinit, i_tsw3, lget, lset, lput1, lput2, lkil, ltrim, largs, isL, takev, dropv, nthv, pushO, catv, gd, true_and, and_true, Option.some.injEq, Prod.mk.injEq, exists_eq_left', if_true, if_false, reduceCtorEq, Bool.false_eq_true, lcmp_ge, lcmp_lt, lcmp_le, lcmp_gt, lcmp_eq, true_or, or_true, not_true_eq_false, not_false_eq_true, false_implies, true_implies, List.length_cons, List.length_nil, m1, m2, m3, m4, m5]
  have eu : D1 u ((k : Int) + ((p + 1 : Nat) : Int)) = x1 := by rw [f1 _ _ (fun h => by omega), hu1]
  rw [eu]
  refine ⟨fun _ => ⟨in_small (by omega) (by omega), by omega, by omega, by unfold inL; omega, in_small (by omega) (by omega), by omega, by omega, by simp [okT], ?_⟩, fun h => absurd h (Int.lt_irrefl _)⟩
  obtain ⟨D2, hD2⟩ : ∃ D2, D2 = pmu D1 u ((k : Int) + ((p + 1 : Nat) : Int)) 0 := ⟨_, rfl⟩
  rw [← hD2]
  have ez : ∀ l, D2 u l = if l = (k : Int) + ((p + 1 : Nat) : Int) then 0 else D1 u l := fun l => by rw [hD2]; simp [pmu]
  have ev2 : D2 v = D v := by
    funext l
    rw [hD2]; simp only [pmu]
    rw [if_neg (fun h => m6 h.1.symm)]
    exact f1 _ _ (fun h => m6 h.1.symm)
  have e12 : dv (sh (D2 u) k) (p + 1) = dv (sh (D1 u) k) (p + 1) := dv_congr fun l g1 g2 => by simp only [sh]; rw [ez, if_neg (by omega)]
  have hd2 : dok (sh (D2 u) k) (p + 1) := f2.congr fun l g1 g2 => by simp only [sh]; rw [ez, if_neg (by omega)]
  refine sp_X16_step2 (D0 := D2) (U := dv (sh (D u) k) (p + 1 + 1)) (q := q) hM0 hkn (by rw [ev2]; exact hv) hq0 (by rw [ev2]; exact hq1) (by rw [ev2]; exact hq2) (fun D3 g1 g2 g3 => ?_) (g - q).toNat g (ca + x1) D2 (by omega) (by omega) (fun _ _ _ => rfl) hd2 ?_ (by omega)
  · refine K D3 (fun c l h => ?_) (fun l h1 h2 => ?_) (by rw [g3, ev2])
    · rw [g1 c l (fun g => h ⟨g.1, g.2.1, by omega⟩), hD2]
      simp only [pmu]
      rw [if_neg (fun g => h ⟨g.1, by omega, by omega⟩)]
      exact f1 c l (fun g => h ⟨g.1, g.2.1, by omega⟩)
    · by_cases hl : l < (p + 1 : Nat)
      · exact g2 l h1 hl
      · simp only [sh]
        rw [g1 _ _ (fun g => by omega), ez, if_pos (by omega)]
        omega
  · rw [ev2, e12, hU2, Int.add_mul]
    omega
