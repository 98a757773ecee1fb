/-! the model's chains: signs at a place, changes -/
-- needs: dg.mplain
set_option maxRecDepth 100000
set_option linter.unusedVariables false
/-- the places for signs -/
def msS (S : Stat) (M : Nat) : Prop := S.2.1 M 78 = some (M + 11297) ∧ wS 17 S (M + 11297) 4 ∧ S.2.1 M 79 = some (M + 11299) ∧ wS 17 S (M + 11299) 260 ∧ S.2.1 M 80 = some (M + 11301) ∧ wS 17 S (M + 11301) 260 ∧ S.2.1 M 81 = some (M + 11303) ∧ wS 17 S (M + 11303) 260 ∧ S.2.1 M 82 = some (M + 11305) ∧ wS 17 S (M + 11305) 260 ∧ S.2.1 M 35 = some (M + 4221) ∧ wS 17 S (M + 4221) 260
theorem shl_small : ∀ y : Nat, y < 29 → shlL 1 (y : Int) = ((2 ^ y : Nat) : Int) := by decide +kernel
def pwO (M r : Nat) (D D' : Dat) : Prop := ∀ c i, c ≠ r → c ≠ r + 1 → c ≠ M + 1 → c ≠ M + 11297 → c ≠ M + 11298 → D' c i = D c i
set_option maxHeartbeats 1000000 in
theorem sp_X16_pow {E : Ex} {B : Nat × Nat} {S : Stat} {D : Dat} {M r R n : Nat} {x : Int} (hM : mS S M) (hs : msS S M) (hr : wS 17 S r R) (lr : r + 1 < M ∨ M + 16 < r) (lr2 : r + 1 < M + 11297 ∨ M + 11298 < r) (hx : x = n) (hn : n ≤ 1000) (hR : 38 ≤ R) (hR2 : R < 265)
    (K : ∀ D' : Dat, pwO M r D D' → wD 2 1 D' r ((2 ^ n : Nat) : Int) → E (.inl none) B S D') : Wp P_X16_pow E 0 [some (aR M), some (aR r), some (aI x)] [] B S D := by
  subst hx
  obtain ⟨s1, s2, -⟩ := hs
  obtain ⟨M1, m0, m264, -⟩ := id hM
  have r1 := hr.1
  have t1 := s2.1
  have e29 : (n : Int).tdiv 29 = ((n / 29 : Nat) : Int) := by rw [Int.tdiv_eq_ediv_of_nonneg (by omega)]; rfl
  have m29 : (n : Int).tmod 29 = ((n % 29 : Nat) : Int) := by rw [Int.tmod_eq_emod_of_nonneg (by omega)]; rfl
  have hsh := shl_small (n % 29) (by omega)
  have p29 : ∀ k : Nat, ((2 ^ (29 * k) : Nat) : Int) < 1000000000 ^ (k + 1) := fun k => two_pw (by omega)
  have loop : ∀ (L j : Nat) (D1 : Dat), j + L = n / 29 → pwO M r D D1 → wD 2 1 D1 r ((2 ^ (29 * j) : Nat) : Int) → wD 2 1 D1 (M + 11297) 536870912 → Wp P_X16_pow E 1 [some (aR M), some (aR r), some (aI n), some (aI j)] [] B S D1 := by
    intro L
    induction L with
    | zero =>
      intro j D1 hj hfr hw ht
      have : j = n / 29 := by omega
      subst this
      refine wp_in ?_
      simp only [P_X16_pow, i_kil, i_icon, i_lcon, i_null, i_loadI, i_loadL, i_loadR, i_istore, i_lstore, i_astore, i_iinc, i_dup, i_dup2, i_pop, i_iadd, i_isub, i_imul, i_idiv, i_irem, i_ineg, i_iand, i_ior, i_ishl, i_ishr, i_lxor, i_ladd, i_lsub, i_lmul, i_ldiv, i_lrem, i_lneg, i_lshl, i_lcmp, i_i2l, i_l2i, i_i2b, i_i2s, i_ifeq, i_ifne, i_iflt, i_ifge, i_ifgt, i_ifle, i_cmpeq, i_cmpne, i_cmplt, i_cmpge, i_cmpgt, i_cmple, i_acmpeq, i_acmpne, i_ifnull, i_ifnonnull, i_getI, i_getR, i_putI, i_putZ, i_putR, i_ald, i_ldL, i_ldR, i_ast, i_stL, i_stR, i_alen, i_new, i_newa, i_iret, i_zret, i_lret, i_aret, i_vret, i_raise, i_throw, i_recv, i_objinit, i_tsw3, lget, lset, lput1, lput2, lkil, ltrim, largs, isL, takev, dropv, nthv, pushO, catv, gd, true_and, and_true, Option.some.injEq, Prod.mk.injEq, exists_eq_left', if_true, if_false, reduceCtorEq, Bool.false_eq_true, lcmp_ge, lcmp_lt, lcmp_le, lcmp_gt, lcmp_eq, true_or, or_true, not_true_eq_false, not_false_eq_true, false_implies, true_implies, List.length_cons, List.length_nil, M1, s1, e29, m29, hsh]
      refine ⟨by decide, in_small (by omega) (by omega), fun _ => ?_, fun w => by omega⟩
      refine ⟨by decide, in_small (by omega) (by omega), ?_⟩
      repeat (first | refine ⟨in_small (by omega) (by omega), ?_⟩ | (show (_ → _) ∧ (_ → _); first | refine ⟨by omega, fun _ => ?_⟩ | refine ⟨fun _ => ?_, by omega⟩) | refine ⟨by omega, ?_⟩ | refine ⟨⟨_, rfl, by assumption⟩, ?_⟩ | refine ⟨okT_I _, ?_⟩ | refine ⟨okT_S (by omega) (by omega), ?_⟩ | refine ⟨okT_B (by omega) (by omega), ?_⟩ | refine call0 (gd_of rfl) ?_)
      have l29 : 2 ^ (n % 29) ≤ 2 ^ 29 := pw_le2 (by omega)
      have e29' : (2 : Nat) ^ 29 = 536870912 := by decide
      rw [e29'] at l29
      have lW : ((2 ^ (n % 29) : Nat) : Int) ≤ 536870912 := Int.ofNat_le.mpr l29
      refine sp_X17_set s2 (by omega) (by omega) ⟨Int.le_trans (by decide) (Int.natCast_nonneg _), Int.le_trans lW (by decide)⟩ fun D2 g1 g2 => ?_
      simp only [P_X16_pow, i_kil, i_icon, i_lcon, i_null, i_loadI, i_loadL, i_loadR, i_istore, i_lstore, i_astore, i_iinc, i_dup, i_dup2, i_pop, i_iadd, i_isub, i_imul, i_idiv, i_irem, i_ineg, i_iand, i_ior, i_ishl, i_ishr, i_lxor, i_ladd, i_lsub, i_lmul, i_ldiv, i_lrem, i_lneg, i_lshl, i_lcmp, i_i2l, i_l2i, i_i2b, i_i2s, i_ifeq, i_ifne, i_iflt, i_ifge, i_ifgt, i_ifle, i_cmpeq, i_cmpne, i_cmplt, i_cmpge, i_cmpgt, i_cmple, i_acmpeq, i_acmpne, i_ifnull, i_ifnonnull, i_getI, i_getR, i_putI, i_putZ, i_putR, i_ald, i_ldL, i_ldR, i_ast, i_stL, i_stR, i_alen, i_new, i_newa, i_iret, i_zret, i_lret, i_aret, i_vret, i_raise, i_throw, i_recv, i_objinit, i_tsw3, lget, lset, lput1, lput2, lkil, ltrim, largs, isL, takev, dropv, nthv, pushO, catv, gd, true_and, and_true, Option.some.injEq, Prod.mk.injEq, exists_eq_left', if_true, if_false, reduceCtorEq, Bool.false_eq_true, lcmp_ge, lcmp_lt, lcmp_le, lcmp_gt, lcmp_eq, true_or, or_true, not_true_eq_false, not_false_eq_true, false_implies, true_implies, List.length_cons, List.length_nil, M1, s1]
      repeat (first | refine ⟨in_small (by omega) (by omega), ?_⟩ | (show (_ → _) ∧ (_ → _); first | refine ⟨by omega, fun _ => ?_⟩ | refine ⟨fun _ => ?_, by omega⟩) | refine ⟨by omega, ?_⟩ | refine ⟨⟨_, rfl, by assumption⟩, ?_⟩ | refine ⟨okT_I _, ?_⟩ | refine ⟨okT_S (by omega) (by omega), ?_⟩ | refine ⟨okT_B (by omega) (by omega), ?_⟩ | refine call0 (gd_of rfl) ?_)
      refine sp_X16_multiply (p := n / 29 + 1) (q := 1) hr hr s2 M1 m0 m264 (by omega) (by omega) (by omega) (hw.congr (fun i => g1 _ i (by omega) (by omega)) fun i => g1 _ i (by omega) (by omega)) g2 (by rw [Int.natAbs_natCast]; exact p29 _) (by rw [Int.natAbs_natCast]; exact Int.lt_of_le_of_lt lW (by decide)) (by omega) (by omega) (by omega) (by omega) (by omega) (by omega) (by omega) fun D3 i1 i2 => ?_
      simp only [P_X16_pow, i_kil, i_icon, i_lcon, i_null, i_loadI, i_loadL, i_loadR, i_istore, i_lstore, i_astore, i_iinc, i_dup, i_dup2, i_pop, i_iadd, i_isub, i_imul, i_idiv, i_irem, i_ineg, i_iand, i_ior, i_ishl, i_ishr, i_lxor, i_ladd, i_lsub, i_lmul, i_ldiv, i_lrem, i_lneg, i_lshl, i_lcmp, i_i2l, i_l2i, i_i2b, i_i2s, i_ifeq, i_ifne, i_iflt, i_ifge, i_ifgt, i_ifle, i_cmpeq, i_cmpne, i_cmplt, i_cmpge, i_cmpgt, i_cmple, i_acmpeq, i_acmpne, i_ifnull, i_ifnonnull, i_getI, i_getR, i_putI, i_putZ, i_putR, i_ald, i_ldL, i_ldR, i_ast, i_stL, i_stR, i_alen, i_new, i_newa, i_iret, i_zret, i_lret, i_aret, i_vret, i_raise, i_throw, i_recv, i_objinit, i_tsw3, lget, lset, lput1, lput2, lkil, ltrim, largs, isL, takev, dropv, nthv, pushO, catv, gd, true_and, and_true, Option.some.injEq, Prod.mk.injEq, exists_eq_left', if_true, if_false, reduceCtorEq, Bool.false_eq_true, lcmp_ge, lcmp_lt, lcmp_le, lcmp_gt, lcmp_eq, true_or, or_true, not_true_eq_false, not_false_eq_true, false_implies, true_implies, List.length_cons, List.length_nil]
      refine K D3 (fun c i c1 c2 c3 c4 c5 => by rw [i1 c i c1 c2 c3, g1 c i c4 c5]; exact hfr c i c1 c2 c3 c4 c5) ?_
      have e : ((2 ^ (29 * (n / 29)) : Nat) : Int) * ((2 ^ (n % 29) : Nat) : Int) = ((2 ^ n : Nat) : Int) := by
        rw [← Int.natCast_mul, ← Nat.pow_add]
        congr 2
        omega
      rw [e] at i2
      exact i2
    | succ L ih =>
      intro j D1 hj hfr hw ht
      refine wp_in ?_
      simp only [P_X16_pow, i_kil, i_icon, i_lcon, i_null, i_loadI, i_loadL, i_loadR, i_istore, i_lstore, i_astore, i_iinc, i_dup, i_dup2, i_pop, i_iadd, i_isub, i_imul, i_idiv, i_irem, i_ineg, i_iand, i_ior, i_ishl, i_ishr, i_lxor, i_ladd, i_lsub, i_lmul, i_ldiv, i_lrem, i_lneg, i_lshl, i_lcmp, i_i2l, i_l2i, i_i2b, i_i2s, i_ifeq, i_ifne, i_iflt, i_ifge, i_ifgt, i_ifle, i_cmpeq, i_cmpne, i_cmplt, i_cmpge, i_cmpgt, i_cmple, i_acmpeq, i_acmpne, i_ifnull, i_ifnonnull, i_getI, i_getR, i_putI, i_putZ, i_putR, i_ald, i_ldL, i_ldR, i_ast, i_stL, i_stR, i_alen, i_new, i_newa, i_iret, i_zret, i_lret, i_aret, i_vret, i_raise, i_throw, i_recv, i_objinit, i_tsw3, lget, lset, lput1, lput2, lkil, ltrim, largs, isL, takev, dropv, nthv, pushO, catv, gd, true_and, and_true, Option.some.injEq, Prod.mk.injEq, exists_eq_left', if_true, if_false, reduceCtorEq, Bool.false_eq_true, lcmp_ge, lcmp_lt, lcmp_le, lcmp_gt, lcmp_eq, true_or, or_true, not_true_eq_false, not_false_eq_true, false_implies, true_implies, List.length_cons, List.length_nil, M1, s1, e29]
      refine ⟨by decide, in_small (by omega) (by omega), fun w => by omega, fun _ => ?_⟩
      repeat (first | refine ⟨in_small (by omega) (by omega), ?_⟩ | (show (_ → _) ∧ (_ → _); first | refine ⟨by omega, fun _ => ?_⟩ | refine ⟨fun _ => ?_, by omega⟩) | refine ⟨by omega, ?_⟩ | refine ⟨⟨_, rfl, by assumption⟩, ?_⟩ | refine ⟨okT_I _, ?_⟩ | refine ⟨okT_S (by omega) (by omega), ?_⟩ | refine ⟨okT_B (by omega) (by omega), ?_⟩ | refine call0 (gd_of rfl) ?_)
      refine sp_X16_multiply (p := j + 1) (q := 1) hr hr s2 M1 m0 m264 (by omega) (by omega) (by omega) hw ht (by rw [Int.natAbs_natCast]; exact p29 _) (by decide) (by omega) (by omega) (by omega) (by omega) (by omega) (by omega) (by omega) fun D3 i1 i2 => ?_
      simp only [P_X16_pow, i_kil, i_icon, i_lcon, i_null, i_loadI, i_loadL, i_loadR, i_istore, i_lstore, i_astore, i_iinc, i_dup, i_dup2, i_pop, i_iadd, i_isub, i_imul, i_idiv, i_irem, i_ineg, i_iand, i_ior, i_ishl, i_ishr, i_lxor, i_ladd, i_lsub, i_lmul, i_ldiv, i_lrem, i_lneg, i_lshl, i_lcmp, i_i2l, i_l2i, i_i2b, i_i2s, i_ifeq, i_ifne, i_iflt, i_ifge, i_ifgt, i_ifle, i_cmpeq, i_cmpne, i_cmplt, i_cmpge, i_cmpgt, i_cmple, i_acmpeq, i_acmpne, i_ifnull, i_ifnonnull, i_getI, i_getR, i_putI, i_putZ, i_putR, i_ald, i_ldL, i_ldR, i_ast, i_stL, i_stR, i_alen, i_new, i_newa, i_iret, i_zret, i_lret, i_aret, i_vret, i_raise, i_throw, i_recv, i_objinit, i_tsw3, lget, lset, lput1, lput2, lkil, ltrim, largs, isL, takev, dropv, nthv, pushO, catv, gd, true_and, and_true, Option.some.injEq, Prod.mk.injEq, exists_eq_left', if_true, if_false, reduceCtorEq, Bool.false_eq_true, lcmp_ge, lcmp_lt, lcmp_le, lcmp_gt, lcmp_eq, true_or, or_true, not_true_eq_false, not_false_eq_true, false_implies, true_implies, List.length_cons, List.length_nil]
      repeat (first | refine ⟨in_small (by omega) (by omega), ?_⟩ | (show (_ → _) ∧ (_ → _); first | refine ⟨by omega, fun _ => ?_⟩ | refine ⟨fun _ => ?_, by omega⟩) | refine ⟨by omega, ?_⟩ | refine ⟨⟨_, rfl, by assumption⟩, ?_⟩ | refine ⟨okT_I _, ?_⟩ | refine ⟨okT_S (by omega) (by omega), ?_⟩ | refine ⟨okT_B (by omega) (by omega), ?_⟩ | refine call0 (gd_of rfl) ?_)
      refine ih (j + 1) D3 (by omega) (fun c i c1 c2 c3 c4 c5 => by rw [i1 c i c1 c2 c3]; exact hfr c i c1 c2 c3 c4 c5) ?_ (ht.congr (fun i => i1 _ i (by omega) (by omega) (by omega)) fun i => i1 _ i (by omega) (by omega) (by omega))
      have e : ((2 ^ (29 * j) : Nat) : Int) * 536870912 = ((2 ^ (29 * (j + 1)) : Nat) : Int) := by
        rw [show (536870912 : Int) = ((2 ^ 29 : Nat) : Int) by decide, ← Int.natCast_mul, ← Nat.pow_add]
        congr 2
      rw [e] at i2
      exact i2
  refine wp_in ?_
  simp only [P_X16_pow, i_kil, i_icon, i_lcon, i_null, i_loadI, i_loadL, i_loadR, i_istore, i_lstore, i_astore, i_iinc, i_dup, i_dup2, i_pop, i_iadd, i_isub, i_imul, i_idiv, i_irem, i_ineg, i_iand, i_ior, i_ishl, i_ishr, i_lxor, i_ladd, i_lsub, i_lmul, i_ldiv, i_lrem, i_lneg, i_lshl, i_lcmp, i_i2l, i_l2i, i_i2b, i_i2s, i_ifeq, i_ifne, i_iflt, i_ifge, i_ifgt, i_ifle, i_cmpeq, i_cmpne, i_cmplt, i_cmpge, i_cmpgt, i_cmple, i_acmpeq, i_acmpne, i_ifnull, i_ifnonnull, i_getI, i_getR, i_putI, i_putZ, i_putR, i_ald, i_ldL, i_ldR, i_ast, i_stL, i_stR, i_alen, i_new, i_newa, i_iret, i_zret, i_lret, i_aret, i_vret, i_raise, i_throw, i_recv, i_objinit, i_tsw3, lget, lset, lput1, lput2, lkil, ltrim, largs, isL, takev, dropv, nthv, pushO, catv, gd, true_and, and_true, Option.some.injEq, Prod.mk.injEq, exists_eq_left', if_true, if_false, reduceCtorEq, Bool.false_eq_true, lcmp_ge, lcmp_lt, lcmp_le, lcmp_gt, lcmp_eq, true_or, or_true, not_true_eq_false, not_false_eq_true, false_implies, true_implies, List.length_cons, List.length_nil, M1, s1]
  repeat (first | refine ⟨in_small (by omega) (by omega), ?_⟩ | (show (_ → _) ∧ (_ → _); first | refine ⟨by omega, fun _ => ?_⟩ | refine ⟨fun _ => ?_, by omega⟩) | refine ⟨by omega, ?_⟩ | refine ⟨⟨_, rfl, by assumption⟩, ?_⟩ | refine ⟨okT_I _, ?_⟩ | refine ⟨okT_S (by omega) (by omega), ?_⟩ | refine ⟨okT_B (by omega) (by omega), ?_⟩ | refine call0 (gd_of rfl) ?_)
  refine sp_X17_set hr (by omega) (by omega) (by omega) fun D1 g1 g2 => ?_
  simp only [P_X16_pow, i_kil, i_icon, i_lcon, i_null, i_loadI, i_loadL, i_loadR, i_istore, i_lstore, i_astore, i_iinc, i_dup, i_dup2, i_pop, i_iadd, i_isub, i_imul, i_idiv, i_irem, i_ineg, i_iand, i_ior, i_ishl, i_ishr, i_lxor, i_ladd, i_lsub, i_lmul, i_ldiv, i_lrem, i_lneg, i_lshl, i_lcmp, i_i2l, i_l2i, i_i2b, i_i2s, i_ifeq, i_ifne, i_iflt, i_ifge, i_ifgt, i_ifle, i_cmpeq, i_cmpne, i_cmplt, i_cmpge, i_cmpgt, i_cmple, i_acmpeq, i_acmpne, i_ifnull, i_ifnonnull, i_getI, i_getR, i_putI, i_putZ, i_putR, i_ald, i_ldL, i_ldR, i_ast, i_stL, i_stR, i_alen, i_new, i_newa, i_iret, i_zret, i_lret, i_aret, i_vret, i_raise, i_throw, i_recv, i_objinit, i_tsw3, lget, lset, lput1, lput2, lkil, ltrim, largs, isL, takev, dropv, nthv, pushO, catv, gd, true_and, and_true, Option.some.injEq, Prod.mk.injEq, exists_eq_left', if_true, if_false, reduceCtorEq, Bool.false_eq_true, lcmp_ge, lcmp_lt, lcmp_le, lcmp_gt, lcmp_eq, true_or, or_true, not_true_eq_false, not_false_eq_true, false_implies, true_implies, List.length_cons, List.length_nil, M1, s1]
  repeat (first | refine ⟨in_small (by omega) (by omega), ?_⟩ | (show (_ → _) ∧ (_ → _); first | refine ⟨by omega, fun _ => ?_⟩ | refine ⟨fun _ => ?_, by omega⟩) | refine ⟨by omega, ?_⟩ | refine ⟨⟨_, rfl, by assumption⟩, ?_⟩ | refine ⟨okT_I _, ?_⟩ | refine ⟨okT_S (by omega) (by omega), ?_⟩ | refine ⟨okT_B (by omega) (by omega), ?_⟩ | refine call0 (gd_of rfl) ?_)
  refine sp_X17_set s2 (by omega) (by omega) (by omega) fun D2 i1 i2 => ?_
  simp only [P_X16_pow, i_kil, i_icon, i_lcon, i_null, i_loadI, i_loadL, i_loadR, i_istore, i_lstore, i_astore, i_iinc, i_dup, i_dup2, i_pop, i_iadd, i_isub, i_imul, i_idiv, i_irem, i_ineg, i_iand, i_ior, i_ishl, i_ishr, i_lxor, i_ladd, i_lsub, i_lmul, i_ldiv, i_lrem, i_lneg, i_lshl, i_lcmp, i_i2l, i_l2i, i_i2b, i_i2s, i_ifeq, i_ifne, i_iflt, i_ifge, i_ifgt, i_ifle, i_cmpeq, i_cmpne, i_cmplt, i_cmpge, i_cmpgt, i_cmple, i_acmpeq, i_acmpne, i_ifnull, i_ifnonnull, i_getI, i_getR, i_putI, i_putZ, i_putR, i_ald, i_ldL, i_ldR, i_ast, i_stL, i_stR, i_alen, i_new, i_newa, i_iret, i_zret, i_lret, i_aret, i_vret, i_raise, i_throw, i_recv, i_objinit, i_tsw3, lget, lset, lput1, lput2, lkil, ltrim, largs, isL, takev, dropv, nthv, pushO, catv, gd, true_and, and_true, Option.some.injEq, Prod.mk.injEq, exists_eq_left', if_true, if_false, reduceCtorEq, Bool.false_eq_true, lcmp_ge, lcmp_lt, lcmp_le, lcmp_gt, lcmp_eq, true_or, or_true, not_true_eq_false, not_false_eq_true, false_implies, true_implies, List.length_cons, List.length_nil]
  refine loop (n / 29) 0 D2 (by omega) (fun c i c1 c2 c3 c4 c5 => by rw [i1 c i c4 c5, g1 c i c1 c2]) ?_ i2
  exact g2.congr (fun i => i1 _ i (by omega) (by omega)) fun i => i1 _ i (by omega) (by omega)
/-- the place that v units of 2 to the (7 - h) are -/
def mpt (h : Nat) (v : Int) : Rat := (v : Rat) * 128 / (((2 ^ h : Nat) : Int) : Rat)
theorem mpt_rpt (h : Nat) (w : Int) : mpt h (2 * w - ((2 ^ h : Nat) : Int)) = rpt h w := by
  have p1 := r2_pos h
  obtain ⟨x1, x2⟩ := pos_inv p1
  unfold mpt rpt
  rw [Rat.div_def, Rat.div_def, Rat.intCast_sub, Rat.intCast_mul, show ((2 : Int) : Rat) = 2 from rfl]
  generalize (((2 ^ h : Nat) : Int) : Rat) = X at *
  have : (2 * (w : Rat) - X) * 128 * X⁻¹ = (w : Rat) * 256 * X⁻¹ - 128 * (X⁻¹ * X) := by grind
  rw [this, x2]; grind
/-- in whole numbers: above and below -/
def mes (h : Nat) (v : Int) : Int := v * ((2 ^ (7 - h) : Nat) : Int)
theorem mes_pt (h : Nat) (v : Int) : ((mes h v : Int) : Rat) / (((2 ^ (h - 7) : Nat) : Int) : Rat) = mpt h v := by
  have p1 := r2_pos (h - 7)
  have p2 := r2_pos h
  unfold mes mpt
  rw [Rat.intCast_mul]
  have e : (((2 ^ (7 - h) : Nat) : Int) : Rat) * (((2 ^ h : Nat) : Int) : Rat) = 128 * (((2 ^ (h - 7) : Nat) : Int) : Rat) := by
    have h1 : 2 ^ (7 - h) * 2 ^ h = 128 * 2 ^ (h - 7) := by
      rw [show (128 : Nat) = 2 ^ 7 by decide, ← Nat.pow_add, ← Nat.pow_add]; congr 1; omega
    rw [← Rat.intCast_mul, show (128 : Rat) = (((128 : Nat) : Int) : Rat) from rfl, ← Rat.intCast_mul, ← Int.natCast_mul, ← Int.natCast_mul, h1]
  generalize (((2 ^ (h - 7) : Nat) : Int) : Rat) = X at *
  generalize (((2 ^ h : Nat) : Int) : Rat) = Y at *
  generalize (((2 ^ (7 - h) : Nat) : Int) : Rat) = Z at *
  obtain ⟨x1, x2⟩ := pos_inv p1
  obtain ⟨y1, y2⟩ := pos_inv p2
  rw [Rat.div_def, Rat.div_def]
  have e2 : Z * X⁻¹ = 128 * Y⁻¹ := by
    have h1 : Z * Y * (X⁻¹ * Y⁻¹) = 128 * X * (X⁻¹ * Y⁻¹) := by rw [e]
    have h2 : Z * Y * (X⁻¹ * Y⁻¹) = Z * X⁻¹ * (Y⁻¹ * Y) := by grind
    have h3 : 128 * X * (X⁻¹ * Y⁻¹) = 128 * Y⁻¹ * (X⁻¹ * X) := by grind
    rw [h2, h3, x2, y2] at h1
    grind
  have h4 : (v : Rat) * Z * X⁻¹ = (v : Rat) * (Z * X⁻¹) := by grind
  rw [h4, e2]; grind
theorem mes_abs {h : Nat} {v : Int} (hv : v.natAbs ≤ 2 ^ h) : (mes h v).natAbs ≤ 2 ^ (h + 7) := by
  unfold mes
  rw [Int.natAbs_mul, Int.natAbs_natCast]
  refine Nat.le_trans (Nat.mul_le_mul_right _ hv) ?_
  rw [← Nat.pow_add]
  exact pw_le2 (by omega)
section MSIGN
variable {M : Nat}
def mgO (M : Nat) (D D' : Dat) : Prop := ∀ c i, c ≠ M + 1 → c ≠ M + 4221 → c ≠ M + 4222 → (c < M + 11297 ∨ M + 11306 < c) → D' c i = D c i
/-- a row's numbers and places go together -/
def mgB (c d : Nat) : Prop := 4 + c + d * 467 < 29 * 140
set_option maxHeartbeats 4000000 in
theorem sp_X16_signAt {E : Ex} {B : Nat × Nat} {S : Stat} {D : Dat} {A R d c h V RV : Nat} {f : Nat → Int} {av x y : Int} (hM : mS S M) (hs : msS S M) (hA : nmS S A (A + 1) 18 R) (hR : R < 265) (lA : (M + 4222 < A ∧ A + 36 < M + 11297) ∨ M + 11306 < A) (hd : d ≤ 8) (hf : ∀ k, k ≤ d → wD 2 1 D (A + 1 + 2 * k) (f k)) (hc : ∀ k, k ≤ d → (f k).natAbs ≤ 2 ^ c) (hcR : c < 29 * R) (hB : mgB c d) (hV : wS 17 S V RV) (hRV : 17 ≤ RV) (hRV2 : RV < 265) (lV : V + 1 < M ∨ M + 16 < V) (lV2 : V + 1 < M + 4221 ∨ M + 4222 < V) (lV3 : V + 1 < M + 11297 ∨ M + 11306 < V) (ha : wD 2 1 D V av) (hab : av.natAbs ≤ 2 ^ h) (hh : h ≤ 460) (hx : x = d) (hy : y = 7 - (h : Int))
    (K : ∀ D' : Dat, mgO M D D' → E (.inl (some (.inl (sgr (zp f (d + 1) (mpt h av)))))) B S D') : Wp P_X16_signAt E 0 [some (aR M), some (aR A), some (aI x), some (aR V), some (aI y)] [] B S D := by
  subst hx; subst hy
  obtain ⟨s1, s2, s3, s4, s5, s6, s7, s8, s9, s10, s11, s12⟩ := id hs
  obtain ⟨M1, m0, m264, -⟩ := id hM
  obtain ⟨A1, A2⟩ := hA
  have c79 := s4.1
  unfold mgB at hB
  have hX : (0 : Int) < ((2 ^ (h - 7) : Nat) : Int) := Int.ofNat_lt.mpr (Nat.two_pow_pos _)
  have hXA : (((2 ^ (h - 7) : Nat) : Int)).natAbs ≤ 2 ^ (h + 7) := by rw [Int.natAbs_natCast]; exact pw_le2 (by omega)
  have hes := mes_abs hab
  have jd : ∀ j, j ≤ d → j * (h + 7) ≤ d * 467 := fun j hj => Nat.mul_le_mul hj (by omega)
  have hv : ∀ j, j ≤ d → ((hev f (mes h av) ((2 ^ (h - 7) : Nat) : Int) d j).natAbs : Int) < 1000000000 ^ 140 := fun j hj => by
    have h1 := hev_abs hc hes hXA j hj
    have h2 := hev_two (c := c) (b := h) hj hd
    have := jd j hj
    exact nat_pw (Nat.le_trans h1 h2) (two_pw (by omega))
  have hcw : ∀ k, k ≤ d → ((f k).natAbs : Int) < 1000000000 ^ (c / 29 + 1) := fun k hk => nat_pw (hc k hk) (two_pw (by omega))
  have hesw : ((mes h av).natAbs : Int) < 1000000000 ^ 17 := nat_pw hes (two_pw (by omega))
  have hvw : (av.natAbs : Int) < 1000000000 ^ 17 := nat_pw hab (two_pw (by omega))
  have hxw : ∀ j, j ≤ d → ((((((2 ^ (h - 7) : Nat) : Int)) ^ j).natAbs : Nat) : Int) < 1000000000 ^ (d * 453 / 29 + 1) := fun j hj => by
    rw [Int.natAbs_pow, Int.natAbs_natCast, ← Nat.pow_mul]
    refine two_pw ?_
    have : (h - 7) * j ≤ d * 453 := by rw [Nat.mul_comm]; exact Nat.mul_le_mul hj (by omega)
    omega
  have hX17 : ((((2 ^ (h - 7) : Nat) : Int)).natAbs : Int) < 1000000000 ^ 17 := by rw [Int.natAbs_natCast]; exact two_pw (by omega)
  have p17 : ∀ {z : Int}, (z.natAbs : Int) < 1000000000 ^ 17 → (z.natAbs : Int) < 1000000000 ^ 260 := fun h => Int.lt_of_lt_of_le h (pw_mono (by decide))
  have cR : c / 29 + 1 ≤ R := by omega
  have cr : ∀ k, k ≤ d → ((f k).natAbs : Int) < 1000000000 ^ R := fun k hk => Int.lt_of_lt_of_le (hcw k hk) (pw_mono cR)
  have c260 : ∀ k, k ≤ d → ((f k).natAbs : Int) < 1000000000 ^ 260 := fun k hk => Int.lt_of_lt_of_le (hcw k hk) (pw_mono (by omega))
  have row : ∀ (D1 : Dat) (k : Nat), mgO M D D1 → k ≤ d → wD 2 1 D1 (A + 1 + 2 * k) (f k) := fun D1 k g hk => (hf k hk).congr (fun i => g _ i (by omega) (by omega) (by omega) (by omega)) fun i => g _ i (by omega) (by omega) (by omega) (by omega)
  -- the loop
  have loop : ∀ (L j : Nat) (D1 : Dat), j + L = d → mgO M D D1 → wD 2 1 D1 (M + 11299) (hev f (mes h av) ((2 ^ (h - 7) : Nat) : Int) d j) → wD 2 1 D1 (M + 11303) (mes h av) → wD 2 1 D1 (M + 11301) (if (h : Int) ≤ 7 then 1 else ((2 ^ (h - 7) : Nat) : Int) ^ j) → wD 2 1 D1 (M + 11305) (if (h : Int) ≤ 7 then ((2 ^ (7 - h) : Nat) : Int) else ((2 ^ (h - 7) : Nat) : Int)) → Wp P_X16_signAt E 3 [some (aR M), some (aR A), none, none, some (aI (7 - (h : Int))), some (aI ((L : Int) - 1))] [] B S D1 := by
    intro L
    induction L with
    | zero =>
      intro j D1 hj hfr hy he hb hp
      have : j = d := by omega
      subst this
      have hsg := hy.sg
      rw [hev_sgr hX, mes_pt] at hsg
      refine wp_in ?_
      simp only [P_X16_signAt, i_kil, i_icon, i_lcon, i_null, i_loadI, i_loadL, i_loadR, i_istore, i_lstore, i_astore, i_iinc, i_dup, i_dup2, i_pop, i_iadd, i_isub, i_imul, i_idiv, i_irem, i_ineg, i_iand, i_ior, i_ishl, i_ishr, i_lxor, i_ladd, i_lsub, i_lmul, i_ldiv, i_lrem, i_lneg, i_lshl, i_lcmp, i_i2l, i_l2i, i_i2b, i_i2s, i_ifeq, i_ifne, i_iflt, i_ifge, i_ifgt, i_ifle, i_cmpeq, i_cmpne, i_cmplt, i_cmpge, i_cmpgt, i_cmple, i_acmpeq, i_acmpne, i_ifnull, i_ifnonnull, i_getI, i_getR, i_putI, i_putZ, i_putR, i_ald, i_ldL, i_ldR, i_ast, i_stL, i_stR, i_alen, i_new, i_newa, i_iret, i_zret, i_lret, i_aret, i_vret, i_raise, i_throw, i_recv, i_objinit, i_tsw3, lget, lset, lput1, lput2, lkil, ltrim, largs, isL, takev, dropv, nthv, pushO, catv, gd, true_and, and_true, Option.some.injEq, Prod.mk.injEq, exists_eq_left', if_true, if_false, reduceCtorEq, Bool.false_eq_true, lcmp_ge, lcmp_lt, lcmp_le, lcmp_gt, lcmp_eq, true_or, or_true, not_true_eq_false, not_false_eq_true, false_implies, true_implies, List.length_cons, List.length_nil, M1, s3, c79, hsg]
      refine ⟨fun _ => K D1 hfr, fun w => absurd w (by decide)⟩
    | succ L ih =>
      intro j D1 hj hfr hy he hb hp
      have eL : ((L + 1 : Nat) : Int) - 1 = (L : Int) := by omega
      obtain ⟨u1, u2⟩ := A2 L (by omega)
      have ejd : (j + 1) * (h + 7) ≤ d * 467 := jd (j + 1) (by omega)
      have b1 : (hev f (mes h av) ((2 ^ (h - 7) : Nat) : Int) d j * mes h av).natAbs + (f L * ((2 ^ (h - 7) : Nat) : Int) ^ (j + 1)).natAbs ≤ 2 ^ (4 + c + (j + 1) * (h + 7)) := by
        have h1 := hev_abs hc hes hXA j (by omega)
        have h2 : (hev f (mes h av) ((2 ^ (h - 7) : Nat) : Int) d j * mes h av).natAbs ≤ (j + 1) * (2 ^ c * (2 ^ (h + 7)) ^ j) * 2 ^ (h + 7) := by rw [Int.natAbs_mul]; exact Nat.mul_le_mul h1 hes
        have h3 : (f L * ((2 ^ (h - 7) : Nat) : Int) ^ (j + 1)).natAbs ≤ 2 ^ c * (2 ^ (h + 7)) ^ (j + 1) := by rw [Int.natAbs_mul, Int.natAbs_pow]; exact Nat.mul_le_mul (hc _ (by omega)) (Nat.pow_le_pow_left hXA _)
        have h4 : (j + 1) * (2 ^ c * (2 ^ (h + 7)) ^ j) * 2 ^ (h + 7) = (j + 1) * (2 ^ c * (2 ^ (h + 7)) ^ (j + 1)) := by rw [Nat.mul_assoc, Nat.mul_assoc, ← Nat.pow_succ]
        rw [h4] at h2
        have h5 : (j + 1 + 1) * (2 ^ c * (2 ^ (h + 7)) ^ (j + 1)) = (j + 1) * (2 ^ c * (2 ^ (h + 7)) ^ (j + 1)) + 2 ^ c * (2 ^ (h + 7)) ^ (j + 1) := by rw [Nat.succ_mul]
        have h6 := hev_two (c := c) (b := h) (show j + 1 ≤ d by omega) hd
        rw [h5] at h6
        exact Nat.le_trans (Nat.add_le_add h2 h3) h6
      have b3 : ((2 ^ (4 + c + (j + 1) * (h + 7)) : Nat) : Int) < 1000000000 ^ 260 := Int.lt_of_lt_of_le (two_pw (p := 140) (by omega)) (pw_mono (by decide))
      have enext : hev f (mes h av) ((2 ^ (h - 7) : Nat) : Int) d (j + 1) = hev f (mes h av) ((2 ^ (h - 7) : Nat) : Int) d j * mes h av + 1 * (f L * ((2 ^ (h - 7) : Nat) : Int) ^ (j + 1)) := by
        simp only [hev]
        rw [show d - (j + 1) = L by omega, Int.one_mul]
      have next : ∀ D2 : Dat, mgO M D D2 → wD 2 1 D2 (M + 11299) (hev f (mes h av) ((2 ^ (h - 7) : Nat) : Int) d (j + 1)) → wD 2 1 D2 (M + 11303) (mes h av) → wD 2 1 D2 (M + 11301) (if (h : Int) ≤ 7 then 1 else ((2 ^ (h - 7) : Nat) : Int) ^ (j + 1)) → wD 2 1 D2 (M + 11305) (if (h : Int) ≤ 7 then ((2 ^ (7 - h) : Nat) : Int) else ((2 ^ (h - 7) : Nat) : Int)) → Wp P_X16_signAt E 4 [some (aR M), some (aR A), none, none, some (aI (7 - (h : Int))), some (aI L)] [] B S D2 := fun D2 g1 g2 g3 g4 g5 => by
        refine wp_in ?_
        simp only [P_X16_signAt, i_kil, i_icon, i_lcon, i_null, i_loadI, i_loadL, i_loadR, i_istore, i_lstore, i_astore, i_iinc, i_dup, i_dup2, i_pop, i_iadd, i_isub, i_imul, i_idiv, i_irem, i_ineg, i_iand, i_ior, i_ishl, i_ishr, i_lxor, i_ladd, i_lsub, i_lmul, i_ldiv, i_lrem, i_lneg, i_lshl, i_lcmp, i_i2l, i_l2i, i_i2b, i_i2s, i_ifeq, i_ifne, i_iflt, i_ifge, i_ifgt, i_ifle, i_cmpeq, i_cmpne, i_cmplt, i_cmpge, i_cmpgt, i_cmple, i_acmpeq, i_acmpne, i_ifnull, i_ifnonnull, i_getI, i_getR, i_putI, i_putZ, i_putR, i_ald, i_ldL, i_ldR, i_ast, i_stL, i_stR, i_alen, i_new, i_newa, i_iret, i_zret, i_lret, i_aret, i_vret, i_raise, i_throw, i_recv, i_objinit, i_tsw3, lget, lset, lput1, lput2, lkil, ltrim, largs, isL, takev, dropv, nthv, pushO, catv, gd, true_and, and_true, Option.some.injEq, Prod.mk.injEq, exists_eq_left', if_true, if_false, reduceCtorEq, Bool.false_eq_true, lcmp_ge, lcmp_lt, lcmp_le, lcmp_gt, lcmp_eq, true_or, or_true, not_true_eq_false, not_false_eq_true, false_implies, true_implies, List.length_cons, List.length_nil]
        repeat (first | refine ⟨in_small (by omega) (by omega), ?_⟩ | (show (_ → _) ∧ (_ → _); first | refine ⟨by omega, fun _ => ?_⟩ | refine ⟨fun _ => ?_, by omega⟩) | refine ⟨by omega, ?_⟩ | refine ⟨⟨_, rfl, by assumption⟩, ?_⟩ | refine ⟨okT_I _, ?_⟩ | refine ⟨okT_S (by omega) (by omega), ?_⟩ | refine ⟨okT_B (by omega) (by omega), ?_⟩ | refine call0 (gd_of rfl) ?_)
        exact ih (j + 1) D2 (by omega) g1 g2 g3 g4 g5
      rw [eL]
      refine wp_in ?_
      simp only [P_X16_signAt, i_kil, i_icon, i_lcon, i_null, i_loadI, i_loadL, i_loadR, i_istore, i_lstore, i_astore, i_iinc, i_dup, i_dup2, i_pop, i_iadd, i_isub, i_imul, i_idiv, i_irem, i_ineg, i_iand, i_ior, i_ishl, i_ishr, i_lxor, i_ladd, i_lsub, i_lmul, i_ldiv, i_lrem, i_lneg, i_lshl, i_lcmp, i_i2l, i_l2i, i_i2b, i_i2s, i_ifeq, i_ifne, i_iflt, i_ifge, i_ifgt, i_ifle, i_cmpeq, i_cmpne, i_cmplt, i_cmpge, i_cmpgt, i_cmple, i_acmpeq, i_acmpne, i_ifnull, i_ifnonnull, i_getI, i_getR, i_putI, i_putZ, i_putR, i_ald, i_ldL, i_ldR, i_ast, i_stL, i_stR, i_alen, i_new, i_newa, i_iret, i_zret, i_lret, i_aret, i_vret, i_raise, i_throw, i_recv, i_objinit, i_tsw3, lget, lset, lput1, lput2, lkil, ltrim, largs, isL, takev, dropv, nthv, pushO, catv, gd, true_and, and_true, Option.some.injEq, Prod.mk.injEq, exists_eq_left', if_true, if_false, reduceCtorEq, Bool.false_eq_true, lcmp_ge, lcmp_lt, lcmp_le, lcmp_gt, lcmp_eq, true_or, or_true, not_true_eq_false, not_false_eq_true, false_implies, true_implies, List.length_cons, List.length_nil, M1, s3, s7]
      refine ⟨fun w => by omega, fun _ => ?_⟩
      repeat (first | refine ⟨in_small (by omega) (by omega), ?_⟩ | (show (_ → _) ∧ (_ → _); first | refine ⟨by omega, fun _ => ?_⟩ | refine ⟨fun _ => ?_, by omega⟩) | refine ⟨by omega, ?_⟩ | refine ⟨⟨_, rfl, by assumption⟩, ?_⟩ | refine ⟨okT_I _, ?_⟩ | refine ⟨okT_S (by omega) (by omega), ?_⟩ | refine ⟨okT_B (by omega) (by omega), ?_⟩ | refine call0 (gd_of rfl) ?_)
      refine sp_X16_multiply (p := 140) (q := 17) s4 s4 s8 M1 m0 m264 (by omega) (by omega) (by omega) hy he (hv j (by omega)) hesw (by omega) (by omega) (by omega) (by omega) (by omega) (by omega) (by omega) fun D2 g1 g2 => ?_
      have f2 : mgO M D D2 := fun c i c1 c2 c3 c4 => by rw [g1 c i (by omega) (by omega) c1]; exact hfr c i c1 c2 c3 c4
      have k2 : ∀ w z, w ≠ M + 11299 → w + 1 ≠ M + 11299 → w ≠ M + 11300 → w ≠ M + 1 → w + 1 ≠ M + 1 → wD 2 1 D1 w z → wD 2 1 D2 w z := fun w z e1 e2 e3 e4 e5 hw => hw.congr (fun i => g1 _ i (by omega) (by omega) (by omega)) fun i => g1 _ i (by omega) (by omega) (by omega)
      simp only [P_X16_signAt, i_kil, i_icon, i_lcon, i_null, i_loadI, i_loadL, i_loadR, i_istore, i_lstore, i_astore, i_iinc, i_dup, i_dup2, i_pop, i_iadd, i_isub, i_imul, i_idiv, i_irem, i_ineg, i_iand, i_ior, i_ishl, i_ishr, i_lxor, i_ladd, i_lsub, i_lmul, i_ldiv, i_lrem, i_lneg, i_lshl, i_lcmp, i_i2l, i_l2i, i_i2b, i_i2s, i_ifeq, i_ifne, i_iflt, i_ifge, i_ifgt, i_ifle, i_cmpeq, i_cmpne, i_cmplt, i_cmpge, i_cmpgt, i_cmple, i_acmpeq, i_acmpne, i_ifnull, i_ifnonnull, i_getI, i_getR, i_putI, i_putZ, i_putR, i_ald, i_ldL, i_ldR, i_ast, i_stL, i_stR, i_alen, i_new, i_newa, i_iret, i_zret, i_lret, i_aret, i_vret, i_raise, i_throw, i_recv, i_objinit, i_tsw3, lget, lset, lput1, lput2, lkil, ltrim, largs, isL, takev, dropv, nthv, pushO, catv, gd, true_and, and_true, Option.some.injEq, Prod.mk.injEq, exists_eq_left', if_true, if_false, reduceCtorEq, Bool.false_eq_true, lcmp_ge, lcmp_lt, lcmp_le, lcmp_gt, lcmp_eq, true_or, or_true, not_true_eq_false, not_false_eq_true, false_implies, true_implies, List.length_cons, List.length_nil, M1, s3, s5, s9, A1, u1]
      refine ⟨fun w => ?_, fun w => ?_⟩
      · have hle : (h : Int) ≤ 7 := by omega
        have e1 : h - 7 = 0 := by omega
        repeat (first | refine ⟨in_small (by omega) (by omega), ?_⟩ | (show (_ → _) ∧ (_ → _); first | refine ⟨by omega, fun _ => ?_⟩ | refine ⟨fun _ => ?_, by omega⟩) | refine ⟨by omega, ?_⟩ | refine ⟨⟨_, rfl, by assumption⟩, ?_⟩ | refine ⟨okT_I _, ?_⟩ | refine ⟨okT_S (by omega) (by omega), ?_⟩ | refine ⟨okT_B (by omega) (by omega), ?_⟩ | refine call0 (gd_of rfl) ?_)
        have eX : ((2 ^ (h - 7) : Nat) : Int) ^ (j + 1) = 1 := by rw [e1]; exact Int.one_pow
        rw [eX, Int.mul_one] at b1 enext
        refine sp_X16_add s4 s4 u2 g2 (row D2 L f2 (by omega)) (.inl rfl) (by generalize 2 ^ (4 + c + (j + 1) * (h + 7)) = W at *; omega) (cr L (by omega)) (by generalize 2 ^ (4 + c + (j + 1) * (h + 7)) = W at *; omega) (by omega) (by omega) (by omega) fun D3 i1 i2 => ?_
        simp only [P_X16_signAt, i_kil, i_icon, i_lcon, i_null, i_loadI, i_loadL, i_loadR, i_istore, i_lstore, i_astore, i_iinc, i_dup, i_dup2, i_pop, i_iadd, i_isub, i_imul, i_idiv, i_irem, i_ineg, i_iand, i_ior, i_ishl, i_ishr, i_lxor, i_ladd, i_lsub, i_lmul, i_ldiv, i_lrem, i_lneg, i_lshl, i_lcmp, i_i2l, i_l2i, i_i2b, i_i2s, i_ifeq, i_ifne, i_iflt, i_ifge, i_ifgt, i_ifle, i_cmpeq, i_cmpne, i_cmplt, i_cmpge, i_cmpgt, i_cmple, i_acmpeq, i_acmpne, i_ifnull, i_ifnonnull, i_getI, i_getR, i_putI, i_putZ, i_putR, i_ald, i_ldL, i_ldR, i_ast, i_stL, i_stR, i_alen, i_new, i_newa, i_iret, i_zret, i_lret, i_aret, i_vret, i_raise, i_throw, i_recv, i_objinit, i_tsw3, lget, lset, lput1, lput2, lkil, ltrim, largs, isL, takev, dropv, nthv, pushO, catv, gd, true_and, and_true, Option.some.injEq, Prod.mk.injEq, exists_eq_left', if_true, if_false, reduceCtorEq, Bool.false_eq_true, lcmp_ge, lcmp_lt, lcmp_le, lcmp_gt, lcmp_eq, true_or, or_true, not_true_eq_false, not_false_eq_true, false_implies, true_implies, List.length_cons, List.length_nil]
        rw [← enext] at i2
        rw [if_pos hle] at hb hp
        have kk : ∀ w z, w ≠ M + 11299 → w + 1 ≠ M + 11299 → w ≠ M + 11300 → w ≠ M + 1 → w + 1 ≠ M + 1 → wD 2 1 D1 w z → wD 2 1 D3 w z := fun w z e1 e2 e3 e4 e5 hw => (k2 w z e1 e2 e3 e4 e5 hw).congr (fun i => i1 _ i (by omega) (by omega)) fun i => i1 _ i (by omega) (by omega)
        refine next D3 (fun c i c1 c2 c3 c4 => by rw [i1 c i (by omega) (by omega)]; exact f2 c i c1 c2 c3 c4) i2 (kk _ _ (by omega) (by omega) (by omega) (by omega) (by omega) he) ?_ ?_
        · rw [if_pos hle]; exact kk _ _ (by omega) (by omega) (by omega) (by omega) (by omega) hb
        · rw [if_pos hle]; exact kk _ _ (by omega) (by omega) (by omega) (by omega) (by omega) hp
      · have hle : ¬ (h : Int) ≤ 7 := by omega
        rw [if_neg hle] at hb hp
        repeat (first | refine ⟨in_small (by omega) (by omega), ?_⟩ | (show (_ → _) ∧ (_ → _); first | refine ⟨by omega, fun _ => ?_⟩ | refine ⟨fun _ => ?_, by omega⟩) | refine ⟨by omega, ?_⟩ | refine ⟨⟨_, rfl, by assumption⟩, ?_⟩ | refine ⟨okT_I _, ?_⟩ | refine ⟨okT_S (by omega) (by omega), ?_⟩ | refine ⟨okT_B (by omega) (by omega), ?_⟩ | refine call0 (gd_of rfl) ?_)
        refine sp_X16_multiply (p := d * 453 / 29 + 1) (q := 17) s6 s6 s10 M1 m0 m264 (by omega) (by omega) (by omega) (k2 _ _ (by omega) (by omega) (by omega) (by omega) (by omega) hb) (k2 _ _ (by omega) (by omega) (by omega) (by omega) (by omega) hp) (hxw j (by omega)) hX17 (by omega) (by omega) (by omega) (by omega) (by omega) (by omega) (by omega) fun D3 i1 i2 => ?_
        have f3 : mgO M D D3 := fun c i c1 c2 c3 c4 => by rw [i1 c i (by omega) (by omega) c1]; exact f2 c i c1 c2 c3 c4
        have eX : ((2 ^ (h - 7) : Nat) : Int) ^ j * ((2 ^ (h - 7) : Nat) : Int) = ((2 ^ (h - 7) : Nat) : Int) ^ (j + 1) := by rw [Int.pow_succ]
        rw [eX] at i2
        simp only [P_X16_signAt, i_kil, i_icon, i_lcon, i_null, i_loadI, i_loadL, i_loadR, i_istore, i_lstore, i_astore, i_iinc, i_dup, i_dup2, i_pop, i_iadd, i_isub, i_imul, i_idiv, i_irem, i_ineg, i_iand, i_ior, i_ishl, i_ishr, i_lxor, i_ladd, i_lsub, i_lmul, i_ldiv, i_lrem, i_lneg, i_lshl, i_lcmp, i_i2l, i_l2i, i_i2b, i_i2s, i_ifeq, i_ifne, i_iflt, i_ifge, i_ifgt, i_ifle, i_cmpeq, i_cmpne, i_cmplt, i_cmpge, i_cmpgt, i_cmple, i_acmpeq, i_acmpne, i_ifnull, i_ifnonnull, i_getI, i_getR, i_putI, i_putZ, i_putR, i_ald, i_ldL, i_ldR, i_ast, i_stL, i_stR, i_alen, i_new, i_newa, i_iret, i_zret, i_lret, i_aret, i_vret, i_raise, i_throw, i_recv, i_objinit, i_tsw3, lget, lset, lput1, lput2, lkil, ltrim, largs, isL, takev, dropv, nthv, pushO, catv, gd, true_and, and_true, Option.some.injEq, Prod.mk.injEq, exists_eq_left', if_true, if_false, reduceCtorEq, Bool.false_eq_true, lcmp_ge, lcmp_lt, lcmp_le, lcmp_gt, lcmp_eq, true_or, or_true, not_true_eq_false, not_false_eq_true, false_implies, true_implies, List.length_cons, List.length_nil, M1, s3, s5, s11, A1, u1]
        repeat (first | refine ⟨in_small (by omega) (by omega), ?_⟩ | (show (_ → _) ∧ (_ → _); first | refine ⟨by omega, fun _ => ?_⟩ | refine ⟨fun _ => ?_, by omega⟩) | refine ⟨by omega, ?_⟩ | refine ⟨⟨_, rfl, by assumption⟩, ?_⟩ | refine ⟨okT_I _, ?_⟩ | refine ⟨okT_S (by omega) (by omega), ?_⟩ | refine ⟨okT_B (by omega) (by omega), ?_⟩ | refine call0 (gd_of rfl) ?_)
        refine sp_X16_multiply (p := c / 29 + 1) (q := d * 453 / 29 + 1) s12 u2 s6 M1 m0 m264 (by omega) (by omega) (by omega) (row D3 L f3 (by omega)) i2 (hcw L (by omega)) (hxw (j + 1) (by omega)) cR (by omega) (by omega) (by omega) (by omega) (by omega) (by omega) fun D4 j1 j2 => ?_
        simp only [P_X16_signAt, i_kil, i_icon, i_lcon, i_null, i_loadI, i_loadL, i_loadR, i_istore, i_lstore, i_astore, i_iinc, i_dup, i_dup2, i_pop, i_iadd, i_isub, i_imul, i_idiv, i_irem, i_ineg, i_iand, i_ior, i_ishl, i_ishr, i_lxor, i_ladd, i_lsub, i_lmul, i_ldiv, i_lrem, i_lneg, i_lshl, i_lcmp, i_i2l, i_l2i, i_i2b, i_i2s, i_ifeq, i_ifne, i_iflt, i_ifge, i_ifgt, i_ifle, i_cmpeq, i_cmpne, i_cmplt, i_cmpge, i_cmpgt, i_cmple, i_acmpeq, i_acmpne, i_ifnull, i_ifnonnull, i_getI, i_getR, i_putI, i_putZ, i_putR, i_ald, i_ldL, i_ldR, i_ast, i_stL, i_stR, i_alen, i_new, i_newa, i_iret, i_zret, i_lret, i_aret, i_vret, i_raise, i_throw, i_recv, i_objinit, i_tsw3, lget, lset, lput1, lput2, lkil, ltrim, largs, isL, takev, dropv, nthv, pushO, catv, gd, true_and, and_true, Option.some.injEq, Prod.mk.injEq, exists_eq_left', if_true, if_false, reduceCtorEq, Bool.false_eq_true, lcmp_ge, lcmp_lt, lcmp_le, lcmp_gt, lcmp_eq, true_or, or_true, not_true_eq_false, not_false_eq_true, false_implies, true_implies, List.length_cons, List.length_nil, M1, s3, s11]
        repeat (first | refine ⟨in_small (by omega) (by omega), ?_⟩ | (show (_ → _) ∧ (_ → _); first | refine ⟨by omega, fun _ => ?_⟩ | refine ⟨fun _ => ?_, by omega⟩) | refine ⟨by omega, ?_⟩ | refine ⟨⟨_, rfl, by assumption⟩, ?_⟩ | refine ⟨okT_I _, ?_⟩ | refine ⟨okT_S (by omega) (by omega), ?_⟩ | refine ⟨okT_B (by omega) (by omega), ?_⟩ | refine call0 (gd_of rfl) ?_)
        have k4 : ∀ w z, w ≠ M + 11299 → w + 1 ≠ M + 11299 → w ≠ M + 11300 → w ≠ M + 1 → w + 1 ≠ M + 1 → w ≠ M + 11301 → w ≠ M + 11302 → w + 1 ≠ M + 11301 → w ≠ M + 4221 → w ≠ M + 4222 → w + 1 ≠ M + 4221 → wD 2 1 D1 w z → wD 2 1 D4 w z := fun w z e1 e2 e3 e4 e5 e6 e7 e8 e9 e10 e11 hw => (k2 w z e1 e2 e3 e4 e5 hw).congr (fun i => by rw [j1 _ i (by omega) (by omega) (by omega), i1 _ i (by omega) (by omega) (by omega)]) fun i => by rw [j1 _ i (by omega) (by omega) (by omega), i1 _ i (by omega) (by omega) (by omega)]
        have g4 : wD 2 1 D4 (M + 11299) (hev f (mes h av) ((2 ^ (h - 7) : Nat) : Int) d j * mes h av) := g2.congr (fun i => by rw [j1 _ i (by omega) (by omega) (by omega), i1 _ i (by omega) (by omega) (by omega)]) fun i => by rw [j1 _ i (by omega) (by omega) (by omega), i1 _ i (by omega) (by omega) (by omega)]
        refine sp_X16_add s4 s4 s12 g4 j2 (.inl rfl) (by generalize 2 ^ (4 + c + (j + 1) * (h + 7)) = W at *; omega) (by generalize 2 ^ (4 + c + (j + 1) * (h + 7)) = W at *; omega) (by generalize 2 ^ (4 + c + (j + 1) * (h + 7)) = W at *; omega) (by omega) (by omega) (by omega) fun D5 l1 l2 => ?_
        simp only [P_X16_signAt, i_kil, i_icon, i_lcon, i_null, i_loadI, i_loadL, i_loadR, i_istore, i_lstore, i_astore, i_iinc, i_dup, i_dup2, i_pop, i_iadd, i_isub, i_imul, i_idiv, i_irem, i_ineg, i_iand, i_ior, i_ishl, i_ishr, i_lxor, i_ladd, i_lsub, i_lmul, i_ldiv, i_lrem, i_lneg, i_lshl, i_lcmp, i_i2l, i_l2i, i_i2b, i_i2s, i_ifeq, i_ifne, i_iflt, i_ifge, i_ifgt, i_ifle, i_cmpeq, i_cmpne, i_cmplt, i_cmpge, i_cmpgt, i_cmple, i_acmpeq, i_acmpne, i_ifnull, i_ifnonnull, i_getI, i_getR, i_putI, i_putZ, i_putR, i_ald, i_ldL, i_ldR, i_ast, i_stL, i_stR, i_alen, i_new, i_newa, i_iret, i_zret, i_lret, i_aret, i_vret, i_raise, i_throw, i_recv, i_objinit, i_tsw3, lget, lset, lput1, lput2, lkil, ltrim, largs, isL, takev, dropv, nthv, pushO, catv, gd, true_and, and_true, Option.some.injEq, Prod.mk.injEq, exists_eq_left', if_true, if_false, reduceCtorEq, Bool.false_eq_true, lcmp_ge, lcmp_lt, lcmp_le, lcmp_gt, lcmp_eq, true_or, or_true, not_true_eq_false, not_false_eq_true, false_implies, true_implies, List.length_cons, List.length_nil]
        rw [← enext] at l2
        refine next D5 (fun c i c1 c2 c3 c4 => by rw [l1 c i (by omega) (by omega), j1 c i (by omega) (by omega) c1]; exact f3 c i c1 c2 c3 c4) l2 ((k4 _ _ (by omega) (by omega) (by omega) (by omega) (by omega) (by omega) (by omega) (by omega) (by omega) (by omega) (by omega) he).congr (fun i => l1 _ i (by omega) (by omega)) fun i => l1 _ i (by omega) (by omega)) ?_ ?_
        · rw [if_neg hle]
          exact i2.congr (fun i => by rw [l1 _ i (by omega) (by omega), j1 _ i (by omega) (by omega) (by omega)]) fun i => by rw [l1 _ i (by omega) (by omega), j1 _ i (by omega) (by omega) (by omega)]
        · rw [if_neg hle]
          exact (k4 _ _ (by omega) (by omega) (by omega) (by omega) (by omega) (by omega) (by omega) (by omega) (by omega) (by omega) (by omega) hp).congr (fun i => l1 _ i (by omega) (by omega)) fun i => l1 _ i (by omega) (by omega)
  -- the top
  have second : ∀ D1 : Dat, mgO M D D1 → wD 2 1 D1 (M + 11303) (mes h av) → wD 2 1 D1 (M + 11305) (if (h : Int) ≤ 7 then ((2 ^ (7 - h) : Nat) : Int) else ((2 ^ (h - 7) : Nat) : Int)) → Wp P_X16_signAt E 2 [some (aR M), some (aR A), some (aI d), none, some (aI (7 - (h : Int)))] [] B S D1 := fun D1 hfr he hp => by
    obtain ⟨u1, u2⟩ := A2 d (by omega)
    have c80 := s6.1
    refine wp_in ?_
    simp only [P_X16_signAt, i_kil, i_icon, i_lcon, i_null, i_loadI, i_loadL, i_loadR, i_istore, i_lstore, i_astore, i_iinc, i_dup, i_dup2, i_pop, i_iadd, i_isub, i_imul, i_idiv, i_irem, i_ineg, i_iand, i_ior, i_ishl, i_ishr, i_lxor, i_ladd, i_lsub, i_lmul, i_ldiv, i_lrem, i_lneg, i_lshl, i_lcmp, i_i2l, i_l2i, i_i2b, i_i2s, i_ifeq, i_ifne, i_iflt, i_ifge, i_ifgt, i_ifle, i_cmpeq, i_cmpne, i_cmplt, i_cmpge, i_cmpgt, i_cmple, i_acmpeq, i_acmpne, i_ifnull, i_ifnonnull, i_getI, i_getR, i_putI, i_putZ, i_putR, i_ald, i_ldL, i_ldR, i_ast, i_stL, i_stR, i_alen, i_new, i_newa, i_iret, i_zret, i_lret, i_aret, i_vret, i_raise, i_throw, i_recv, i_objinit, i_tsw3, lget, lset, lput1, lput2, lkil, ltrim, largs, isL, takev, dropv, nthv, pushO, catv, gd, true_and, and_true, Option.some.injEq, Prod.mk.injEq, exists_eq_left', if_true, if_false, reduceCtorEq, Bool.false_eq_true, lcmp_ge, lcmp_lt, lcmp_le, lcmp_gt, lcmp_eq, true_or, or_true, not_true_eq_false, not_false_eq_true, false_implies, true_implies, List.length_cons, List.length_nil, M1, s3, A1, u1]
    repeat (first | refine ⟨in_small (by omega) (by omega), ?_⟩ | (show (_ → _) ∧ (_ → _); first | refine ⟨by omega, fun _ => ?_⟩ | refine ⟨fun _ => ?_, by omega⟩) | refine ⟨by omega, ?_⟩ | refine ⟨⟨_, rfl, by assumption⟩, ?_⟩ | refine ⟨okT_I _, ?_⟩ | refine ⟨okT_S (by omega) (by omega), ?_⟩ | refine ⟨okT_B (by omega) (by omega), ?_⟩ | refine call0 (gd_of rfl) ?_)
    refine sp_X17_copy s4 u2 (row D1 d hfr (Nat.le_refl _)) (c260 d (Nat.le_refl _)) (cr d (Nat.le_refl _)) (by omega) fun D2 g1 g2 => ?_
    simp only [P_X16_signAt, i_kil, i_icon, i_lcon, i_null, i_loadI, i_loadL, i_loadR, i_istore, i_lstore, i_astore, i_iinc, i_dup, i_dup2, i_pop, i_iadd, i_isub, i_imul, i_idiv, i_irem, i_ineg, i_iand, i_ior, i_ishl, i_ishr, i_lxor, i_ladd, i_lsub, i_lmul, i_ldiv, i_lrem, i_lneg, i_lshl, i_lcmp, i_i2l, i_l2i, i_i2b, i_i2s, i_ifeq, i_ifne, i_iflt, i_ifge, i_ifgt, i_ifle, i_cmpeq, i_cmpne, i_cmplt, i_cmpge, i_cmpgt, i_cmple, i_acmpeq, i_acmpne, i_ifnull, i_ifnonnull, i_getI, i_getR, i_putI, i_putZ, i_putR, i_ald, i_ldL, i_ldR, i_ast, i_stL, i_stR, i_alen, i_new, i_newa, i_iret, i_zret, i_lret, i_aret, i_vret, i_raise, i_throw, i_recv, i_objinit, i_tsw3, lget, lset, lput1, lput2, lkil, ltrim, largs, isL, takev, dropv, nthv, pushO, catv, gd, true_and, and_true, Option.some.injEq, Prod.mk.injEq, exists_eq_left', if_true, if_false, reduceCtorEq, Bool.false_eq_true, lcmp_ge, lcmp_lt, lcmp_le, lcmp_gt, lcmp_eq, true_or, or_true, not_true_eq_false, not_false_eq_true, false_implies, true_implies, List.length_cons, List.length_nil, M1, s5]
    repeat (first | refine ⟨in_small (by omega) (by omega), ?_⟩ | (show (_ → _) ∧ (_ → _); first | refine ⟨by omega, fun _ => ?_⟩ | refine ⟨fun _ => ?_, by omega⟩) | refine ⟨by omega, ?_⟩ | refine ⟨⟨_, rfl, by assumption⟩, ?_⟩ | refine ⟨okT_I _, ?_⟩ | refine ⟨okT_S (by omega) (by omega), ?_⟩ | refine ⟨okT_B (by omega) (by omega), ?_⟩ | refine call0 (gd_of rfl) ?_)
    refine sp_X17_set s6 (by omega) (by omega) (by omega) fun D3 i1 i2 => ?_
    simp only [P_X16_signAt, i_kil, i_icon, i_lcon, i_null, i_loadI, i_loadL, i_loadR, i_istore, i_lstore, i_astore, i_iinc, i_dup, i_dup2, i_pop, i_iadd, i_isub, i_imul, i_idiv, i_irem, i_ineg, i_iand, i_ior, i_ishl, i_ishr, i_lxor, i_ladd, i_lsub, i_lmul, i_ldiv, i_lrem, i_lneg, i_lshl, i_lcmp, i_i2l, i_l2i, i_i2b, i_i2s, i_ifeq, i_ifne, i_iflt, i_ifge, i_ifgt, i_ifle, i_cmpeq, i_cmpne, i_cmplt, i_cmpge, i_cmpgt, i_cmple, i_acmpeq, i_acmpne, i_ifnull, i_ifnonnull, i_getI, i_getR, i_putI, i_putZ, i_putR, i_ald, i_ldL, i_ldR, i_ast, i_stL, i_stR, i_alen, i_new, i_newa, i_iret, i_zret, i_lret, i_aret, i_vret, i_raise, i_throw, i_recv, i_objinit, i_tsw3, lget, lset, lput1, lput2, lkil, ltrim, largs, isL, takev, dropv, nthv, pushO, catv, gd, true_and, and_true, Option.some.injEq, Prod.mk.injEq, exists_eq_left', if_true, if_false, reduceCtorEq, Bool.false_eq_true, lcmp_ge, lcmp_lt, lcmp_le, lcmp_gt, lcmp_eq, true_or, or_true, not_true_eq_false, not_false_eq_true, false_implies, true_implies, List.length_cons, List.length_nil]
    repeat (first | refine ⟨in_small (by omega) (by omega), ?_⟩ | (show (_ → _) ∧ (_ → _); first | refine ⟨by omega, fun _ => ?_⟩ | refine ⟨fun _ => ?_, by omega⟩) | refine ⟨by omega, ?_⟩ | refine ⟨⟨_, rfl, by assumption⟩, ?_⟩ | refine ⟨okT_I _, ?_⟩ | refine ⟨okT_S (by omega) (by omega), ?_⟩ | refine ⟨okT_B (by omega) (by omega), ?_⟩ | refine call0 (gd_of rfl) ?_)
    refine loop d 0 D3 (by omega) (fun c i c1 c2 c3 c4 => by rw [i1 c i (by omega) (by omega), g1 c i (by omega) (by omega)]; exact hfr c i c1 c2 c3 c4) (g2.congr (fun i => i1 _ i (by omega) (by omega)) fun i => i1 _ i (by omega) (by omega)) (he.congr (fun i => by rw [i1 _ i (by omega) (by omega), g1 _ i (by omega) (by omega)]) fun i => by rw [i1 _ i (by omega) (by omega), g1 _ i (by omega) (by omega)]) ?_ (hp.congr (fun i => by rw [i1 _ i (by omega) (by omega), g1 _ i (by omega) (by omega)]) fun i => by rw [i1 _ i (by omega) (by omega), g1 _ i (by omega) (by omega)])
    split
    · exact i2
    · exact i2
  -- the power
  have first : ∀ (N : Nat) (z : Int), z = N → ((h : Int) ≤ 7 → N = 7 - h) → (¬ (h : Int) ≤ 7 → N = h - 7) → Wp P_X16_signAt E 1 [some (aR M), some (aR A), some (aI d), some (aR V), some (aI (7 - (h : Int)))] [.inl z, .inr (.inr (some (M + 11305))), .inr (.inr (some M))] B S D := fun N z hz n1 n2 => by
    subst hz
    have c81 := s8.1
    refine wp_in ?_
    simp only [P_X16_signAt, i_kil, i_icon, i_lcon, i_null, i_loadI, i_loadL, i_loadR, i_istore, i_lstore, i_astore, i_iinc, i_dup, i_dup2, i_pop, i_iadd, i_isub, i_imul, i_idiv, i_irem, i_ineg, i_iand, i_ior, i_ishl, i_ishr, i_lxor, i_ladd, i_lsub, i_lmul, i_ldiv, i_lrem, i_lneg, i_lshl, i_lcmp, i_i2l, i_l2i, i_i2b, i_i2s, i_ifeq, i_ifne, i_iflt, i_ifge, i_ifgt, i_ifle, i_cmpeq, i_cmpne, i_cmplt, i_cmpge, i_cmpgt, i_cmple, i_acmpeq, i_acmpne, i_ifnull, i_ifnonnull, i_getI, i_getR, i_putI, i_putZ, i_putR, i_ald, i_ldL, i_ldR, i_ast, i_stL, i_stR, i_alen, i_new, i_newa, i_iret, i_zret, i_lret, i_aret, i_vret, i_raise, i_throw, i_recv, i_objinit, i_tsw3, lget, lset, lput1, lput2, lkil, ltrim, largs, isL, takev, dropv, nthv, pushO, catv, gd, true_and, and_true, Option.some.injEq, Prod.mk.injEq, exists_eq_left', if_true, if_false, reduceCtorEq, Bool.false_eq_true, lcmp_ge, lcmp_lt, lcmp_le, lcmp_gt, lcmp_eq, true_or, or_true, not_true_eq_false, not_false_eq_true, false_implies, true_implies, List.length_cons, List.length_nil, M1]
    repeat (first | refine ⟨in_small (by omega) (by omega), ?_⟩ | (show (_ → _) ∧ (_ → _); first | refine ⟨by omega, fun _ => ?_⟩ | refine ⟨fun _ => ?_, by omega⟩) | refine ⟨by omega, ?_⟩ | refine ⟨⟨_, rfl, by assumption⟩, ?_⟩ | refine ⟨okT_I _, ?_⟩ | refine ⟨okT_S (by omega) (by omega), ?_⟩ | refine ⟨okT_B (by omega) (by omega), ?_⟩ | refine call0 (gd_of rfl) ?_)
    refine sp_X16_pow hM hs s10 (by omega) (by omega) rfl (by omega) (by omega) (by omega) fun D1 g1 g2 => ?_
    simp only [P_X16_signAt, i_kil, i_icon, i_lcon, i_null, i_loadI, i_loadL, i_loadR, i_istore, i_lstore, i_astore, i_iinc, i_dup, i_dup2, i_pop, i_iadd, i_isub, i_imul, i_idiv, i_irem, i_ineg, i_iand, i_ior, i_ishl, i_ishr, i_lxor, i_ladd, i_lsub, i_lmul, i_ldiv, i_lrem, i_lneg, i_lshl, i_lcmp, i_i2l, i_l2i, i_i2b, i_i2s, i_ifeq, i_ifne, i_iflt, i_ifge, i_ifgt, i_ifle, i_cmpeq, i_cmpne, i_cmplt, i_cmpge, i_cmpgt, i_cmple, i_acmpeq, i_acmpne, i_ifnull, i_ifnonnull, i_getI, i_getR, i_putI, i_putZ, i_putR, i_ald, i_ldL, i_ldR, i_ast, i_stL, i_stR, i_alen, i_new, i_newa, i_iret, i_zret, i_lret, i_aret, i_vret, i_raise, i_throw, i_recv, i_objinit, i_tsw3, lget, lset, lput1, lput2, lkil, ltrim, largs, isL, takev, dropv, nthv, pushO, catv, gd, true_and, and_true, Option.some.injEq, Prod.mk.injEq, exists_eq_left', if_true, if_false, reduceCtorEq, Bool.false_eq_true, lcmp_ge, lcmp_lt, lcmp_le, lcmp_gt, lcmp_eq, true_or, or_true, not_true_eq_false, not_false_eq_true, false_implies, true_implies, List.length_cons, List.length_nil, M1, s7]
    repeat (first | refine ⟨in_small (by omega) (by omega), ?_⟩ | (show (_ → _) ∧ (_ → _); first | refine ⟨by omega, fun _ => ?_⟩ | refine ⟨fun _ => ?_, by omega⟩) | refine ⟨by omega, ?_⟩ | refine ⟨⟨_, rfl, by assumption⟩, ?_⟩ | refine ⟨okT_I _, ?_⟩ | refine ⟨okT_S (by omega) (by omega), ?_⟩ | refine ⟨okT_B (by omega) (by omega), ?_⟩ | refine call0 (gd_of rfl) ?_)
    refine sp_X17_copy s8 hV (ha.congr (fun i => g1 _ i (by omega) (by omega) (by omega) (by omega) (by omega)) fun i => g1 _ i (by omega) (by omega) (by omega) (by omega) (by omega)) (p17 hvw) (Int.lt_of_lt_of_le hvw (pw_mono hRV)) (by omega) fun D2 i1 i2 => ?_
    have f2 : mgO M D D2 := fun c i c1 c2 c3 c4 => by rw [i1 c i (by omega) (by omega)]; exact g1 c i (by omega) (by omega) c1 (by omega) (by omega)
    have g3 : wD 2 1 D2 (M + 11305) ((2 ^ N : Nat) : Int) := g2.congr (fun i => i1 _ i (by omega) (by omega)) fun i => i1 _ i (by omega) (by omega)
    simp only [P_X16_signAt, i_kil, i_icon, i_lcon, i_null, i_loadI, i_loadL, i_loadR, i_istore, i_lstore, i_astore, i_iinc, i_dup, i_dup2, i_pop, i_iadd, i_isub, i_imul, i_idiv, i_irem, i_ineg, i_iand, i_ior, i_ishl, i_ishr, i_lxor, i_ladd, i_lsub, i_lmul, i_ldiv, i_lrem, i_lneg, i_lshl, i_lcmp, i_i2l, i_l2i, i_i2b, i_i2s, i_ifeq, i_ifne, i_iflt, i_ifge, i_ifgt, i_ifle, i_cmpeq, i_cmpne, i_cmplt, i_cmpge, i_cmpgt, i_cmple, i_acmpeq, i_acmpne, i_ifnull, i_ifnonnull, i_getI, i_getR, i_putI, i_putZ, i_putR, i_ald, i_ldL, i_ldR, i_ast, i_stL, i_stR, i_alen, i_new, i_newa, i_iret, i_zret, i_lret, i_aret, i_vret, i_raise, i_throw, i_recv, i_objinit, i_tsw3, lget, lset, lput1, lput2, lkil, ltrim, largs, isL, takev, dropv, nthv, pushO, catv, gd, true_and, and_true, Option.some.injEq, Prod.mk.injEq, exists_eq_left', if_true, if_false, reduceCtorEq, Bool.false_eq_true, lcmp_ge, lcmp_lt, lcmp_le, lcmp_gt, lcmp_eq, true_or, or_true, not_true_eq_false, not_false_eq_true, false_implies, true_implies, List.length_cons, List.length_nil, M1, s7, s9]
    refine ⟨fun w => ?_, fun w => ?_⟩
    · refine second D2 f2 ?_ ?_
      · have : mes h av = av := by unfold mes; rw [show 7 - h = 0 by omega, Nat.pow_zero]; omega
        rw [this]; exact i2
      · by_cases w7 : (h : Int) ≤ 7
        · rw [if_pos w7, ← n1 w7]; exact g3
        · rw [if_neg w7, ← n2 w7]; exact g3
    · have w7 : (h : Int) ≤ 7 := by omega
      have eN := n1 w7
      repeat (first | refine ⟨in_small (by omega) (by omega), ?_⟩ | (show (_ → _) ∧ (_ → _); first | refine ⟨by omega, fun _ => ?_⟩ | refine ⟨fun _ => ?_, by omega⟩) | refine ⟨by omega, ?_⟩ | refine ⟨⟨_, rfl, by assumption⟩, ?_⟩ | refine ⟨okT_I _, ?_⟩ | refine ⟨okT_S (by omega) (by omega), ?_⟩ | refine ⟨okT_B (by omega) (by omega), ?_⟩ | refine call0 (gd_of rfl) ?_)
      have l2 : ((((2 ^ N : Nat) : Int)).natAbs : Int) < 1000000000 ^ 1 := by rw [Int.natAbs_natCast]; exact two_pw (by omega)
      refine sp_X16_multiply (p := 17) (q := 1) s8 s8 s10 M1 m0 m264 (by omega) (by omega) (by omega) i2 g3 hvw l2 (by omega) (by omega) (by omega) (by omega) (by omega) (by omega) (by omega) fun D3 j1 j2 => ?_
      simp only [P_X16_signAt, i_kil, i_icon, i_lcon, i_null, i_loadI, i_loadL, i_loadR, i_istore, i_lstore, i_astore, i_iinc, i_dup, i_dup2, i_pop, i_iadd, i_isub, i_imul, i_idiv, i_irem, i_ineg, i_iand, i_ior, i_ishl, i_ishr, i_lxor, i_ladd, i_lsub, i_lmul, i_ldiv, i_lrem, i_lneg, i_lshl, i_lcmp, i_i2l, i_l2i, i_i2b, i_i2s, i_ifeq, i_ifne, i_iflt, i_ifge, i_ifgt, i_ifle, i_cmpeq, i_cmpne, i_cmplt, i_cmpge, i_cmpgt, i_cmple, i_acmpeq, i_acmpne, i_ifnull, i_ifnonnull, i_getI, i_getR, i_putI, i_putZ, i_putR, i_ald, i_ldL, i_ldR, i_ast, i_stL, i_stR, i_alen, i_new, i_newa, i_iret, i_zret, i_lret, i_aret, i_vret, i_raise, i_throw, i_recv, i_objinit, i_tsw3, lget, lset, lput1, lput2, lkil, ltrim, largs, isL, takev, dropv, nthv, pushO, catv, gd, true_and, and_true, Option.some.injEq, Prod.mk.injEq, exists_eq_left', if_true, if_false, reduceCtorEq, Bool.false_eq_true, lcmp_ge, lcmp_lt, lcmp_le, lcmp_gt, lcmp_eq, true_or, or_true, not_true_eq_false, not_false_eq_true, false_implies, true_implies, List.length_cons, List.length_nil]
      refine second D3 (fun c i c1 c2 c3 c4 => by rw [j1 c i (by omega) (by omega) c1]; exact f2 c i c1 c2 c3 c4) ?_ ?_
      · unfold mes; rw [← eN]; exact j2
      · rw [if_pos w7, ← eN]
        exact g3.congr (fun i => j1 _ i (by omega) (by omega) (by omega)) fun i => j1 _ i (by omega) (by omega) (by omega)
  refine wp_in ?_
  simp only [P_X16_signAt, i_kil, i_icon, i_lcon, i_null, i_loadI, i_loadL, i_loadR, i_istore, i_lstore, i_astore, i_iinc, i_dup, i_dup2, i_pop, i_iadd, i_isub, i_imul, i_idiv, i_irem, i_ineg, i_iand, i_ior, i_ishl, i_ishr, i_lxor, i_ladd, i_lsub, i_lmul, i_ldiv, i_lrem, i_lneg, i_lshl, i_lcmp, i_i2l, i_l2i, i_i2b, i_i2s, i_ifeq, i_ifne, i_iflt, i_ifge, i_ifgt, i_ifle, i_cmpeq, i_cmpne, i_cmplt, i_cmpge, i_cmpgt, i_cmple, i_acmpeq, i_acmpne, i_ifnull, i_ifnonnull, i_getI, i_getR, i_putI, i_putZ, i_putR, i_ald, i_ldL, i_ldR, i_ast, i_stL, i_stR, i_alen, i_new, i_newa, i_iret, i_zret, i_lret, i_aret, i_vret, i_raise, i_throw, i_recv, i_objinit, i_tsw3, lget, lset, lput1, lput2, lkil, ltrim, largs, isL, takev, dropv, nthv, pushO, catv, gd, true_and, and_true, Option.some.injEq, Prod.mk.injEq, exists_eq_left', if_true, if_false, reduceCtorEq, Bool.false_eq_true, lcmp_ge, lcmp_lt, lcmp_le, lcmp_gt, lcmp_eq, true_or, or_true, not_true_eq_false, not_false_eq_true, false_implies, true_implies, List.length_cons, List.length_nil, M1, s9]
  refine ⟨fun _ => ?_, fun w => by omega⟩
  refine ⟨fun w => first (7 - h) _ (by omega) (fun _ => rfl) (fun w => by omega), fun w => ⟨in_small (by omega) (by omega), first (h - 7) _ (by omega) (fun w => by omega) (fun _ => rfl)⟩⟩
end MSIGN
