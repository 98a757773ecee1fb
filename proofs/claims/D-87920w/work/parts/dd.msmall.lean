/-! the model's chains: small -/
-- needs: dc.gdn cg.need
set_option maxRecDepth 100000
set_option linter.unusedVariables false
theorem gcn_one {f : Nat → Int} {k : Nat} (h : gcn f k = 1) : ∀ j, gcn f (k + j) = 1 := by
  intro j
  induction j with
  | zero => exact h
  | succ j ih => show Nat.gcd (gcn f (k + j)) _ = 1; rw [ih, Nat.gcd_one_left]
theorem gcn_zero {f : Nat → Int} : ∀ n, gcn f n = 0 → ∀ k, k < n → f k = 0 := by
  intro n h k hk
  have := gcn_dvd (f := f) n k hk
  rw [h] at this
  exact Int.zero_dvd.mp this
/-- n numbers over what divides them -/
def crow (f : Nat → Int) (n : Nat) : Nat → Int := fun k => (f k).tdiv (gcn f n)
theorem crow_mul {f : Nat → Int} {n k : Nat} (hk : k < n) : ((gcn f n : Nat) : Int) * crow f n k = f k := Int.mul_tdiv_cancel' (gcn_dvd n k hk)
theorem crow_abs {f : Nat → Int} {n k : Nat} (hk : k < n) : (crow f n k).natAbs ≤ (f k).natAbs := by
  rcases Nat.eq_zero_or_pos (gcn f n) with h | h
  · unfold crow; rw [h, gcn_zero n h k hk]; decide
  · rw [← crow_mul (f := f) hk, Int.natAbs_mul, Int.natAbs_natCast]
    exact Nat.le_mul_of_pos_left _ h
theorem crow_brow (f : Nat → Int) (d : Nat) : crow f (d + 1) = brow f d := rfl
section SMALL
variable {E : Ex} {B : Nat × Nat} {S : Stat} {M A R N n p : Nat} {f : Nat → Int}
/-- what a row of numbers at A (base A + 1) may change, with the reckoning places and rg -/
def smlO (M A N : Nat) (D D' : Dat) : Prop := ∀ c i, (c ≤ A ∨ A + 2 * N < c) → c ≠ M + 10787 → c ≠ M + 10788 → (c ≤ M ∨ M + 16 < c) → D' c i = D c i
set_option maxHeartbeats 4000000 in
theorem sp_X16_small {D : Dat} {x : Int} (hM : mS S M) (hW : mwS S M) (hA : nmS S A (A + 1) N R) (lA : M + 10788 < A) (hR : R < 265) (hN : n ≤ N) (hf : ∀ k, k < n → wD 2 1 D (A + 1 + 2 * k) (f k)) (hp : ∀ k, k < n → ((f k).natAbs : Int) < 1000000000 ^ p) (hpR : p ≤ R) (hp2 : p ≤ 260) (hx : x = (n : Int) - 1) (hN2 : N ≤ 100)
    (K : ∀ D' : Dat, smlO M A n D D' → (∀ k, k < n → wD 2 1 D' (A + 1 + 2 * k) (crow f n k)) → E (.inl none) B S D') : Wp P_X16_small E 0 [some (aR M), some (aR A), some (aI x)] [] B S D := by
  subst hx
  obtain ⟨w1, w2, w3, w4, w5, w6, w7, w8⟩ := hW
  have hRr := hM.r
  have hWw := hM.w
  have M1 := hM.1
  have c4 := w8.1
  obtain ⟨hA1, hA2⟩ := hA
  have pR : ∀ {z : Int}, (z.natAbs : Int) < 1000000000 ^ p → (z.natAbs : Int) < 1000000000 ^ R := fun h => Int.lt_of_lt_of_le h (pw_mono hpR)
  have p260 : ∀ {z : Int}, (z.natAbs : Int) < 1000000000 ^ p → (z.natAbs : Int) < 1000000000 ^ 260 := fun h => Int.lt_of_lt_of_le h (pw_mono hp2)
  have gl : ∀ k, k ≤ n → (((gcn f k : Nat) : Int).natAbs : Int) < 1000000000 ^ p := fun k hk => by rw [Int.natAbs_natCast]; exact gcn_lt (pw_pos p) _ fun j hj => hp j (by omega)
  have fin : ∀ D1 : Dat, smlO M A n D D1 → (∀ k, k < n → wD 2 1 D1 (A + 1 + 2 * k) (crow f n k)) → Wp P_X16_small E 6 [] [] B S D1 := fun D1 a b => by
    refine wp_in ?_
    simp only [P_X16_small, i_kil, i_icon, i_lcon, i_null, i_loadI, i_loadL, i_loadR, i_istore, i_lstore, i_astore, i_iinc, i_dup, i_dup2, i_pop, i_iadd, i_isub, i_imul, i_idiv, i_irem, i_ineg, i_iand, i_ior, i_ishl, i_ishr, i_lxor, i_ladd, i_lsub, i_lmul, i_ldiv, i_lrem, i_lneg, i_lshl, i_lcmp, i_i2l, i_l2i, i_i2b, i_i2s, i_ifeq, i_ifne, i_iflt, i_ifge, i_ifgt, i_ifle, i_cmpeq, i_cmpne, i_cmplt, i_cmpge, i_cmpgt, i_cmple, i_acmpeq, i_acmpne, i_ifnull, i_ifnonnull, i_getI, i_getR, i_putI, i_putZ, i_putR, i_ald, i_ldL, i_ldR, i_ast, i_stL, i_stR, i_alen, i_new, i_newa, i_iret, i_zret, i_lret, i_aret, i_vret, i_raise, i_throw, i_recv, i_objinit, i_tsw3, lget, lset, lput1, lput2, lkil, ltrim, largs, isL, takev, dropv, nthv, pushO, catv, gd, true_and, and_true, Option.some.injEq, Prod.mk.injEq, exists_eq_left', if_true, if_false, reduceCtorEq, Bool.false_eq_true, lcmp_ge, lcmp_lt, lcmp_le, lcmp_gt, lcmp_eq, true_or, or_true, not_true_eq_false, not_false_eq_true, false_implies, true_implies, List.length_cons, List.length_nil]
    exact K D1 a b
  have second : ∀ (L j : Nat) (D1 : Dat), j + L = n → smlO M A n D D1 → wD 2 1 D1 (M + 10787) (gcn f n) → (∀ k, k < j → wD 2 1 D1 (A + 1 + 2 * k) (crow f n k)) → (∀ k, j ≤ k → k < n → wD 2 1 D1 (A + 1 + 2 * k) (f k)) → Wp P_X16_small E 4 [some (aR M), some (aR A), some (aI ((n : Int) - 1)), some (aI j)] [] B S D1 := by
    intro L
    induction L with
    | zero =>
      intro j D1 hj hfr hw hdone hrest
      refine wp_in ?_
      simp only [P_X16_small, i_kil, i_icon, i_lcon, i_null, i_loadI, i_loadL, i_loadR, i_istore, i_lstore, i_astore, i_iinc, i_dup, i_dup2, i_pop, i_iadd, i_isub, i_imul, i_idiv, i_irem, i_ineg, i_iand, i_ior, i_ishl, i_ishr, i_lxor, i_ladd, i_lsub, i_lmul, i_ldiv, i_lrem, i_lneg, i_lshl, i_lcmp, i_i2l, i_l2i, i_i2b, i_i2s, i_ifeq, i_ifne, i_iflt, i_ifge, i_ifgt, i_ifle, i_cmpeq, i_cmpne, i_cmplt, i_cmpge, i_cmpgt, i_cmple, i_acmpeq, i_acmpne, i_ifnull, i_ifnonnull, i_getI, i_getR, i_putI, i_putZ, i_putR, i_ald, i_ldL, i_ldR, i_ast, i_stL, i_stR, i_alen, i_new, i_newa, i_iret, i_zret, i_lret, i_aret, i_vret, i_raise, i_throw, i_recv, i_objinit, i_tsw3, lget, lset, lput1, lput2, lkil, ltrim, largs, isL, takev, dropv, nthv, pushO, catv, gd, true_and, and_true, Option.some.injEq, Prod.mk.injEq, exists_eq_left', if_true, if_false, reduceCtorEq, Bool.false_eq_true, lcmp_ge, lcmp_lt, lcmp_le, lcmp_gt, lcmp_eq, true_or, or_true, not_true_eq_false, not_false_eq_true, false_implies, true_implies, List.length_cons, List.length_nil]
      refine ⟨fun _ => fin D1 hfr fun k hk => hdone k (by omega), fun w => by omega⟩
    | succ L ih =>
      intro j D1 hj hfr hw hdone hrest
      obtain ⟨v1, v2⟩ := hA2 j (by omega)
      have v3 := v2.1
      have hj4 := hrest j (Nat.le_refl _) (by omega)
      have hs := wD_nn hj4
      have hs2 := hj4.sg
      refine wp_in ?_
      simp only [P_X16_small, i_kil, i_icon, i_lcon, i_null, i_loadI, i_loadL, i_loadR, i_istore, i_lstore, i_astore, i_iinc, i_dup, i_dup2, i_pop, i_iadd, i_isub, i_imul, i_idiv, i_irem, i_ineg, i_iand, i_ior, i_ishl, i_ishr, i_lxor, i_ladd, i_lsub, i_lmul, i_ldiv, i_lrem, i_lneg, i_lshl, i_lcmp, i_i2l, i_l2i, i_i2b, i_i2s, i_ifeq, i_ifne, i_iflt, i_ifge, i_ifgt, i_ifle, i_cmpeq, i_cmpne, i_cmplt, i_cmpge, i_cmpgt, i_cmple, i_acmpeq, i_acmpne, i_ifnull, i_ifnonnull, i_getI, i_getR, i_putI, i_putZ, i_putR, i_ald, i_ldL, i_ldR, i_ast, i_stL, i_stR, i_alen, i_new, i_newa, i_iret, i_zret, i_lret, i_aret, i_vret, i_raise, i_throw, i_recv, i_objinit, i_tsw3, lget, lset, lput1, lput2, lkil, ltrim, largs, isL, takev, dropv, nthv, pushO, catv, gd, true_and, and_true, Option.some.injEq, Prod.mk.injEq, exists_eq_left', if_true, if_false, reduceCtorEq, Bool.false_eq_true, lcmp_ge, lcmp_lt, lcmp_le, lcmp_gt, lcmp_eq, true_or, or_true, not_true_eq_false, not_false_eq_true, false_implies, true_implies, List.length_cons, List.length_nil, M1, w7]
      refine ⟨fun w => by omega, fun _ => ?_⟩
      repeat (first | refine ⟨in_small (by omega) (by omega), ?_⟩ | (show (_ → _) ∧ (_ → _); first | refine ⟨by omega, fun _ => ?_⟩ | refine ⟨fun _ => ?_, by omega⟩) | refine ⟨by omega, ?_⟩ | refine ⟨⟨_, rfl, by assumption⟩, ?_⟩ | refine ⟨okT_I _, ?_⟩ | refine ⟨okT_S (by omega) (by omega), ?_⟩ | refine ⟨okT_B (by omega) (by omega), ?_⟩ | refine call0 (gd_of rfl) ?_)
      refine isOne_at w8 hw (by omega) (by omega) fun v q1 q2 => ?_
      simp only [P_X16_small, i_kil, i_icon, i_lcon, i_null, i_loadI, i_loadL, i_loadR, i_istore, i_lstore, i_astore, i_iinc, i_dup, i_dup2, i_pop, i_iadd, i_isub, i_imul, i_idiv, i_irem, i_ineg, i_iand, i_ior, i_ishl, i_ishr, i_lxor, i_ladd, i_lsub, i_lmul, i_ldiv, i_lrem, i_lneg, i_lshl, i_lcmp, i_i2l, i_l2i, i_i2b, i_i2s, i_ifeq, i_ifne, i_iflt, i_ifge, i_ifgt, i_ifle, i_cmpeq, i_cmpne, i_cmplt, i_cmpge, i_cmpgt, i_cmple, i_acmpeq, i_acmpne, i_ifnull, i_ifnonnull, i_getI, i_getR, i_putI, i_putZ, i_putR, i_ald, i_ldL, i_ldR, i_ast, i_stL, i_stR, i_alen, i_new, i_newa, i_iret, i_zret, i_lret, i_aret, i_vret, i_raise, i_throw, i_recv, i_objinit, i_tsw3, lget, lset, lput1, lput2, lkil, ltrim, largs, isL, takev, dropv, nthv, pushO, catv, gd, true_and, and_true, Option.some.injEq, Prod.mk.injEq, exists_eq_left', if_true, if_false, reduceCtorEq, Bool.false_eq_true, lcmp_ge, lcmp_lt, lcmp_le, lcmp_gt, lcmp_eq, true_or, or_true, not_true_eq_false, not_false_eq_true, false_implies, true_implies, List.length_cons, List.length_nil, M1, w7, hA1, v1, v3, hs2]
      refine ⟨fun y => ?_, fun y => ?_⟩
      · have hG1 : ((gcn f n : Nat) : Int) = 1 := Classical.byContradiction fun z => y (q2.mpr z)
        refine fin D1 hfr fun k hk => ?_
        rcases Nat.lt_or_ge k j with z | z
        · exact hdone k z
        · have e : crow f n k = f k := by unfold crow; rw [hG1, Int.tdiv_one]
          rw [e]; exact hrest k z hk
      · repeat (first | refine ⟨in_small (by omega) (by omega), ?_⟩ | (show (_ → _) ∧ (_ → _); first | refine ⟨by omega, fun _ => ?_⟩ | refine ⟨fun _ => ?_, by omega⟩) | refine ⟨by omega, ?_⟩ | refine ⟨⟨_, rfl, by assumption⟩, ?_⟩ | refine ⟨okT_I _, ?_⟩ | refine ⟨okT_S (by omega) (by omega), ?_⟩ | refine ⟨okT_B (by omega) (by omega), ?_⟩ | refine call0 (gd_of rfl) ?_)
        have next : ∀ D2 : Dat, (∀ c i, c ≠ A + 1 + 2 * j → c ≠ A + 1 + 2 * j + 1 → (c ≤ M ∨ M + 16 < c) → D2 c i = D1 c i) → wD 2 1 D2 (A + 1 + 2 * j) (crow f n j) → Wp P_X16_small E 5 [some (aR M), some (aR A), some (aI ((n : Int) - 1)), some (aI j)] [] B S D2 := fun D2 g1 g2 => by
          refine wp_in ?_
          simp only [P_X16_small, i_kil, i_icon, i_lcon, i_null, i_loadI, i_loadL, i_loadR, i_istore, i_lstore, i_astore, i_iinc, i_dup, i_dup2, i_pop, i_iadd, i_isub, i_imul, i_idiv, i_irem, i_ineg, i_iand, i_ior, i_ishl, i_ishr, i_lxor, i_ladd, i_lsub, i_lmul, i_ldiv, i_lrem, i_lneg, i_lshl, i_lcmp, i_i2l, i_l2i, i_i2b, i_i2s, i_ifeq, i_ifne, i_iflt, i_ifge, i_ifgt, i_ifle, i_cmpeq, i_cmpne, i_cmplt, i_cmpge, i_cmpgt, i_cmple, i_acmpeq, i_acmpne, i_ifnull, i_ifnonnull, i_getI, i_getR, i_putI, i_putZ, i_putR, i_ald, i_ldL, i_ldR, i_ast, i_stL, i_stR, i_alen, i_new, i_newa, i_iret, i_zret, i_lret, i_aret, i_vret, i_raise, i_throw, i_recv, i_objinit, i_tsw3, lget, lset, lput1, lput2, lkil, ltrim, largs, isL, takev, dropv, nthv, pushO, catv, gd, true_and, and_true, Option.some.injEq, Prod.mk.injEq, exists_eq_left', if_true, if_false, reduceCtorEq, Bool.false_eq_true, lcmp_ge, lcmp_lt, lcmp_le, lcmp_gt, lcmp_eq, true_or, or_true, not_true_eq_false, not_false_eq_true, false_implies, true_implies, List.length_cons, List.length_nil]
          repeat (first | refine ⟨in_small (by omega) (by omega), ?_⟩ | (show (_ → _) ∧ (_ → _); first | refine ⟨by omega, fun _ => ?_⟩ | refine ⟨fun _ => ?_, by omega⟩) | refine ⟨by omega, ?_⟩ | refine ⟨⟨_, rfl, by assumption⟩, ?_⟩ | refine ⟨okT_I _, ?_⟩ | refine ⟨okT_S (by omega) (by omega), ?_⟩ | refine ⟨okT_B (by omega) (by omega), ?_⟩ | refine call0 (gd_of rfl) ?_)
          refine ih (j + 1) D2 (by omega) (fun c i c1 c2 c3 c4 => ?_) (hw.congr (fun i => g1 _ i (by omega) (by omega) (by omega)) fun i => g1 _ i (by omega) (by omega) (by omega)) (fun k hk => ?_) fun k h1 h2 => (hrest k (by omega) h2).congr (fun i => g1 _ i (by omega) (by omega) (by omega)) fun i => g1 _ i (by omega) (by omega) (by omega)
          · rw [g1 c i (by omega) (by omega) c4]; exact hfr c i c1 c2 c3 c4
          · by_cases w : k = j
            · rw [w]; exact g2
            · exact (hdone k (by omega)).congr (fun i => g1 _ i (by omega) (by omega) (by omega)) fun i => g1 _ i (by omega) (by omega) (by omega)
        refine ⟨fun z => ?_, fun z => ?_⟩
        · have hz : f j = 0 := sign_nz.mp z
          refine next D1 (fun _ _ _ _ _ => rfl) ?_
          have e : crow f n j = f j := by unfold crow; rw [hz]; exact Int.zero_tdiv _
          rw [e]; exact hj4
        · have hfj : f j ≠ 0 := fun q => z (sign_nz.mpr q)
          have hg0 : ((gcn f n : Nat) : Int) ≠ 0 := by have := gcn_pos n j (by omega) hfj; omega
          repeat (first | refine ⟨in_small (by omega) (by omega), ?_⟩ | (show (_ → _) ∧ (_ → _); first | refine ⟨by omega, fun _ => ?_⟩ | refine ⟨fun _ => ?_, by omega⟩) | refine ⟨by omega, ?_⟩ | refine ⟨⟨_, rfl, by assumption⟩, ?_⟩ | refine ⟨okT_I _, ?_⟩ | refine ⟨okT_S (by omega) (by omega), ?_⟩ | refine ⟨okT_B (by omega) (by omega), ?_⟩ | refine call0 (gd_of rfl) ?_)
          refine sp_X16_divide_q hRr hWw v2 v2 w8 hj4 hw hg0 (pR (hp j (by omega))) (p260 (gl n (Nat.le_refl _))) (pR (hp j (by omega))) (by omega) (by omega) (by omega) fun D2 g1 g2 => ?_
          simp only [P_X16_small, i_kil, i_icon, i_lcon, i_null, i_loadI, i_loadL, i_loadR, i_istore, i_lstore, i_astore, i_iinc, i_dup, i_dup2, i_pop, i_iadd, i_isub, i_imul, i_idiv, i_irem, i_ineg, i_iand, i_ior, i_ishl, i_ishr, i_lxor, i_ladd, i_lsub, i_lmul, i_ldiv, i_lrem, i_lneg, i_lshl, i_lcmp, i_i2l, i_l2i, i_i2b, i_i2s, i_ifeq, i_ifne, i_iflt, i_ifge, i_ifgt, i_ifle, i_cmpeq, i_cmpne, i_cmplt, i_cmpge, i_cmpgt, i_cmple, i_acmpeq, i_acmpne, i_ifnull, i_ifnonnull, i_getI, i_getR, i_putI, i_putZ, i_putR, i_ald, i_ldL, i_ldR, i_ast, i_stL, i_stR, i_alen, i_new, i_newa, i_iret, i_zret, i_lret, i_aret, i_vret, i_raise, i_throw, i_recv, i_objinit, i_tsw3, lget, lset, lput1, lput2, lkil, ltrim, largs, isL, takev, dropv, nthv, pushO, catv, gd, true_and, and_true, Option.some.injEq, Prod.mk.injEq, exists_eq_left', if_true, if_false, reduceCtorEq, Bool.false_eq_true, lcmp_ge, lcmp_lt, lcmp_le, lcmp_gt, lcmp_eq, true_or, or_true, not_true_eq_false, not_false_eq_true, false_implies, true_implies, List.length_cons, List.length_nil]
          exact next D2 (fun c i c1 c2 c3 => g1 c i (by omega) (by omega) (by omega) (by omega) (by omega)) g2
  have third : ∀ D1 : Dat, smlO M A n D D1 → wD 2 1 D1 (M + 10787) (gcn f n) → (∀ k, k < n → wD 2 1 D1 (A + 1 + 2 * k) (f k)) → Wp P_X16_small E 3 [some (aR M), some (aR A), some (aI ((n : Int) - 1))] [] B S D1 := fun D1 hfr hw hrest => by
    refine wp_in ?_
    simp only [P_X16_small, i_kil, i_icon, i_lcon, i_null, i_loadI, i_loadL, i_loadR, i_istore, i_lstore, i_astore, i_iinc, i_dup, i_dup2, i_pop, i_iadd, i_isub, i_imul, i_idiv, i_irem, i_ineg, i_iand, i_ior, i_ishl, i_ishr, i_lxor, i_ladd, i_lsub, i_lmul, i_ldiv, i_lrem, i_lneg, i_lshl, i_lcmp, i_i2l, i_l2i, i_i2b, i_i2s, i_ifeq, i_ifne, i_iflt, i_ifge, i_ifgt, i_ifle, i_cmpeq, i_cmpne, i_cmplt, i_cmpge, i_cmpgt, i_cmple, i_acmpeq, i_acmpne, i_ifnull, i_ifnonnull, i_getI, i_getR, i_putI, i_putZ, i_putR, i_ald, i_ldL, i_ldR, i_ast, i_stL, i_stR, i_alen, i_new, i_newa, i_iret, i_zret, i_lret, i_aret, i_vret, i_raise, i_throw, i_recv, i_objinit, i_tsw3, lget, lset, lput1, lput2, lkil, ltrim, largs, isL, takev, dropv, nthv, pushO, catv, gd, true_and, and_true, Option.some.injEq, Prod.mk.injEq, exists_eq_left', if_true, if_false, reduceCtorEq, Bool.false_eq_true, lcmp_ge, lcmp_lt, lcmp_le, lcmp_gt, lcmp_eq, true_or, or_true, not_true_eq_false, not_false_eq_true, false_implies, true_implies, List.length_cons, List.length_nil]
    exact second n 0 D1 (by omega) hfr hw (fun k hk => by omega) fun k _ hk => hrest k hk
  have first : ∀ (L j : Nat) (D1 : Dat), j + L = n → smlO M A n D D1 → wD 2 1 D1 (M + 10787) (gcn f j) → (∀ k, k < n → wD 2 1 D1 (A + 1 + 2 * k) (f k)) → Wp P_X16_small E 1 [some (aR M), some (aR A), some (aI ((n : Int) - 1)), some (aI j)] [] B S D1 := by
    intro L
    induction L with
    | zero =>
      intro j D1 hj hfr hw hrest
      have : j = n := by omega
      subst this
      refine wp_in ?_
      simp only [P_X16_small, i_kil, i_icon, i_lcon, i_null, i_loadI, i_loadL, i_loadR, i_istore, i_lstore, i_astore, i_iinc, i_dup, i_dup2, i_pop, i_iadd, i_isub, i_imul, i_idiv, i_irem, i_ineg, i_iand, i_ior, i_ishl, i_ishr, i_lxor, i_ladd, i_lsub, i_lmul, i_ldiv, i_lrem, i_lneg, i_lshl, i_lcmp, i_i2l, i_l2i, i_i2b, i_i2s, i_ifeq, i_ifne, i_iflt, i_ifge, i_ifgt, i_ifle, i_cmpeq, i_cmpne, i_cmplt, i_cmpge, i_cmpgt, i_cmple, i_acmpeq, i_acmpne, i_ifnull, i_ifnonnull, i_getI, i_getR, i_putI, i_putZ, i_putR, i_ald, i_ldL, i_ldR, i_ast, i_stL, i_stR, i_alen, i_new, i_newa, i_iret, i_zret, i_lret, i_aret, i_vret, i_raise, i_throw, i_recv, i_objinit, i_tsw3, lget, lset, lput1, lput2, lkil, ltrim, largs, isL, takev, dropv, nthv, pushO, catv, gd, true_and, and_true, Option.some.injEq, Prod.mk.injEq, exists_eq_left', if_true, if_false, reduceCtorEq, Bool.false_eq_true, lcmp_ge, lcmp_lt, lcmp_le, lcmp_gt, lcmp_eq, true_or, or_true, not_true_eq_false, not_false_eq_true, false_implies, true_implies, List.length_cons, List.length_nil]
      refine ⟨fun _ => third D1 hfr hw hrest, fun w => by omega⟩
    | succ L ih =>
      intro j D1 hj hfr hw hrest
      obtain ⟨v1, v2⟩ := hA2 j (by omega)
      have v3 := v2.1
      have hj4 := hrest j (by omega)
      have hs2 := hj4.sg
      refine wp_in ?_
      simp only [P_X16_small, i_kil, i_icon, i_lcon, i_null, i_loadI, i_loadL, i_loadR, i_istore, i_lstore, i_astore, i_iinc, i_dup, i_dup2, i_pop, i_iadd, i_isub, i_imul, i_idiv, i_irem, i_ineg, i_iand, i_ior, i_ishl, i_ishr, i_lxor, i_ladd, i_lsub, i_lmul, i_ldiv, i_lrem, i_lneg, i_lshl, i_lcmp, i_i2l, i_l2i, i_i2b, i_i2s, i_ifeq, i_ifne, i_iflt, i_ifge, i_ifgt, i_ifle, i_cmpeq, i_cmpne, i_cmplt, i_cmpge, i_cmpgt, i_cmple, i_acmpeq, i_acmpne, i_ifnull, i_ifnonnull, i_getI, i_getR, i_putI, i_putZ, i_putR, i_ald, i_ldL, i_ldR, i_ast, i_stL, i_stR, i_alen, i_new, i_newa, i_iret, i_zret, i_lret, i_aret, i_vret, i_raise, i_throw, i_recv, i_objinit, i_tsw3, lget, lset, lput1, lput2, lkil, ltrim, largs, isL, takev, dropv, nthv, pushO, catv, gd, true_and, and_true, Option.some.injEq, Prod.mk.injEq, exists_eq_left', if_true, if_false, reduceCtorEq, Bool.false_eq_true, lcmp_ge, lcmp_lt, lcmp_le, lcmp_gt, lcmp_eq, true_or, or_true, not_true_eq_false, not_false_eq_true, false_implies, true_implies, List.length_cons, List.length_nil, M1, w7]
      refine ⟨fun w => by omega, fun _ => ?_⟩
      repeat (first | refine ⟨in_small (by omega) (by omega), ?_⟩ | (show (_ → _) ∧ (_ → _); first | refine ⟨by omega, fun _ => ?_⟩ | refine ⟨fun _ => ?_, by omega⟩) | refine ⟨by omega, ?_⟩ | refine ⟨⟨_, rfl, by assumption⟩, ?_⟩ | refine ⟨okT_I _, ?_⟩ | refine ⟨okT_S (by omega) (by omega), ?_⟩ | refine ⟨okT_B (by omega) (by omega), ?_⟩ | refine call0 (gd_of rfl) ?_)
      refine isOne_at w8 hw (by omega) (by omega) fun v q1 q2 => ?_
      simp only [P_X16_small, i_kil, i_icon, i_lcon, i_null, i_loadI, i_loadL, i_loadR, i_istore, i_lstore, i_astore, i_iinc, i_dup, i_dup2, i_pop, i_iadd, i_isub, i_imul, i_idiv, i_irem, i_ineg, i_iand, i_ior, i_ishl, i_ishr, i_lxor, i_ladd, i_lsub, i_lmul, i_ldiv, i_lrem, i_lneg, i_lshl, i_lcmp, i_i2l, i_l2i, i_i2b, i_i2s, i_ifeq, i_ifne, i_iflt, i_ifge, i_ifgt, i_ifle, i_cmpeq, i_cmpne, i_cmplt, i_cmpge, i_cmpgt, i_cmple, i_acmpeq, i_acmpne, i_ifnull, i_ifnonnull, i_getI, i_getR, i_putI, i_putZ, i_putR, i_ald, i_ldL, i_ldR, i_ast, i_stL, i_stR, i_alen, i_new, i_newa, i_iret, i_zret, i_lret, i_aret, i_vret, i_raise, i_throw, i_recv, i_objinit, i_tsw3, lget, lset, lput1, lput2, lkil, ltrim, largs, isL, takev, dropv, nthv, pushO, catv, gd, true_and, and_true, Option.some.injEq, Prod.mk.injEq, exists_eq_left', if_true, if_false, reduceCtorEq, Bool.false_eq_true, lcmp_ge, lcmp_lt, lcmp_le, lcmp_gt, lcmp_eq, true_or, or_true, not_true_eq_false, not_false_eq_true, false_implies, true_implies, List.length_cons, List.length_nil, M1, w7, hA1, v1, v3, hs2]
      refine ⟨fun y => ?_, fun y => ?_⟩
      · have hG1 : ((gcn f j : Nat) : Int) = 1 := Classical.byContradiction fun z => y (q2.mpr z)
        have e : gcn f n = 1 := by
          have := gcn_one (f := f) (k := j) (by omega) (n - j)
          rwa [show j + (n - j) = n by omega] at this
        refine third D1 hfr ?_ hrest
        rw [e]; rw [hG1] at hw; exact hw
      · repeat (first | refine ⟨in_small (by omega) (by omega), ?_⟩ | (show (_ → _) ∧ (_ → _); first | refine ⟨by omega, fun _ => ?_⟩ | refine ⟨fun _ => ?_, by omega⟩) | refine ⟨by omega, ?_⟩ | refine ⟨⟨_, rfl, by assumption⟩, ?_⟩ | refine ⟨okT_I _, ?_⟩ | refine ⟨okT_S (by omega) (by omega), ?_⟩ | refine ⟨okT_B (by omega) (by omega), ?_⟩ | refine call0 (gd_of rfl) ?_)
        have next : ∀ D2 : Dat, (∀ c i, c ≠ M + 10787 → c ≠ M + 10788 → (c ≤ M ∨ M + 16 < c) → D2 c i = D1 c i) → wD 2 1 D2 (M + 10787) (gcn f (j + 1)) → Wp P_X16_small E 2 [some (aR M), some (aR A), some (aI ((n : Int) - 1)), some (aI j)] [] B S D2 := fun D2 g1 g2 => by
          refine wp_in ?_
          simp only [P_X16_small, i_kil, i_icon, i_lcon, i_null, i_loadI, i_loadL, i_loadR, i_istore, i_lstore, i_astore, i_iinc, i_dup, i_dup2, i_pop, i_iadd, i_isub, i_imul, i_idiv, i_irem, i_ineg, i_iand, i_ior, i_ishl, i_ishr, i_lxor, i_ladd, i_lsub, i_lmul, i_ldiv, i_lrem, i_lneg, i_lshl, i_lcmp, i_i2l, i_l2i, i_i2b, i_i2s, i_ifeq, i_ifne, i_iflt, i_ifge, i_ifgt, i_ifle, i_cmpeq, i_cmpne, i_cmplt, i_cmpge, i_cmpgt, i_cmple, i_acmpeq, i_acmpne, i_ifnull, i_ifnonnull, i_getI, i_getR, i_putI, i_putZ, i_putR, i_ald, i_ldL, i_ldR, i_ast, i_stL, i_stR, i_alen, i_new, i_newa, i_iret, i_zret, i_lret, i_aret, i_vret, i_raise, i_throw, i_recv, i_objinit, i_tsw3, lget, lset, lput1, lput2, lkil, ltrim, largs, isL, takev, dropv, nthv, pushO, catv, gd, true_and, and_true, Option.some.injEq, Prod.mk.injEq, exists_eq_left', if_true, if_false, reduceCtorEq, Bool.false_eq_true, lcmp_ge, lcmp_lt, lcmp_le, lcmp_gt, lcmp_eq, true_or, or_true, not_true_eq_false, not_false_eq_true, false_implies, true_implies, List.length_cons, List.length_nil]
          repeat (first | refine ⟨in_small (by omega) (by omega), ?_⟩ | (show (_ → _) ∧ (_ → _); first | refine ⟨by omega, fun _ => ?_⟩ | refine ⟨fun _ => ?_, by omega⟩) | refine ⟨by omega, ?_⟩ | refine ⟨⟨_, rfl, by assumption⟩, ?_⟩ | refine ⟨okT_I _, ?_⟩ | refine ⟨okT_S (by omega) (by omega), ?_⟩ | refine ⟨okT_B (by omega) (by omega), ?_⟩ | refine call0 (gd_of rfl) ?_)
          refine ih (j + 1) D2 (by omega) (fun c i c1 c2 c3 c4 => ?_) g2 fun k hk => (hrest k hk).congr (fun i => g1 _ i (by omega) (by omega) (by omega)) fun i => g1 _ i (by omega) (by omega) (by omega)
          rw [g1 c i c2 c3 c4]; exact hfr c i c1 c2 c3 c4
        refine ⟨fun z => ?_, fun z => ?_⟩
        · have hz : f j = 0 := sign_nz.mp z
          refine next D1 (fun _ _ _ _ _ => rfl) ?_
          have e : gcn f (j + 1) = gcn f j := by show Nat.gcd (gcn f j) (f j).natAbs = _; rw [hz]; exact Nat.gcd_zero_right _
          rw [e]; exact hw
        · repeat (first | refine ⟨in_small (by omega) (by omega), ?_⟩ | (show (_ → _) ∧ (_ → _); first | refine ⟨by omega, fun _ => ?_⟩ | refine ⟨fun _ => ?_, by omega⟩) | refine ⟨by omega, ?_⟩ | refine ⟨⟨_, rfl, by assumption⟩, ?_⟩ | refine ⟨okT_I _, ?_⟩ | refine ⟨okT_S (by omega) (by omega), ?_⟩ | refine ⟨okT_B (by omega) (by omega), ?_⟩ | refine call0 (gd_of rfl) ?_)
          refine sp_X16_gcd hM w8 v2 w8 (by unfold wN; omega) (by unfold wN; omega) (by unfold wN; omega) hj4 hw (pR (hp j (by omega))) (p260 (gl j (by omega))) (p260 (hp j (by omega))) (p260 (gl j (by omega))) (by omega) (by omega) (by omega) fun D2 g1 g2 => ?_
          simp only [P_X16_small, i_kil, i_icon, i_lcon, i_null, i_loadI, i_loadL, i_loadR, i_istore, i_lstore, i_astore, i_iinc, i_dup, i_dup2, i_pop, i_iadd, i_isub, i_imul, i_idiv, i_irem, i_ineg, i_iand, i_ior, i_ishl, i_ishr, i_lxor, i_ladd, i_lsub, i_lmul, i_ldiv, i_lrem, i_lneg, i_lshl, i_lcmp, i_i2l, i_l2i, i_i2b, i_i2s, i_ifeq, i_ifne, i_iflt, i_ifge, i_ifgt, i_ifle, i_cmpeq, i_cmpne, i_cmplt, i_cmpge, i_cmpgt, i_cmple, i_acmpeq, i_acmpne, i_ifnull, i_ifnonnull, i_getI, i_getR, i_putI, i_putZ, i_putR, i_ald, i_ldL, i_ldR, i_ast, i_stL, i_stR, i_alen, i_new, i_newa, i_iret, i_zret, i_lret, i_aret, i_vret, i_raise, i_throw, i_recv, i_objinit, i_tsw3, lget, lset, lput1, lput2, lkil, ltrim, largs, isL, takev, dropv, nthv, pushO, catv, gd, true_and, and_true, Option.some.injEq, Prod.mk.injEq, exists_eq_left', if_true, if_false, reduceCtorEq, Bool.false_eq_true, lcmp_ge, lcmp_lt, lcmp_le, lcmp_gt, lcmp_eq, true_or, or_true, not_true_eq_false, not_false_eq_true, false_implies, true_implies, List.length_cons, List.length_nil]
          refine next D2 (fun c i c1 c2 c3 => g1 c i c1 c2 (by omega)) ?_
          have e : Int.gcd (f j) ((gcn f j : Nat) : Int) = gcn f (j + 1) := by
            show Nat.gcd (f j).natAbs (gcn f j) = Nat.gcd (gcn f j) (f j).natAbs
            exact Nat.gcd_comm _ _
          rw [e] at g2
          exact g2
  refine wp_in ?_
  simp only [P_X16_small, i_kil, i_icon, i_lcon, i_null, i_loadI, i_loadL, i_loadR, i_istore, i_lstore, i_astore, i_iinc, i_dup, i_dup2, i_pop, i_iadd, i_isub, i_imul, i_idiv, i_irem, i_ineg, i_iand, i_ior, i_ishl, i_ishr, i_lxor, i_ladd, i_lsub, i_lmul, i_ldiv, i_lrem, i_lneg, i_lshl, i_lcmp, i_i2l, i_l2i, i_i2b, i_i2s, i_ifeq, i_ifne, i_iflt, i_ifge, i_ifgt, i_ifle, i_cmpeq, i_cmpne, i_cmplt, i_cmpge, i_cmpgt, i_cmple, i_acmpeq, i_acmpne, i_ifnull, i_ifnonnull, i_getI, i_getR, i_putI, i_putZ, i_putR, i_ald, i_ldL, i_ldR, i_ast, i_stL, i_stR, i_alen, i_new, i_newa, i_iret, i_zret, i_lret, i_aret, i_vret, i_raise, i_throw, i_recv, i_objinit, i_tsw3, lget, lset, lput1, lput2, lkil, ltrim, largs, isL, takev, dropv, nthv, pushO, catv, gd, true_and, and_true, Option.some.injEq, Prod.mk.injEq, exists_eq_left', if_true, if_false, reduceCtorEq, Bool.false_eq_true, lcmp_ge, lcmp_lt, lcmp_le, lcmp_gt, lcmp_eq, true_or, or_true, not_true_eq_false, not_false_eq_true, false_implies, true_implies, List.length_cons, List.length_nil, M1, w7]
  repeat (first | refine ⟨in_small (by omega) (by omega), ?_⟩ | (show (_ → _) ∧ (_ → _); first | refine ⟨by omega, fun _ => ?_⟩ | refine ⟨fun _ => ?_, by omega⟩) | refine ⟨by omega, ?_⟩ | refine ⟨⟨_, rfl, by assumption⟩, ?_⟩ | refine ⟨okT_I _, ?_⟩ | refine ⟨okT_S (by omega) (by omega), ?_⟩ | refine ⟨okT_B (by omega) (by omega), ?_⟩ | refine call0 (gd_of rfl) ?_)
  refine sp_X17_set w8 (by omega) (by omega) (by omega) fun D1 g1 g2 => ?_
  simp only [P_X16_small, i_kil, i_icon, i_lcon, i_null, i_loadI, i_loadL, i_loadR, i_istore, i_lstore, i_astore, i_iinc, i_dup, i_dup2, i_pop, i_iadd, i_isub, i_imul, i_idiv, i_irem, i_ineg, i_iand, i_ior, i_ishl, i_ishr, i_lxor, i_ladd, i_lsub, i_lmul, i_ldiv, i_lrem, i_lneg, i_lshl, i_lcmp, i_i2l, i_l2i, i_i2b, i_i2s, i_ifeq, i_ifne, i_iflt, i_ifge, i_ifgt, i_ifle, i_cmpeq, i_cmpne, i_cmplt, i_cmpge, i_cmpgt, i_cmple, i_acmpeq, i_acmpne, i_ifnull, i_ifnonnull, i_getI, i_getR, i_putI, i_putZ, i_putR, i_ald, i_ldL, i_ldR, i_ast, i_stL, i_stR, i_alen, i_new, i_newa, i_iret, i_zret, i_lret, i_aret, i_vret, i_raise, i_throw, i_recv, i_objinit, i_tsw3, lget, lset, lput1, lput2, lkil, ltrim, largs, isL, takev, dropv, nthv, pushO, catv, gd, true_and, and_true, Option.some.injEq, Prod.mk.injEq, exists_eq_left', if_true, if_false, reduceCtorEq, Bool.false_eq_true, lcmp_ge, lcmp_lt, lcmp_le, lcmp_gt, lcmp_eq, true_or, or_true, not_true_eq_false, not_false_eq_true, false_implies, true_implies, List.length_cons, List.length_nil]
  repeat (first | refine ⟨in_small (by omega) (by omega), ?_⟩ | (show (_ → _) ∧ (_ → _); first | refine ⟨by omega, fun _ => ?_⟩ | refine ⟨fun _ => ?_, by omega⟩) | refine ⟨by omega, ?_⟩ | refine ⟨⟨_, rfl, by assumption⟩, ?_⟩ | refine ⟨okT_I _, ?_⟩ | refine ⟨okT_S (by omega) (by omega), ?_⟩ | refine ⟨okT_B (by omega) (by omega), ?_⟩ | refine call0 (gd_of rfl) ?_)
  exact first n 0 D1 (by omega) (fun c i c1 c2 c3 c4 => g1 c i (by omega) (by omega)) g2 fun k hk => (hf k hk).congr (fun i => g1 _ i (by omega) (by omega)) fun i => g1 _ i (by omega) (by omega)
end SMALL
