/-! the component's square: one more multiple taken -/
set_option maxRecDepth 100000
set_option linter.unusedVariables false
/-- a cell of an old row when the new lead is taken out -/
def trnI (d : Int) (k : Nat) (W : Nat → Int) (lead : Nat) (cl : Nat → Nat → Int) (r c : Nat) : Int := ((if c = 35 + k then 0 else cl r c) * W lead - cl r lead * W c).tdiv d
/-- what a turned row may write -/
def tnW (q o : Nat) (D D' : Dat) : Prop := ∀ a i, a ≠ q + 1 → (a < q + 5 ∨ q + 10 < a) → a ≠ q + 18 → a ≠ q + 19 → (a ≤ o ∨ o + 10 < a) → D' a i = D a i
theorem pw_11_22 {a b H : Int} (ha : (a.natAbs : Int) < H) (hb : (b.natAbs : Int) < H) (hH : 0 < H) : ((a * b).natAbs : Int) < H * H := by
  rw [Int.natAbs_mul, Int.natCast_mul]
  exact Int.lt_of_le_of_lt (Int.mul_le_mul_of_nonneg_left (Int.le_of_lt hb) (by omega)) (Int.mul_lt_mul_of_pos_right ha hH)
set_option maxHeartbeats 4000000 in
theorem sp_X7_turn {E : Ex} {B : Nat × Nat} {S : Stat} {D : Dat} {q T o k r lead wide : Nat} {d : Int} {W : Nat → Int} {cl : Nat → Nat → Int} {xr xl : Int} (hq : sqS S q T o) (ho : rS S o) (hoq : o + 10 < q) (hr : r < 35) (hlead : lead < 35) (hwd : wide ≤ 70) (hk : k ≤ 35) (hk15 : D q 15 = k) (hd : wD 1 2 D (q + 2) d) (hd0 : d ≠ 0) (hd2 : (d.natAbs : Int) < 1000000000 ^ 11) (hC : sqC D q cl) (hwl : lead < wide) (hW : ∀ c : Nat, c < wide → wD 1 2 D (q + 20 + 2 * c) (W c)) (hW2 : ∀ c : Nat, c < wide → ((W c).natAbs : Int) < 1000000000 ^ 11) (hres : ∀ c : Nat, c < wide → ((trnI d k W lead cl r c).natAbs : Int) < 1000000000 ^ 11) (hxr : xr = r) (hxl : xl = lead)
    (K : ∀ (D' : Dat) (cl' : Nat → Nat → Int), tnW q o D D' → sqC D' q cl' → (∀ r' c, r' ≠ r → cl' r' c = cl r' c) → (∀ c, c < wide → cl' r c = trnI d k W lead cl r c) → E (.inl none) B S D') : Wp P_X7_turn E 0 [some (aR q), some (aI xr), some (aI xl), some (aI wide)] [] B S D := by
  subst hxr; subst hxl
  have hq0 := hq
  obtain ⟨q1, q2, q3, q4, q5, q6, q7, q8, q9, q10, q11, q12, q13, q14, q15, q16, q17, q18, q19, q20, q21, q22, q23, q24, q25, q26, q27, q28, q29, q30, q31, q32⟩ := hq
  have x1 := q11.1
  have y1 := q13.1
  have z1 := q15.1
  have v1 := q31.1
  have o1 := ho.1
  obtain ⟨wl1, wl2⟩ := q32 lead (by omega)
  have hxl := hC r lead hr (by omega)
  have loop : ∀ (L c : Nat) (D1 : Dat) (cl1 : Nat → Nat → Int), c + L = wide → tnW q o D D1 → sqC D1 q cl1 → (∀ r' c', (r' ≠ r ∨ c ≤ c') → cl1 r' c' = cl r' c') → (∀ c', c' < c → cl1 r c' = trnI d k W lead cl r c') → wD 1 2 D1 (q + 5) (cl r lead) → Wp P_X7_turn E 1 [some (aR q), some (aI r), some (aI lead), some (aI wide), some (aI c)] [] B S D1 := by
    intro L
    induction L with
    | zero =>
      intro c D1 cl1 hc h1 h2 h3 h4 h5
      have : c = wide := by omega
      subst this
      refine wp_in ?_
      simp only [P_X7_turn, i_kil, i_icon, i_lcon, i_null, i_loadI, i_loadL, i_loadR, i_istore, i_lstore, i_astore, i_iinc, i_dup, i_dup2, i_pop, i_iadd, i_isub, i_imul, i_idiv, i_irem, i_ineg, i_iand, i_ior, i_ishl, i_ishr, i_lxor, i_ladd, i_lsub, i_lmul, i_ldiv, i_lrem, i_lneg, i_lshl, i_lcmp, i_i2l, i_l2i, i_i2b, i_i2s, i_ifeq, i_ifne, i_iflt, i_ifge, i_ifgt, i_ifle, i_cmpeq, i_cmpne, i_cmplt, i_cmpge, i_cmpgt, i_cmple, i_acmpeq, i_acmpne, i_ifnull, i_ifnonnull, i_getI, i_getR, i_putI, i_putZ, i_putR, i_ald, i_ldL, i_ldR, i_ast, i_stL, i_stR, i_alen, i_new, i_newa, i_iret, i_zret, i_lret, i_aret, i_vret, i_raise, i_throw, i_recv, i_objinit, i_tsw3, lget, lset, lput1, lput2, lkil, ltrim, largs, isL, takev, dropv, nthv, pushO, catv, gd, true_and, and_true, Option.some.injEq, Prod.mk.injEq, exists_eq_left', if_true, if_false, reduceCtorEq, Bool.false_eq_true, lcmp_ge, lcmp_lt, lcmp_le, lcmp_gt, lcmp_eq, true_or, or_true, not_true_eq_false, not_false_eq_true, false_implies, true_implies, List.length_cons, List.length_nil]
      repeat (first | refine ⟨in_small (by omega) (by omega), ?_⟩ | (show (_ → _) ∧ (_ → _); first | refine ⟨by omega, fun _ => ?_⟩ | refine ⟨fun _ => ?_, by omega⟩) | refine ⟨by omega, ?_⟩ | refine ⟨⟨_, rfl, by assumption⟩, ?_⟩ | refine ⟨okT_I _, ?_⟩ | refine call0 (gd_of rfl) ?_)
      exact K D1 cl1 h1 h2 (fun r' c' h => h3 r' c' (.inl h)) h4
    | succ L ih =>
      intro c D1 cl1 hc h1 h2 h3 h4 h5
      have hc70 : c < 70 := by omega
      obtain ⟨wc1, wc2⟩ := q32 c hc70
      have e15 : D1 q 15 = k := by rw [h1 _ _ (by omega) (by omega) (by omega) (by omega) (by omega)]; exact hk15
      have ecl : cl1 r c = cl r c := h3 r c (.inr (Nat.le_refl _))
      have hlr := hxl.lim
      have hlc := (hC r c hr hc70).lim
      have hWl := hW2 lead hwl
      have hWc := hW2 c (by omega)
      have hp22 : (1000000000 : Int) ^ 11 * 1000000000 ^ 11 = 1000000000 ^ 22 := (pw_add 11 11).symm
      have back : ∀ (D2 : Dat) (y : Int), (∀ a i, (a < q + 7 ∨ q + 8 < a) → D2 a i = D1 a i) → wD 1 2 D2 (q + 7) y → y = (if c = 35 + k then 0 else cl r c) → Wp P_X7_turn E 2 [some (aR q), some (aI r), some (aI lead), some (aI wide), some (aI c)] [] B S D2 := fun D2 y f1 f2 hy => by
        have hy2 : (y.natAbs : Int) < 1000000000 ^ 11 := by
          rw [hy]; split
          · decide
          · exact hlc
        have hWl1 : wD 1 2 D2 (q + 20 + 2 * lead) (W lead) := (hW lead hwl).congr (fun i => by rw [f1 _ _ (by omega), h1 _ _ (by omega) (by omega) (by omega) (by omega) (by omega)]) (fun i => by rw [f1 _ _ (by omega), h1 _ _ (by omega) (by omega) (by omega) (by omega) (by omega)])
        refine wp_in ?_
        simp only [P_X7_turn, i_kil, i_icon, i_lcon, i_null, i_loadI, i_loadL, i_loadR, i_istore, i_lstore, i_astore, i_iinc, i_dup, i_dup2, i_pop, i_iadd, i_isub, i_imul, i_idiv, i_irem, i_ineg, i_iand, i_ior, i_ishl, i_ishr, i_lxor, i_ladd, i_lsub, i_lmul, i_ldiv, i_lrem, i_lneg, i_lshl, i_lcmp, i_i2l, i_l2i, i_i2b, i_i2s, i_ifeq, i_ifne, i_iflt, i_ifge, i_ifgt, i_ifle, i_cmpeq, i_cmpne, i_cmplt, i_cmpge, i_cmpgt, i_cmple, i_acmpeq, i_acmpne, i_ifnull, i_ifnonnull, i_getI, i_getR, i_putI, i_putZ, i_putR, i_ald, i_ldL, i_ldR, i_ast, i_stL, i_stR, i_alen, i_new, i_newa, i_iret, i_zret, i_lret, i_aret, i_vret, i_raise, i_throw, i_recv, i_objinit, i_tsw3, lget, lset, lput1, lput2, lkil, ltrim, largs, isL, takev, dropv, nthv, pushO, catv, gd, true_and, and_true, Option.some.injEq, Prod.mk.injEq, exists_eq_left', if_true, if_false, reduceCtorEq, Bool.false_eq_true, lcmp_ge, lcmp_lt, lcmp_le, lcmp_gt, lcmp_eq, true_or, or_true, not_true_eq_false, not_false_eq_true, false_implies, true_implies, List.length_cons, List.length_nil, q1, q3, q8, q9, q12, q14, wl1]
        repeat (first | refine ⟨in_small (by omega) (by omega), ?_⟩ | (show (_ → _) ∧ (_ → _); first | refine ⟨by omega, fun _ => ?_⟩ | refine ⟨fun _ => ?_, by omega⟩) | refine ⟨by omega, ?_⟩ | refine ⟨⟨_, rfl, by assumption⟩, ?_⟩ | refine ⟨okT_I _, ?_⟩ | refine call0 (gd_of rfl) ?_)
        refine sp_X2_times (p := 11) (q := 11) q15 q13 wl2 (by omega) (by omega) f2 hWl1 hy2 hWl (by omega) (by omega) (by omega) (by omega) (by omega) (by omega) fun D3 f3 f4 => ?_
        simp only [P_X7_turn, i_kil, i_icon, i_lcon, i_null, i_loadI, i_loadL, i_loadR, i_istore, i_lstore, i_astore, i_iinc, i_dup, i_dup2, i_pop, i_iadd, i_isub, i_imul, i_idiv, i_irem, i_ineg, i_iand, i_ior, i_ishl, i_ishr, i_lxor, i_ladd, i_lsub, i_lmul, i_ldiv, i_lrem, i_lneg, i_lshl, i_lcmp, i_i2l, i_l2i, i_i2b, i_i2s, i_ifeq, i_ifne, i_iflt, i_ifge, i_ifgt, i_ifle, i_cmpeq, i_cmpne, i_cmplt, i_cmpge, i_cmpgt, i_cmple, i_acmpeq, i_acmpne, i_ifnull, i_ifnonnull, i_getI, i_getR, i_putI, i_putZ, i_putR, i_ald, i_ldL, i_ldR, i_ast, i_stL, i_stR, i_alen, i_new, i_newa, i_iret, i_zret, i_lret, i_aret, i_vret, i_raise, i_throw, i_recv, i_objinit, i_tsw3, lget, lset, lput1, lput2, lkil, ltrim, largs, isL, takev, dropv, nthv, pushO, catv, gd, true_and, and_true, Option.some.injEq, Prod.mk.injEq, exists_eq_left', if_true, if_false, reduceCtorEq, Bool.false_eq_true, lcmp_ge, lcmp_lt, lcmp_le, lcmp_gt, lcmp_eq, true_or, or_true, not_true_eq_false, not_false_eq_true, false_implies, true_implies, List.length_cons, List.length_nil, q1, q3, q8, q9, q10, q30, wc1]
        repeat (first | refine ⟨in_small (by omega) (by omega), ?_⟩ | (show (_ → _) ∧ (_ → _); first | refine ⟨by omega, fun _ => ?_⟩ | refine ⟨fun _ => ?_, by omega⟩) | refine ⟨by omega, ?_⟩ | refine ⟨⟨_, rfl, by assumption⟩, ?_⟩ | refine ⟨okT_I _, ?_⟩ | refine call0 (gd_of rfl) ?_)
        have h53 : wD 1 2 D3 (q + 5) (cl r lead) := h5.congr (fun i => by rw [f3 _ _ (by omega) (by omega), f1 _ _ (by omega)]) (fun i => by rw [f3 _ _ (by omega) (by omega), f1 _ _ (by omega)])
        have hWc1 : wD 1 2 D3 (q + 20 + 2 * c) (W c) := (hW c (by omega)).congr (fun i => by rw [f3 _ _ (by omega) (by omega), f1 _ _ (by omega), h1 _ _ (by omega) (by omega) (by omega) (by omega) (by omega)]) (fun i => by rw [f3 _ _ (by omega) (by omega), f1 _ _ (by omega), h1 _ _ (by omega) (by omega) (by omega) (by omega) (by omega)])
        refine sp_X2_times (p := 11) (q := 11) q31 q11 wc2 (by omega) (by omega) h53 hWc1 hlr hWc (by omega) (by omega) (by omega) (by omega) (by omega) (by omega) fun D4 f5 f6 => ?_
        simp only [P_X7_turn, i_kil, i_icon, i_lcon, i_null, i_loadI, i_loadL, i_loadR, i_istore, i_lstore, i_astore, i_iinc, i_dup, i_dup2, i_pop, i_iadd, i_isub, i_imul, i_idiv, i_irem, i_ineg, i_iand, i_ior, i_ishl, i_ishr, i_lxor, i_ladd, i_lsub, i_lmul, i_ldiv, i_lrem, i_lneg, i_lshl, i_lcmp, i_i2l, i_l2i, i_i2b, i_i2s, i_ifeq, i_ifne, i_iflt, i_ifge, i_ifgt, i_ifle, i_cmpeq, i_cmpne, i_cmplt, i_cmpge, i_cmpgt, i_cmple, i_acmpeq, i_acmpne, i_ifnull, i_ifnonnull, i_getI, i_getR, i_putI, i_putZ, i_putR, i_ald, i_ldL, i_ldR, i_ast, i_stL, i_stR, i_alen, i_new, i_newa, i_iret, i_zret, i_lret, i_aret, i_vret, i_raise, i_throw, i_recv, i_objinit, i_tsw3, lget, lset, lput1, lput2, lkil, ltrim, largs, isL, takev, dropv, nthv, pushO, catv, gd, true_and, and_true, Option.some.injEq, Prod.mk.injEq, exists_eq_left', if_true, if_false, reduceCtorEq, Bool.false_eq_true, lcmp_ge, lcmp_lt, lcmp_le, lcmp_gt, lcmp_eq, true_or, or_true, not_true_eq_false, not_false_eq_true, false_implies, true_implies, List.length_cons, List.length_nil, q1, q3, q14, q30]
        repeat (first | refine ⟨in_small (by omega) (by omega), ?_⟩ | (show (_ → _) ∧ (_ → _); first | refine ⟨by omega, fun _ => ?_⟩ | refine ⟨fun _ => ?_, by omega⟩) | refine ⟨by omega, ?_⟩ | refine ⟨⟨_, rfl, by assumption⟩, ?_⟩ | refine ⟨okT_I _, ?_⟩ | refine call0 (gd_of rfl) ?_)
        have f44 : wD 1 2 D4 (q + 9) (y * W lead) := f4.congr (fun i => f5 _ _ (by omega) (by omega)) (fun i => f5 _ _ (by omega) (by omega))
        have m1 := pw_11_22 hy2 hWl (pw_pos 11)
        have m2 := pw_11_22 hlr hWc (pw_pos 11)
        rw [hp22] at m1 m2
        have ms : ((y * W lead).natAbs : Int) + (cl r lead * W c).natAbs < 1000000000 ^ 23 := by
          have : (1000000000 : Int) ^ 23 = 1000000000 * 1000000000 ^ 22 := pw_succ 22
          rw [this]
          have hp := pw_pos 22
          generalize (1000000000 : Int) ^ 22 = H at *
          omega
        refine sp_X2_add (w := -1) o1 q15 q15 q31 f44 f6 (.inr rfl) (Int.lt_of_lt_of_le m1 (pw_mono (by omega))) (Int.lt_of_lt_of_le m2 (pw_mono (by omega))) (Int.lt_of_lt_of_le ms (pw_mono (by omega))) (by omega) (by omega) (by omega) fun D5 f7 f8 => ?_
        simp only [P_X7_turn, i_kil, i_icon, i_lcon, i_null, i_loadI, i_loadL, i_loadR, i_istore, i_lstore, i_astore, i_iinc, i_dup, i_dup2, i_pop, i_iadd, i_isub, i_imul, i_idiv, i_irem, i_ineg, i_iand, i_ior, i_ishl, i_ishr, i_lxor, i_ladd, i_lsub, i_lmul, i_ldiv, i_lrem, i_lneg, i_lshl, i_lcmp, i_i2l, i_l2i, i_i2b, i_i2s, i_ifeq, i_ifne, i_iflt, i_ifge, i_ifgt, i_ifle, i_cmpeq, i_cmpne, i_cmplt, i_cmpge, i_cmpgt, i_cmple, i_acmpeq, i_acmpne, i_ifnull, i_ifnonnull, i_getI, i_getR, i_putI, i_putZ, i_putR, i_ald, i_ldL, i_ldR, i_ast, i_stL, i_stR, i_alen, i_new, i_newa, i_iret, i_zret, i_lret, i_aret, i_vret, i_raise, i_throw, i_recv, i_objinit, i_tsw3, lget, lset, lput1, lput2, lkil, ltrim, largs, isL, takev, dropv, nthv, pushO, catv, gd, true_and, and_true, Option.some.injEq, Prod.mk.injEq, exists_eq_left', if_true, if_false, reduceCtorEq, Bool.false_eq_true, lcmp_ge, lcmp_lt, lcmp_le, lcmp_gt, lcmp_eq, true_or, or_true, not_true_eq_false, not_false_eq_true, false_implies, true_implies, List.length_cons, List.length_nil, q1, q3, q6, q14]
        repeat (first | refine ⟨in_small (by omega) (by omega), ?_⟩ | (show (_ → _) ∧ (_ → _); first | refine ⟨by omega, fun _ => ?_⟩ | refine ⟨fun _ => ?_, by omega⟩) | refine ⟨by omega, ?_⟩ | refine ⟨⟨_, rfl, by assumption⟩, ?_⟩ | refine ⟨okT_I _, ?_⟩ | refine call0 (gd_of rfl) ?_)
        have fr5 : ∀ a i, (a < q + 5 ∨ q + 10 < a) → a ≠ q + 18 → a ≠ q + 19 → D5 a i = D1 a i := fun a i a1 a2 a3 => by rw [f7 a i (by omega) (by omega), f5 a i (by omega) (by omega), f3 a i (by omega) (by omega), f1 a i (by omega)]
        have hd5 : wD 1 2 D5 (q + 2) d := hd.congr (fun i => by rw [fr5 _ _ (by omega) (by omega) (by omega), h1 _ _ (by omega) (by omega) (by omega) (by omega) (by omega)]) (fun i => by rw [fr5 _ _ (by omega) (by omega) (by omega), h1 _ _ (by omega) (by omega) (by omega) (by omega) (by omega)])
        have ez : y * W lead + -1 * (cl r lead * W c) = (if c = 35 + k then 0 else cl r c) * W lead - cl r lead * W c := by rw [hy]; omega
        have hzb : ((y * W lead + -1 * (cl r lead * W c)).natAbs : Int) < 1000000000 ^ 23 := by omega
        refine sp_X2_part (p := 23) ho q15 q15 q7 (by unfold wN; omega) (by unfold wN; omega) (by unfold wN; omega) f8 hd5 hd0 hzb (Int.lt_of_lt_of_le hd2 (pw_mono (by omega))) (by omega) (by omega) (by omega) (by omega) (by omega) (by omega) fun D6 f9 f10 => ?_
        have et : (y * W lead + -1 * (cl r lead * W c)).tdiv d = trnI d k W lead cl r c := by rw [ez]; rfl
        rw [et] at f10
        have fr6 : ∀ a i, (a < q + 5 ∨ q + 10 < a) → a ≠ q + 18 → a ≠ q + 19 → (a ≤ o ∨ o + 10 < a) → D6 a i = D1 a i := fun a i a1 a2 a3 a4 => by rw [f9 a i (by omega) (by omega) a4]; exact fr5 a i a1 a2 a3
        simp only [P_X7_turn, i_kil, i_icon, i_lcon, i_null, i_loadI, i_loadL, i_loadR, i_istore, i_lstore, i_astore, i_iinc, i_dup, i_dup2, i_pop, i_iadd, i_isub, i_imul, i_idiv, i_irem, i_ineg, i_iand, i_ior, i_ishl, i_ishr, i_lxor, i_ladd, i_lsub, i_lmul, i_ldiv, i_lrem, i_lneg, i_lshl, i_lcmp, i_i2l, i_l2i, i_i2b, i_i2s, i_ifeq, i_ifne, i_iflt, i_ifge, i_ifgt, i_ifle, i_cmpeq, i_cmpne, i_cmplt, i_cmpge, i_cmpgt, i_cmple, i_acmpeq, i_acmpne, i_ifnull, i_ifnonnull, i_getI, i_getR, i_putI, i_putZ, i_putR, i_ald, i_ldL, i_ldR, i_ast, i_stL, i_stR, i_alen, i_new, i_newa, i_iret, i_zret, i_lret, i_aret, i_vret, i_raise, i_throw, i_recv, i_objinit, i_tsw3, lget, lset, lput1, lput2, lkil, ltrim, largs, isL, takev, dropv, nthv, pushO, catv, gd, true_and, and_true, Option.some.injEq, Prod.mk.injEq, exists_eq_left', if_true, if_false, reduceCtorEq, Bool.false_eq_true, lcmp_ge, lcmp_lt, lcmp_le, lcmp_gt, lcmp_eq, true_or, or_true, not_true_eq_false, not_false_eq_true, false_implies, true_implies, List.length_cons, List.length_nil, q1, q14]
        repeat (first | refine ⟨in_small (by omega) (by omega), ?_⟩ | (show (_ → _) ∧ (_ → _); first | refine ⟨by omega, fun _ => ?_⟩ | refine ⟨fun _ => ?_, by omega⟩) | refine ⟨by omega, ?_⟩ | refine ⟨⟨_, rfl, by assumption⟩, ?_⟩ | refine ⟨okT_I _, ?_⟩ | refine call0 (gd_of rfl) ?_)
        refine sp_X7_save hq0 q15 (by omega) f10 (hres c (by omega)) hr hc70 (by omega) rfl rfl fun D7 g1 g2 => ?_
        simp only [P_X7_turn, i_kil, i_icon, i_lcon, i_null, i_loadI, i_loadL, i_loadR, i_istore, i_lstore, i_astore, i_iinc, i_dup, i_dup2, i_pop, i_iadd, i_isub, i_imul, i_idiv, i_irem, i_ineg, i_iand, i_ior, i_ishl, i_ishr, i_lxor, i_ladd, i_lsub, i_lmul, i_ldiv, i_lrem, i_lneg, i_lshl, i_lcmp, i_i2l, i_l2i, i_i2b, i_i2s, i_ifeq, i_ifne, i_iflt, i_ifge, i_ifgt, i_ifle, i_cmpeq, i_cmpne, i_cmplt, i_cmpge, i_cmpgt, i_cmple, i_acmpeq, i_acmpne, i_ifnull, i_ifnonnull, i_getI, i_getR, i_putI, i_putZ, i_putR, i_ald, i_ldL, i_ldR, i_ast, i_stL, i_stR, i_alen, i_new, i_newa, i_iret, i_zret, i_lret, i_aret, i_vret, i_raise, i_throw, i_recv, i_objinit, i_tsw3, lget, lset, lput1, lput2, lkil, ltrim, largs, isL, takev, dropv, nthv, pushO, catv, gd, true_and, and_true, Option.some.injEq, Prod.mk.injEq, exists_eq_left', if_true, if_false, reduceCtorEq, Bool.false_eq_true, lcmp_ge, lcmp_lt, lcmp_le, lcmp_gt, lcmp_eq, true_or, or_true, not_true_eq_false, not_false_eq_true, false_implies, true_implies, List.length_cons, List.length_nil]
        repeat (first | refine ⟨in_small (by omega) (by omega), ?_⟩ | (show (_ → _) ∧ (_ → _); first | refine ⟨by omega, fun _ => ?_⟩ | refine ⟨fun _ => ?_, by omega⟩) | refine ⟨by omega, ?_⟩ | refine ⟨⟨_, rfl, by assumption⟩, ?_⟩ | refine ⟨okT_I _, ?_⟩ | refine call0 (gd_of rfl) ?_)
        have fr7 : ∀ a i, a ≠ q + 1 → D7 a i = D6 a i := fun a i a1 => g1 a i (fun w => a1 w.1)
        have hC6 : sqC D6 q cl1 := h2.congr fun i => fr6 _ _ (by omega) (by omega) (by omega) (by omega)
        refine ih (c + 1) D7 (cupd cl1 r c (trnI d k W lead cl r c)) (by omega) (fun a i a1 a2 a3 a4 a5 => by rw [fr7 a i a1, fr6 a i a2 a3 a4 a5]; exact h1 a i a1 a2 a3 a4 a5) (hC6.save hr hc70 (fun i hi => g1 _ i (fun w => hi ⟨w.2.1, w.2.2⟩)) g2) (fun r' c' h => ?_) (fun c' hc' => ?_) (h5.congr (fun i => ?_) (fun i => ?_))
        · unfold cupd
          rw [if_neg (fun w => by omega)]
          exact h3 r' c' (by omega)
        · unfold cupd
          by_cases w : c' = c
          · rw [w, if_pos ⟨rfl, rfl⟩]
          · rw [if_neg (fun x => w x.2)]
            exact h4 c' (by omega)
        · rw [fr7 _ _ (by omega), f9 _ _ (by omega) (by omega) (by omega), f7 _ _ (by omega) (by omega), f5 _ _ (by omega) (by omega), f3 _ _ (by omega) (by omega), f1 _ _ (by omega)]
        · rw [fr7 _ _ (by omega), f9 _ _ (by omega) (by omega) (by omega), f7 _ _ (by omega) (by omega), f5 _ _ (by omega) (by omega), f3 _ _ (by omega) (by omega), f1 _ _ (by omega)]
      refine wp_in ?_
      simp only [P_X7_turn, i_kil, i_icon, i_lcon, i_null, i_loadI, i_loadL, i_loadR, i_istore, i_lstore, i_astore, i_iinc, i_dup, i_dup2, i_pop, i_iadd, i_isub, i_imul, i_idiv, i_irem, i_ineg, i_iand, i_ior, i_ishl, i_ishr, i_lxor, i_ladd, i_lsub, i_lmul, i_ldiv, i_lrem, i_lneg, i_lshl, i_lcmp, i_i2l, i_l2i, i_i2b, i_i2s, i_ifeq, i_ifne, i_iflt, i_ifge, i_ifgt, i_ifle, i_cmpeq, i_cmpne, i_cmplt, i_cmpge, i_cmpgt, i_cmple, i_acmpeq, i_acmpne, i_ifnull, i_ifnonnull, i_getI, i_getR, i_putI, i_putZ, i_putR, i_ald, i_ldL, i_ldR, i_ast, i_stL, i_stR, i_alen, i_new, i_newa, i_iret, i_zret, i_lret, i_aret, i_vret, i_raise, i_throw, i_recv, i_objinit, i_tsw3, lget, lset, lput1, lput2, lkil, ltrim, largs, isL, takev, dropv, nthv, pushO, catv, gd, true_and, and_true, Option.some.injEq, Prod.mk.injEq, exists_eq_left', if_true, if_false, reduceCtorEq, Bool.false_eq_true, lcmp_ge, lcmp_lt, lcmp_le, lcmp_gt, lcmp_eq, true_or, or_true, not_true_eq_false, not_false_eq_true, false_implies, true_implies, List.length_cons, List.length_nil, q1, q12, e15]
      repeat (first | refine ⟨in_small (by omega) (by omega), ?_⟩ | (show (_ → _) ∧ (_ → _); first | refine ⟨by omega, fun _ => ?_⟩ | refine ⟨fun _ => ?_, by omega⟩) | refine ⟨by omega, ?_⟩ | refine ⟨⟨_, rfl, by assumption⟩, ?_⟩ | refine ⟨okT_I _, ?_⟩ | refine call0 (gd_of rfl) ?_)
      refine ⟨fun h => ?_, fun h => ?_⟩
      · skip
        repeat (first | refine ⟨in_small (by omega) (by omega), ?_⟩ | (show (_ → _) ∧ (_ → _); first | refine ⟨by omega, fun _ => ?_⟩ | refine ⟨fun _ => ?_, by omega⟩) | refine ⟨by omega, ?_⟩ | refine ⟨⟨_, rfl, by assumption⟩, ?_⟩ | refine ⟨okT_I _, ?_⟩ | refine call0 (gd_of rfl) ?_)
        refine sp_X7_load hq0 q13 (by omega) (h2 r c hr hc70) hr hc70 (by omega) (by omega) rfl rfl fun D2 f1 f2 => ?_
        simp only [P_X7_turn, i_kil, i_icon, i_lcon, i_null, i_loadI, i_loadL, i_loadR, i_istore, i_lstore, i_astore, i_iinc, i_dup, i_dup2, i_pop, i_iadd, i_isub, i_imul, i_idiv, i_irem, i_ineg, i_iand, i_ior, i_ishl, i_ishr, i_lxor, i_ladd, i_lsub, i_lmul, i_ldiv, i_lrem, i_lneg, i_lshl, i_lcmp, i_i2l, i_l2i, i_i2b, i_i2s, i_ifeq, i_ifne, i_iflt, i_ifge, i_ifgt, i_ifle, i_cmpeq, i_cmpne, i_cmplt, i_cmpge, i_cmpgt, i_cmple, i_acmpeq, i_acmpne, i_ifnull, i_ifnonnull, i_getI, i_getR, i_putI, i_putZ, i_putR, i_ald, i_ldL, i_ldR, i_ast, i_stL, i_stR, i_alen, i_new, i_newa, i_iret, i_zret, i_lret, i_aret, i_vret, i_raise, i_throw, i_recv, i_objinit, i_tsw3, lget, lset, lput1, lput2, lkil, ltrim, largs, isL, takev, dropv, nthv, pushO, catv, gd, true_and, and_true, Option.some.injEq, Prod.mk.injEq, exists_eq_left', if_true, if_false, reduceCtorEq, Bool.false_eq_true, lcmp_ge, lcmp_lt, lcmp_le, lcmp_gt, lcmp_eq, true_or, or_true, not_true_eq_false, not_false_eq_true, false_implies, true_implies, List.length_cons, List.length_nil]
        exact back D2 _ (fun a i a1 => f1 a i (by omega) (by omega)) f2 (by rw [if_neg (by omega), ecl])
      · skip
        repeat (first | refine ⟨in_small (by omega) (by omega), ?_⟩ | (show (_ → _) ∧ (_ → _); first | refine ⟨by omega, fun _ => ?_⟩ | refine ⟨fun _ => ?_, by omega⟩) | refine ⟨by omega, ?_⟩ | refine ⟨⟨_, rfl, by assumption⟩, ?_⟩ | refine ⟨okT_I _, ?_⟩ | refine call0 (gd_of rfl) ?_)
        refine sp_X3_set q13 (by omega) (by omega) (by omega) fun D2 f1 f2 => ?_
        simp only [P_X7_turn, i_kil, i_icon, i_lcon, i_null, i_loadI, i_loadL, i_loadR, i_istore, i_lstore, i_astore, i_iinc, i_dup, i_dup2, i_pop, i_iadd, i_isub, i_imul, i_idiv, i_irem, i_ineg, i_iand, i_ior, i_ishl, i_ishr, i_lxor, i_ladd, i_lsub, i_lmul, i_ldiv, i_lrem, i_lneg, i_lshl, i_lcmp, i_i2l, i_l2i, i_i2b, i_i2s, i_ifeq, i_ifne, i_iflt, i_ifge, i_ifgt, i_ifle, i_cmpeq, i_cmpne, i_cmplt, i_cmpge, i_cmpgt, i_cmple, i_acmpeq, i_acmpne, i_ifnull, i_ifnonnull, i_getI, i_getR, i_putI, i_putZ, i_putR, i_ald, i_ldL, i_ldR, i_ast, i_stL, i_stR, i_alen, i_new, i_newa, i_iret, i_zret, i_lret, i_aret, i_vret, i_raise, i_throw, i_recv, i_objinit, i_tsw3, lget, lset, lput1, lput2, lkil, ltrim, largs, isL, takev, dropv, nthv, pushO, catv, gd, true_and, and_true, Option.some.injEq, Prod.mk.injEq, exists_eq_left', if_true, if_false, reduceCtorEq, Bool.false_eq_true, lcmp_ge, lcmp_lt, lcmp_le, lcmp_gt, lcmp_eq, true_or, or_true, not_true_eq_false, not_false_eq_true, false_implies, true_implies, List.length_cons, List.length_nil]
        exact back D2 _ (fun a i a1 => f1 a i (by omega) (by omega)) f2 (by rw [if_pos (by omega)])
  refine wp_in ?_
  simp only [P_X7_turn, i_kil, i_icon, i_lcon, i_null, i_loadI, i_loadL, i_loadR, i_istore, i_lstore, i_astore, i_iinc, i_dup, i_dup2, i_pop, i_iadd, i_isub, i_imul, i_idiv, i_irem, i_ineg, i_iand, i_ior, i_ishl, i_ishr, i_lxor, i_ladd, i_lsub, i_lmul, i_ldiv, i_lrem, i_lneg, i_lshl, i_lcmp, i_i2l, i_l2i, i_i2b, i_i2s, i_ifeq, i_ifne, i_iflt, i_ifge, i_ifgt, i_ifle, i_cmpeq, i_cmpne, i_cmplt, i_cmpge, i_cmpgt, i_cmple, i_acmpeq, i_acmpne, i_ifnull, i_ifnonnull, i_getI, i_getR, i_putI, i_putZ, i_putR, i_ald, i_ldL, i_ldR, i_ast, i_stL, i_stR, i_alen, i_new, i_newa, i_iret, i_zret, i_lret, i_aret, i_vret, i_raise, i_throw, i_recv, i_objinit, i_tsw3, lget, lset, lput1, lput2, lkil, ltrim, largs, isL, takev, dropv, nthv, pushO, catv, gd, true_and, and_true, Option.some.injEq, Prod.mk.injEq, exists_eq_left', if_true, if_false, reduceCtorEq, Bool.false_eq_true, lcmp_ge, lcmp_lt, lcmp_le, lcmp_gt, lcmp_eq, true_or, or_true, not_true_eq_false, not_false_eq_true, false_implies, true_implies, List.length_cons, List.length_nil, q1, q10]
  repeat (first | refine ⟨in_small (by omega) (by omega), ?_⟩ | (show (_ → _) ∧ (_ → _); first | refine ⟨by omega, fun _ => ?_⟩ | refine ⟨fun _ => ?_, by omega⟩) | refine ⟨by omega, ?_⟩ | refine ⟨⟨_, rfl, by assumption⟩, ?_⟩ | refine ⟨okT_I _, ?_⟩ | refine call0 (gd_of rfl) ?_)
  refine sp_X7_load hq0 q11 (by omega) hxl hr (by omega) (by omega) (by omega) rfl rfl fun D1 f1 f2 => ?_
  simp only [P_X7_turn, i_kil, i_icon, i_lcon, i_null, i_loadI, i_loadL, i_loadR, i_istore, i_lstore, i_astore, i_iinc, i_dup, i_dup2, i_pop, i_iadd, i_isub, i_imul, i_idiv, i_irem, i_ineg, i_iand, i_ior, i_ishl, i_ishr, i_lxor, i_ladd, i_lsub, i_lmul, i_ldiv, i_lrem, i_lneg, i_lshl, i_lcmp, i_i2l, i_l2i, i_i2b, i_i2s, i_ifeq, i_ifne, i_iflt, i_ifge, i_ifgt, i_ifle, i_cmpeq, i_cmpne, i_cmplt, i_cmpge, i_cmpgt, i_cmple, i_acmpeq, i_acmpne, i_ifnull, i_ifnonnull, i_getI, i_getR, i_putI, i_putZ, i_putR, i_ald, i_ldL, i_ldR, i_ast, i_stL, i_stR, i_alen, i_new, i_newa, i_iret, i_zret, i_lret, i_aret, i_vret, i_raise, i_throw, i_recv, i_objinit, i_tsw3, lget, lset, lput1, lput2, lkil, ltrim, largs, isL, takev, dropv, nthv, pushO, catv, gd, true_and, and_true, Option.some.injEq, Prod.mk.injEq, exists_eq_left', if_true, if_false, reduceCtorEq, Bool.false_eq_true, lcmp_ge, lcmp_lt, lcmp_le, lcmp_gt, lcmp_eq, true_or, or_true, not_true_eq_false, not_false_eq_true, false_implies, true_implies, List.length_cons, List.length_nil]
  exact loop wide 0 D1 cl (by omega) (fun a i a1 a2 a3 a4 a5 => f1 a i (by omega) (by omega)) (hC.congr fun i => f1 _ _ (by omega) (by omega)) (fun _ _ _ => rfl) (fun c' hc' => by omega) f2
/-- what holds in the square: k rows, divisor, leads, cells, what was used -/
def sqD (D : Dat) (q k : Nat) (d : Int) (P : Nat → Nat) (cl : Nat → Nat → Int) (U : Nat → Nat × Nat) : Prop := D q 15 = k ∧ k ≤ 35 ∧ wD 1 2 D (q + 2) d ∧ d ≠ 0 ∧ (d.natAbs : Int) < 1000000000 ^ 11 ∧ (∀ r : Nat, r < k → D (q + 13) r = P r ∧ D (q + 15) r = (U r).1 ∧ D (q + 16) r = (U r).2) ∧ (∀ r, r < 35 → P r < 35) ∧ sqC D q cl
/-- the work row when a multiple is taken -/
def tkW (d : Int) (v : Nat → Int) (P : Nat → Nat) (cl : Nat → Nat → Int) (k c : Nat) : Int := if c = 35 + k then d else redI d v P cl k c
def nupd (P : Nat → Nat) (k q : Nat) : Nat → Nat := fun j => if j = k then q else P j
/-- what taking a multiple may write -/
def tkO (q o : Nat) (D D' : Dat) : Prop := ∀ a i, a ≠ q → a ≠ q + 1 → a ≠ q + 2 → a ≠ q + 3 → (a < q + 5 ∨ q + 10 < a) → a ≠ q + 13 → a ≠ q + 15 → a ≠ q + 16 → a ≠ q + 18 → a ≠ q + 19 → (a < q + 20 ∨ q + 159 < a) → (a ≤ o ∨ o + 10 < a) → D' a i = D a i
set_option maxHeartbeats 4000000 in
theorem sp_X7_take {E : Ex} {B : Nat × Nat} {S : Stat} {D : Dat} {q T o k of tm : Nat} {d : Int} {v : Nat → Int} {P : Nat → Nat} {cl : Nat → Nat → Int} {U : Nat → Nat × Nat} (hq : sqS S q T o) (ho : rS S o) (hoq : o + 10 < q) (hD : sqD D q k d P cl U) (hn : ∀ c : Nat, c < 35 → D (q + 17) c = v c) (hv : ∀ c, c < 35 → ((v c).natAbs : Int) ≤ 999) (hof : of < 4) (htm : tm < 455)
    (h35 : k = 35 → fcl (tkW d v P cl k) = 35)
    (hb : fcl (tkW d v P cl k) < 35 → (∀ c, c < 35 + k + 1 → ((tkW d v P cl k c).natAbs : Int) < 1000000000 ^ 11) ∧ ∀ r c, r < k → c < 35 + k + 1 → ((trnI d k (tkW d v P cl k) (fcl (tkW d v P cl k)) cl r c).natAbs : Int) < 1000000000 ^ 11)
    (K0 : ∀ D' : Dat, fcl (tkW d v P cl k) = 35 → tkO q o D D' → (∀ i, D' q i = D q i) → sqD D' q k d P cl U → E (.inl none) B S D')
    (K1 : ∀ (D' : Dat) (cl' : Nat → Nat → Int), fcl (tkW d v P cl k) < 35 → tkO q o D D' → (∀ i, i ≠ 15 → D' q i = D q i) → sqD D' q (k + 1) (tkW d v P cl k (fcl (tkW d v P cl k))) (nupd P k (fcl (tkW d v P cl k))) cl' (fun j => if j = k then (of, tm) else U j) → (∀ r c, r < k → c < 35 + k + 1 → cl' r c = trnI d k (tkW d v P cl k) (fcl (tkW d v P cl k)) cl r c) → (∀ c, c < 35 + k + 1 → cl' k c = tkW d v P cl k c) → E (.inl none) B S D') : Wp P_X7_take E 0 [some (aR q), some (aI of), some (aI tm)] [] B S D := by
  have hq0 := hq
  obtain ⟨q1, q2, q3, q4, q5, q6, q7, q8, q9, q10, q11, q12, q13, q14, q15, q16, q17, q18, q19, q20, q21, q22, q23, q24, q25, q26, q27, q28, q29, q30, q31, q32⟩ := hq
  obtain ⟨d1, d2, d3, d4, d5, d6, d7, d8⟩ := id hD
  have o1 := ho.1
  have q71 := q7.1
  have hW35 : ∀ c, c < 35 → tkW d v P cl k c = redI d v P cl k c := fun c hc => by unfold tkW; rw [if_neg (by omega)]
  have hfc : fcl (redI d v P cl k) = fcl (tkW d v P cl k) := by
    have key : ∀ n c, c + n ≤ 35 → fcol (redI d v P cl k) n c = fcol (tkW d v P cl k) n c := by
      intro n
      induction n with
      | zero => intro c _; rfl
      | succ n ih => intro c hc; simp only [fcol]; rw [hW35 c (by omega), ih (c + 1) (by omega)]
    exact key 35 0 (by omega)
  have hlaw := fcol_law (tkW d v P cl k) 35 0
  -- both widths
  have go : ∀ wide : Nat, wide ≤ 70 → 35 ≤ wide → (k < 35 → wide = 35 + k + 1) → Wp P_X7_take E 1 [some (aR q), some (aI of), some (aI tm), some (aI wide)] [] B S D := by
    intro wide hw1 hw2 hw3
    refine wp_in ?_
    simp only [P_X7_take, i_kil, i_icon, i_lcon, i_null, i_loadI, i_loadL, i_loadR, i_istore, i_lstore, i_astore, i_iinc, i_dup, i_dup2, i_pop, i_iadd, i_isub, i_imul, i_idiv, i_irem, i_ineg, i_iand, i_ior, i_ishl, i_ishr, i_lxor, i_ladd, i_lsub, i_lmul, i_ldiv, i_lrem, i_lneg, i_lshl, i_lcmp, i_i2l, i_l2i, i_i2b, i_i2s, i_ifeq, i_ifne, i_iflt, i_ifge, i_ifgt, i_ifle, i_cmpeq, i_cmpne, i_cmplt, i_cmpge, i_cmpgt, i_cmple, i_acmpeq, i_acmpne, i_ifnull, i_ifnonnull, i_getI, i_getR, i_putI, i_putZ, i_putR, i_ald, i_ldL, i_ldR, i_ast, i_stL, i_stR, i_alen, i_new, i_newa, i_iret, i_zret, i_lret, i_aret, i_vret, i_raise, i_throw, i_recv, i_objinit, i_tsw3, lget, lset, lput1, lput2, lkil, ltrim, largs, isL, takev, dropv, nthv, pushO, catv, gd, true_and, and_true, Option.some.injEq, Prod.mk.injEq, exists_eq_left', if_true, if_false, reduceCtorEq, Bool.false_eq_true, lcmp_ge, lcmp_lt, lcmp_le, lcmp_gt, lcmp_eq, true_or, or_true, not_true_eq_false, not_false_eq_true, false_implies, true_implies, List.length_cons, List.length_nil]
    repeat (first | refine ⟨in_small (by omega) (by omega), ?_⟩ | (show (_ → _) ∧ (_ → _); first | refine ⟨by omega, fun _ => ?_⟩ | refine ⟨fun _ => ?_, by omega⟩) | refine ⟨by omega, ?_⟩ | refine ⟨⟨_, rfl, by assumption⟩, ?_⟩ | refine ⟨okT_I _, ?_⟩ | refine call0 (gd_of rfl) ?_)
    refine sp_X7_reduce hq0 o1 d2 hw1 hn hv d1 (fun r hr => (d6 r hr).1) d7 d3 d5 d8 fun D1 f1 f2 => ?_
    simp only [P_X7_take, i_kil, i_icon, i_lcon, i_null, i_loadI, i_loadL, i_loadR, i_istore, i_lstore, i_astore, i_iinc, i_dup, i_dup2, i_pop, i_iadd, i_isub, i_imul, i_idiv, i_irem, i_ineg, i_iand, i_ior, i_ishl, i_ishr, i_lxor, i_ladd, i_lsub, i_lmul, i_ldiv, i_lrem, i_lneg, i_lshl, i_lcmp, i_i2l, i_l2i, i_i2b, i_i2s, i_ifeq, i_ifne, i_iflt, i_ifge, i_ifgt, i_ifle, i_cmpeq, i_cmpne, i_cmplt, i_cmpge, i_cmpgt, i_cmple, i_acmpeq, i_acmpne, i_ifnull, i_ifnonnull, i_getI, i_getR, i_putI, i_putZ, i_putR, i_ald, i_ldL, i_ldR, i_ast, i_stL, i_stR, i_alen, i_new, i_newa, i_iret, i_zret, i_lret, i_aret, i_vret, i_raise, i_throw, i_recv, i_objinit, i_tsw3, lget, lset, lput1, lput2, lkil, ltrim, largs, isL, takev, dropv, nthv, pushO, catv, gd, true_and, and_true, Option.some.injEq, Prod.mk.injEq, exists_eq_left', if_true, if_false, reduceCtorEq, Bool.false_eq_true, lcmp_ge, lcmp_lt, lcmp_le, lcmp_gt, lcmp_eq, true_or, or_true, not_true_eq_false, not_false_eq_true, false_implies, true_implies, List.length_cons, List.length_nil]
    repeat (first | refine ⟨in_small (by omega) (by omega), ?_⟩ | (show (_ → _) ∧ (_ → _); first | refine ⟨by omega, fun _ => ?_⟩ | refine ⟨fun _ => ?_, by omega⟩) | refine ⟨by omega, ?_⟩ | refine ⟨⟨_, rfl, by assumption⟩, ?_⟩ | refine ⟨okT_I _, ?_⟩ | refine call0 (gd_of rfl) ?_)
    refine sp_X7_firstColumn hq0 (fun c hc => f2 c (by omega)) ?_
    rw [hfc]
    generalize hL : fcl (tkW d v P cl k) = lead at *
    have e15 : D1 q 15 = k := by rw [f1 _ _ (by omega) (by omega) (by omega) (by omega)]; exact d1
    have fD1 : sqD D1 q k d P cl U := ⟨e15, d2, d3.congr (fun i => f1 _ _ (by omega) (by omega) (by omega) (by omega)) (fun i => f1 _ _ (by omega) (by omega) (by omega) (by omega)), d4, d5, fun r hr => ⟨by rw [f1 _ _ (by omega) (by omega) (by omega) (by omega)]; exact (d6 r hr).1, by rw [f1 _ _ (by omega) (by omega) (by omega) (by omega)]; exact (d6 r hr).2.1, by rw [f1 _ _ (by omega) (by omega) (by omega) (by omega)]; exact (d6 r hr).2.2⟩, d7, d8.congr fun i => f1 _ _ (by omega) (by omega) (by omega) (by omega)⟩
    have O1 : tkO q o D D1 := fun a i a1 a2 a3 a4 a5 a6 a7 a8 a9 a10 a11 a12 => f1 a i a5 a9 a10 a11
    have hll : lead ≤ 35 := by have := hlaw.2.2.1; unfold fcl at hL; omega
    rcases Nat.lt_or_ge lead 35 with hl | hl
    · have hk35 : k < 35 := by
        rcases Nat.lt_or_ge k 35 with w | w
        · exact w
        · have := h35 (by omega); omega
      have hwide := hw3 hk35
      subst hwide
      obtain ⟨hbW, hbT⟩ := hb hl
      obtain ⟨wk1, wk2⟩ := q32 (35 + k) (by omega)
      have wk21 := wk2.1
      simp only [P_X7_take, i_kil, i_icon, i_lcon, i_null, i_loadI, i_loadL, i_loadR, i_istore, i_lstore, i_astore, i_iinc, i_dup, i_dup2, i_pop, i_iadd, i_isub, i_imul, i_idiv, i_irem, i_ineg, i_iand, i_ior, i_ishl, i_ishr, i_lxor, i_ladd, i_lsub, i_lmul, i_ldiv, i_lrem, i_lneg, i_lshl, i_lcmp, i_i2l, i_l2i, i_i2b, i_i2s, i_ifeq, i_ifne, i_iflt, i_ifge, i_ifgt, i_ifle, i_cmpeq, i_cmpne, i_cmplt, i_cmpge, i_cmpgt, i_cmple, i_acmpeq, i_acmpne, i_ifnull, i_ifnonnull, i_getI, i_getR, i_putI, i_putZ, i_putR, i_ald, i_ldL, i_ldR, i_ast, i_stL, i_stR, i_alen, i_new, i_newa, i_iret, i_zret, i_lret, i_aret, i_vret, i_raise, i_throw, i_recv, i_objinit, i_tsw3, lget, lset, lput1, lput2, lkil, ltrim, largs, isL, takev, dropv, nthv, pushO, catv, gd, true_and, and_true, Option.some.injEq, Prod.mk.injEq, exists_eq_left', if_true, if_false, reduceCtorEq, Bool.false_eq_true, lcmp_ge, lcmp_lt, lcmp_le, lcmp_gt, lcmp_eq, true_or, or_true, not_true_eq_false, not_false_eq_true, false_implies, true_implies, List.length_cons, List.length_nil, q1, q6, q8, q9, e15]
      repeat (first | refine ⟨in_small (by omega) (by omega), ?_⟩ | (show (_ → _) ∧ (_ → _); first | refine ⟨by omega, fun _ => ?_⟩ | refine ⟨fun _ => ?_, by omega⟩) | refine ⟨by omega, ?_⟩ | refine ⟨⟨_, rfl, by assumption⟩, ?_⟩ | refine ⟨okT_I _, ?_⟩ | refine call0 (gd_of rfl) ?_)
      have ek : ((35 : Int) + k) = ((35 + k : Nat) : Int) := by omega
      rw [ek, wk1]
      repeat (first | refine ⟨in_small (by omega) (by omega), ?_⟩ | (show (_ → _) ∧ (_ → _); first | refine ⟨by omega, fun _ => ?_⟩ | refine ⟨fun _ => ?_, by omega⟩) | refine ⟨by omega, ?_⟩ | refine ⟨⟨_, rfl, by assumption⟩, ?_⟩ | refine ⟨okT_I _, ?_⟩ | refine call0 (gd_of rfl) ?_)
      refine sp_X3_be wk2 q7 (by omega) fD1.2.2.1 (Int.lt_of_lt_of_le d5 (pw_mono (by omega))) (Int.lt_of_lt_of_le d5 (pw_mono (by omega))) (by omega) fun D2 f3 f4 => ?_
      simp only [P_X7_take, i_kil, i_icon, i_lcon, i_null, i_loadI, i_loadL, i_loadR, i_istore, i_lstore, i_astore, i_iinc, i_dup, i_dup2, i_pop, i_iadd, i_isub, i_imul, i_idiv, i_irem, i_ineg, i_iand, i_ior, i_ishl, i_ishr, i_lxor, i_ladd, i_lsub, i_lmul, i_ldiv, i_lrem, i_lneg, i_lshl, i_lcmp, i_i2l, i_l2i, i_i2b, i_i2s, i_ifeq, i_ifne, i_iflt, i_ifge, i_ifgt, i_ifle, i_cmpeq, i_cmpne, i_cmplt, i_cmpge, i_cmpgt, i_cmple, i_acmpeq, i_acmpne, i_ifnull, i_ifnonnull, i_getI, i_getR, i_putI, i_putZ, i_putR, i_ald, i_ldL, i_ldR, i_ast, i_stL, i_stR, i_alen, i_new, i_newa, i_iret, i_zret, i_lret, i_aret, i_vret, i_raise, i_throw, i_recv, i_objinit, i_tsw3, lget, lset, lput1, lput2, lkil, ltrim, largs, isL, takev, dropv, nthv, pushO, catv, gd, true_and, and_true, Option.some.injEq, Prod.mk.injEq, exists_eq_left', if_true, if_false, reduceCtorEq, Bool.false_eq_true, lcmp_ge, lcmp_lt, lcmp_le, lcmp_gt, lcmp_eq, true_or, or_true, not_true_eq_false, not_false_eq_true, false_implies, true_implies, List.length_cons, List.length_nil]
      have hW2 : ∀ c : Nat, c < 35 + k + 1 → wD 1 2 D2 (q + 20 + 2 * c) (tkW d v P cl k c) := fun c hc => by
        unfold tkW
        by_cases w : c = 35 + k
        · rw [if_pos w, w]; exact f4
        · rw [if_neg w]
          exact (f2 c hc).congr (fun i => f3 _ _ (by omega) (by omega)) (fun i => f3 _ _ (by omega) (by omega))
      have O2 : tkO q o D D2 := fun a i a1 a2 a3 a4 a5 a6 a7 a8 a9 a10 a11 a12 => by rw [f3 a i (by omega) (by omega)]; exact O1 a i a1 a2 a3 a4 a5 a6 a7 a8 a9 a10 a11 a12
      have Q2 : ∀ i, D2 q i = D q i := fun i => by rw [f3 _ _ (by omega) (by omega), f1 _ _ (by omega) (by omega) (by omega) (by omega)]
      have s2 : ∀ a i, (a = q + 2 ∨ a = q + 3 ∨ a = q + 13 ∨ a = q + 15 ∨ a = q + 16) → D2 a i = D a i := fun a i ha => by rw [f3 _ _ (by omega) (by omega), f1 _ _ (by omega) (by omega) (by omega) (by omega)]
      -- the new row is saved
      have saves : ∀ (L c : Nat) (D3 : Dat) (cl3 : Nat → Nat → Int), c + L = 35 + k + 1 → tkO q o D D3 → (∀ i, D3 q i = D q i) → (∀ a i, (a = q + 2 ∨ a = q + 3 ∨ a = q + 13 ∨ a = q + 15 ∨ a = q + 16) → D3 a i = D a i) → (∀ c : Nat, c < 35 + k + 1 → wD 1 2 D3 (q + 20 + 2 * c) (tkW d v P cl k c)) → sqC D3 q cl3 → (∀ r c, r < k → c < 35 + k + 1 → cl3 r c = trnI d k (tkW d v P cl k) lead cl r c) → (∀ c', c' < c → cl3 k c' = tkW d v P cl k c') → Wp P_X7_take E 3 [some (aR q), some (aI of), some (aI tm), some (aI ((35 + k + 1 : Nat) : Int)), some (aI lead), some (aI c)] [] B S D3 := by
        intro L
        induction L with
        | zero =>
          intro c D3 cl3 hc g1 g2 g3 g4 g5 g6 g7
          have : c = 35 + k + 1 := by omega
          subst this
          obtain ⟨wl1, wl2⟩ := q32 lead (by omega)
          have hd3 : wD 1 2 D3 (q + 2) d := d3.congr (fun i => g3 _ _ (by omega)) (fun i => g3 _ _ (by omega))
          have hb1 := hbW lead (by omega)
          refine wp_in ?_
          simp only [P_X7_take, i_kil, i_icon, i_lcon, i_null, i_loadI, i_loadL, i_loadR, i_istore, i_lstore, i_astore, i_iinc, i_dup, i_dup2, i_pop, i_iadd, i_isub, i_imul, i_idiv, i_irem, i_ineg, i_iand, i_ior, i_ishl, i_ishr, i_lxor, i_ladd, i_lsub, i_lmul, i_ldiv, i_lrem, i_lneg, i_lshl, i_lcmp, i_i2l, i_l2i, i_i2b, i_i2s, i_ifeq, i_ifne, i_iflt, i_ifge, i_ifgt, i_ifle, i_cmpeq, i_cmpne, i_cmplt, i_cmpge, i_cmpgt, i_cmple, i_acmpeq, i_acmpne, i_ifnull, i_ifnonnull, i_getI, i_getR, i_putI, i_putZ, i_putR, i_ald, i_ldL, i_ldR, i_ast, i_stL, i_stR, i_alen, i_new, i_newa, i_iret, i_zret, i_lret, i_aret, i_vret, i_raise, i_throw, i_recv, i_objinit, i_tsw3, lget, lset, lput1, lput2, lkil, ltrim, largs, isL, takev, dropv, nthv, pushO, catv, gd, true_and, and_true, Option.some.injEq, Prod.mk.injEq, exists_eq_left', if_true, if_false, reduceCtorEq, Bool.false_eq_true, lcmp_ge, lcmp_lt, lcmp_le, lcmp_gt, lcmp_eq, true_or, or_true, not_true_eq_false, not_false_eq_true, false_implies, true_implies, List.length_cons, List.length_nil, q1, q6, q8, q9, wl1]
          repeat (first | refine ⟨in_small (by omega) (by omega), ?_⟩ | (show (_ → _) ∧ (_ → _); first | refine ⟨by omega, fun _ => ?_⟩ | refine ⟨fun _ => ?_, by omega⟩) | refine ⟨by omega, ?_⟩ | refine ⟨⟨_, rfl, by assumption⟩, ?_⟩ | refine ⟨okT_I _, ?_⟩ | refine call0 (gd_of rfl) ?_)
          refine sp_X3_be q7 wl2 (by omega) (g4 lead (by omega)) (Int.lt_of_lt_of_le hb1 (pw_mono (by omega))) (Int.lt_of_lt_of_le hb1 (pw_mono (by omega))) (by omega) fun D4 f5 f6 => ?_
          have e15' : D4 q 15 = k := by rw [f5 _ _ (by omega) (by omega), g2]; exact d1
          simp only [P_X7_take, i_kil, i_icon, i_lcon, i_null, i_loadI, i_loadL, i_loadR, i_istore, i_lstore, i_astore, i_iinc, i_dup, i_dup2, i_pop, i_iadd, i_isub, i_imul, i_idiv, i_irem, i_ineg, i_iand, i_ior, i_ishl, i_ishr, i_lxor, i_ladd, i_lsub, i_lmul, i_ldiv, i_lrem, i_lneg, i_lshl, i_lcmp, i_i2l, i_l2i, i_i2b, i_i2s, i_ifeq, i_ifne, i_iflt, i_ifge, i_ifgt, i_ifle, i_cmpeq, i_cmpne, i_cmplt, i_cmpge, i_cmpgt, i_cmple, i_acmpeq, i_acmpne, i_ifnull, i_ifnonnull, i_getI, i_getR, i_putI, i_putZ, i_putR, i_ald, i_ldL, i_ldR, i_ast, i_stL, i_stR, i_alen, i_new, i_newa, i_iret, i_zret, i_lret, i_aret, i_vret, i_raise, i_throw, i_recv, i_objinit, i_tsw3, lget, lset, lput1, lput2, lkil, ltrim, largs, isL, takev, dropv, nthv, pushO, catv, gd, true_and, and_true, Option.some.injEq, Prod.mk.injEq, exists_eq_left', if_true, if_false, reduceCtorEq, Bool.false_eq_true, lcmp_ge, lcmp_lt, lcmp_le, lcmp_gt, lcmp_eq, true_or, or_true, not_true_eq_false, not_false_eq_true, false_implies, true_implies, List.length_cons, List.length_nil, q1, q20, q21, e15']
          repeat (first | refine ⟨in_small (by omega) (by omega), ?_⟩ | (show (_ → _) ∧ (_ → _); first | refine ⟨by omega, fun _ => ?_⟩ | refine ⟨fun _ => ?_, by omega⟩) | refine ⟨by omega, ?_⟩ | refine ⟨⟨_, rfl, by assumption⟩, ?_⟩ | refine ⟨okT_I _, ?_⟩ | refine call0 (gd_of rfl) ?_)
          have e15a : pmu D4 (q + 13) (k : Int) (lead : Int) q 15 = k := by simp only [pmu]; rw [if_neg (fun w => by omega)]; exact e15'
          simp only [P_X7_take, i_kil, i_icon, i_lcon, i_null, i_loadI, i_loadL, i_loadR, i_istore, i_lstore, i_astore, i_iinc, i_dup, i_dup2, i_pop, i_iadd, i_isub, i_imul, i_idiv, i_irem, i_ineg, i_iand, i_ior, i_ishl, i_ishr, i_lxor, i_ladd, i_lsub, i_lmul, i_ldiv, i_lrem, i_lneg, i_lshl, i_lcmp, i_i2l, i_l2i, i_i2b, i_i2s, i_ifeq, i_ifne, i_iflt, i_ifge, i_ifgt, i_ifle, i_cmpeq, i_cmpne, i_cmplt, i_cmpge, i_cmpgt, i_cmple, i_acmpeq, i_acmpne, i_ifnull, i_ifnonnull, i_getI, i_getR, i_putI, i_putZ, i_putR, i_ald, i_ldL, i_ldR, i_ast, i_stL, i_stR, i_alen, i_new, i_newa, i_iret, i_zret, i_lret, i_aret, i_vret, i_raise, i_throw, i_recv, i_objinit, i_tsw3, lget, lset, lput1, lput2, lkil, ltrim, largs, isL, takev, dropv, nthv, pushO, catv, gd, true_and, and_true, Option.some.injEq, Prod.mk.injEq, exists_eq_left', if_true, if_false, reduceCtorEq, Bool.false_eq_true, lcmp_ge, lcmp_lt, lcmp_le, lcmp_gt, lcmp_eq, true_or, or_true, not_true_eq_false, not_false_eq_true, false_implies, true_implies, List.length_cons, List.length_nil, q1, q24, q25, e15a]
          repeat (first | refine ⟨in_small (by omega) (by omega), ?_⟩ | (show (_ → _) ∧ (_ → _); first | refine ⟨by omega, fun _ => ?_⟩ | refine ⟨fun _ => ?_, by omega⟩) | refine ⟨by omega, ?_⟩ | refine ⟨⟨_, rfl, by assumption⟩, ?_⟩ | refine ⟨okT_I _, ?_⟩ | refine call0 (gd_of rfl) ?_)
          have e15b : pmu (pmu D4 (q + 13) (k : Int) (lead : Int)) (q + 15) (k : Int) (of : Int) q 15 = k := by simp only [pmu]; rw [if_neg (fun w => by omega), if_neg (fun w => by omega)]; exact e15'
          simp only [P_X7_take, i_kil, i_icon, i_lcon, i_null, i_loadI, i_loadL, i_loadR, i_istore, i_lstore, i_astore, i_iinc, i_dup, i_dup2, i_pop, i_iadd, i_isub, i_imul, i_idiv, i_irem, i_ineg, i_iand, i_ior, i_ishl, i_ishr, i_lxor, i_ladd, i_lsub, i_lmul, i_ldiv, i_lrem, i_lneg, i_lshl, i_lcmp, i_i2l, i_l2i, i_i2b, i_i2s, i_ifeq, i_ifne, i_iflt, i_ifge, i_ifgt, i_ifle, i_cmpeq, i_cmpne, i_cmplt, i_cmpge, i_cmpgt, i_cmple, i_acmpeq, i_acmpne, i_ifnull, i_ifnonnull, i_getI, i_getR, i_putI, i_putZ, i_putR, i_ald, i_ldL, i_ldR, i_ast, i_stL, i_stR, i_alen, i_new, i_newa, i_iret, i_zret, i_lret, i_aret, i_vret, i_raise, i_throw, i_recv, i_objinit, i_tsw3, lget, lset, lput1, lput2, lkil, ltrim, largs, isL, takev, dropv, nthv, pushO, catv, gd, true_and, and_true, Option.some.injEq, Prod.mk.injEq, exists_eq_left', if_true, if_false, reduceCtorEq, Bool.false_eq_true, lcmp_ge, lcmp_lt, lcmp_le, lcmp_gt, lcmp_eq, true_or, or_true, not_true_eq_false, not_false_eq_true, false_implies, true_implies, List.length_cons, List.length_nil, q1, q26, q27, e15b]
          repeat (first | refine ⟨in_small (by omega) (by omega), ?_⟩ | (show (_ → _) ∧ (_ → _); first | refine ⟨by omega, fun _ => ?_⟩ | refine ⟨fun _ => ?_, by omega⟩) | refine ⟨by omega, ?_⟩ | refine ⟨⟨_, rfl, by assumption⟩, ?_⟩ | refine ⟨okT_I _, ?_⟩ | refine call0 (gd_of rfl) ?_)
          have e15c : pmu (pmu (pmu D4 (q + 13) (k : Int) (lead : Int)) (q + 15) (k : Int) (of : Int)) (q + 16) (k : Int) (tm : Int) q 15 = k := by simp only [pmu]; rw [if_neg (fun w => by omega), if_neg (fun w => by omega), if_neg (fun w => by omega)]; exact e15'
          simp only [P_X7_take, i_kil, i_icon, i_lcon, i_null, i_loadI, i_loadL, i_loadR, i_istore, i_lstore, i_astore, i_iinc, i_dup, i_dup2, i_pop, i_iadd, i_isub, i_imul, i_idiv, i_irem, i_ineg, i_iand, i_ior, i_ishl, i_ishr, i_lxor, i_ladd, i_lsub, i_lmul, i_ldiv, i_lrem, i_lneg, i_lshl, i_lcmp, i_i2l, i_l2i, i_i2b, i_i2s, i_ifeq, i_ifne, i_iflt, i_ifge, i_ifgt, i_ifle, i_cmpeq, i_cmpne, i_cmplt, i_cmpge, i_cmpgt, i_cmple, i_acmpeq, i_acmpne, i_ifnull, i_ifnonnull, i_getI, i_getR, i_putI, i_putZ, i_putR, i_ald, i_ldL, i_ldR, i_ast, i_stL, i_stR, i_alen, i_new, i_newa, i_iret, i_zret, i_lret, i_aret, i_vret, i_raise, i_throw, i_recv, i_objinit, i_tsw3, lget, lset, lput1, lput2, lkil, ltrim, largs, isL, takev, dropv, nthv, pushO, catv, gd, true_and, and_true, Option.some.injEq, Prod.mk.injEq, exists_eq_left', if_true, if_false, reduceCtorEq, Bool.false_eq_true, lcmp_ge, lcmp_lt, lcmp_le, lcmp_gt, lcmp_eq, true_or, or_true, not_true_eq_false, not_false_eq_true, false_implies, true_implies, List.length_cons, List.length_nil, q1, e15c]
          repeat (first | refine ⟨in_small (by omega) (by omega), ?_⟩ | (show (_ → _) ∧ (_ → _); first | refine ⟨by omega, fun _ => ?_⟩ | refine ⟨fun _ => ?_, by omega⟩) | refine ⟨by omega, ?_⟩ | refine ⟨⟨_, rfl, by assumption⟩, ?_⟩ | refine ⟨okT_I _, ?_⟩ | refine call0 (gd_of rfl) ?_)
          have fin : ∀ a i, a ≠ q → a ≠ q + 2 → a ≠ q + 3 → a ≠ q + 13 → a ≠ q + 15 → a ≠ q + 16 → pmu (pmu (pmu (pmu D4 (q + 13) (k : Int) (lead : Int)) (q + 15) (k : Int) (of : Int)) (q + 16) (k : Int) (tm : Int)) q 15 ((k : Int) + 1) a i = D3 a i := fun a i a1 a2 a3 a4 a5 a6 => by
            simp only [pmu]
            rw [if_neg (fun w => a1 w.1), if_neg (fun w => a6 w.1), if_neg (fun w => a5 w.1), if_neg (fun w => a4 w.1), f5 a i a2 (by omega)]
          have f13 : ∀ i, pmu (pmu (pmu (pmu D4 (q + 13) (k : Int) (lead : Int)) (q + 15) (k : Int) (of : Int)) (q + 16) (k : Int) (tm : Int)) q 15 ((k : Int) + 1) (q + 13) i = if i = k then (lead : Int) else D (q + 13) i := fun i => by
            simp only [pmu]
            rw [if_neg (fun w => by omega), if_neg (fun w => by omega), if_neg (fun w => by omega)]
            by_cases w : i = k
            · rw [if_pos ⟨trivial, w⟩, if_pos w]
            · rw [if_neg (fun x => w x.2), if_neg w, f5 _ _ (by omega) (by omega), g3 _ _ (by omega)]
          have f15 : ∀ i, pmu (pmu (pmu (pmu D4 (q + 13) (k : Int) (lead : Int)) (q + 15) (k : Int) (of : Int)) (q + 16) (k : Int) (tm : Int)) q 15 ((k : Int) + 1) (q + 15) i = if i = k then (of : Int) else D (q + 15) i := fun i => by
            simp only [pmu]
            rw [if_neg (fun w => by omega), if_neg (fun w => by omega)]
            by_cases w : i = k
            · rw [if_pos ⟨trivial, w⟩, if_pos w]
            · rw [if_neg (fun x => w x.2), if_neg w, if_neg (fun w => by omega), f5 _ _ (by omega) (by omega), g3 _ _ (by omega)]
          have f16 : ∀ i, pmu (pmu (pmu (pmu D4 (q + 13) (k : Int) (lead : Int)) (q + 15) (k : Int) (of : Int)) (q + 16) (k : Int) (tm : Int)) q 15 ((k : Int) + 1) (q + 16) i = if i = k then (tm : Int) else D (q + 16) i := fun i => by
            simp only [pmu]
            rw [if_neg (fun w => by omega)]
            by_cases w : i = k
            · rw [if_pos ⟨trivial, w⟩, if_pos w]
            · rw [if_neg (fun x => w x.2), if_neg w, if_neg (fun w => by omega), if_neg (fun w => by omega), f5 _ _ (by omega) (by omega), g3 _ _ (by omega)]
          have hx0 : tkW d v P cl k lead ≠ 0 := by
            have := hlaw.2.2.2
            unfold fcl at hL
            rw [hL] at this
            exact this (by omega)
          refine K1 _ cl3 hl (fun a i a1 a2 a3 a4 a5 a6 a7 a8 a9 a10 a11 a12 => by rw [fin a i a1 a3 a4 a6 a7 a8]; exact g1 a i a1 a2 a3 a4 a5 a6 a7 a8 a9 a10 a11 a12) (fun i hi => ?_) ⟨?_, by omega, ?_, hx0, hb1, fun r hr => ?_, fun r hr => ?_, g5.congr fun i => fin _ _ (by omega) (by omega) (by omega) (by omega) (by omega) (by omega)⟩ g6 g7
          · simp only [pmu]
            rw [if_neg (fun w => hi w.2), if_neg (fun w => by omega), if_neg (fun w => by omega), if_neg (fun w => by omega), f5 _ _ (by omega) (by omega), g2]
          · simp [pmu]
          · refine f6.congr (fun i => ?_) (fun i => ?_)
            · simp only [pmu]; rw [if_neg (fun w => by omega), if_neg (fun w => by omega), if_neg (fun w => by omega), if_neg (fun w => by omega)]
            · simp only [pmu]; rw [if_neg (fun w => by omega), if_neg (fun w => by omega), if_neg (fun w => by omega), if_neg (fun w => by omega)]
          · rw [f13, f15, f16]
            unfold nupd
            by_cases w : r = k
            · subst w
              rw [if_pos rfl, if_pos rfl, if_pos rfl]
              simp
            · have wz : ¬ (r : Int) = k := by omega
              simp only [w, wz, if_false]
              exact d6 r (by omega)
          · unfold nupd; split
            · exact hl
            · exact d7 r hr
        | succ L ih =>
          intro c D3 cl3 hc g1 g2 g3 g4 g5 g6 g7
          have e15' : D3 q 15 = k := by rw [g2]; exact d1
          obtain ⟨wc1, wc2⟩ := q32 c (by omega)
          refine wp_in ?_
          simp only [P_X7_take, i_kil, i_icon, i_lcon, i_null, i_loadI, i_loadL, i_loadR, i_istore, i_lstore, i_astore, i_iinc, i_dup, i_dup2, i_pop, i_iadd, i_isub, i_imul, i_idiv, i_irem, i_ineg, i_iand, i_ior, i_ishl, i_ishr, i_lxor, i_ladd, i_lsub, i_lmul, i_ldiv, i_lrem, i_lneg, i_lshl, i_lcmp, i_i2l, i_l2i, i_i2b, i_i2s, i_ifeq, i_ifne, i_iflt, i_ifge, i_ifgt, i_ifle, i_cmpeq, i_cmpne, i_cmplt, i_cmpge, i_cmpgt, i_cmple, i_acmpeq, i_acmpne, i_ifnull, i_ifnonnull, i_getI, i_getR, i_putI, i_putZ, i_putR, i_ald, i_ldL, i_ldR, i_ast, i_stL, i_stR, i_alen, i_new, i_newa, i_iret, i_zret, i_lret, i_aret, i_vret, i_raise, i_throw, i_recv, i_objinit, i_tsw3, lget, lset, lput1, lput2, lkil, ltrim, largs, isL, takev, dropv, nthv, pushO, catv, gd, true_and, and_true, Option.some.injEq, Prod.mk.injEq, exists_eq_left', if_true, if_false, reduceCtorEq, Bool.false_eq_true, lcmp_ge, lcmp_lt, lcmp_le, lcmp_gt, lcmp_eq, true_or, or_true, not_true_eq_false, not_false_eq_true, false_implies, true_implies, List.length_cons, List.length_nil, q1, q8, q9, wc1, e15']
          repeat (first | refine ⟨in_small (by omega) (by omega), ?_⟩ | (show (_ → _) ∧ (_ → _); first | refine ⟨by omega, fun _ => ?_⟩ | refine ⟨fun _ => ?_, by omega⟩) | refine ⟨by omega, ?_⟩ | refine ⟨⟨_, rfl, by assumption⟩, ?_⟩ | refine ⟨okT_I _, ?_⟩ | refine call0 (gd_of rfl) ?_)
          refine sp_X7_save hq0 wc2 (by omega) (g4 c (by omega)) (hbW c (by omega)) hk35 (by omega) (by omega) rfl rfl fun D4 f5 f6 => ?_
          simp only [P_X7_take, i_kil, i_icon, i_lcon, i_null, i_loadI, i_loadL, i_loadR, i_istore, i_lstore, i_astore, i_iinc, i_dup, i_dup2, i_pop, i_iadd, i_isub, i_imul, i_idiv, i_irem, i_ineg, i_iand, i_ior, i_ishl, i_ishr, i_lxor, i_ladd, i_lsub, i_lmul, i_ldiv, i_lrem, i_lneg, i_lshl, i_lcmp, i_i2l, i_l2i, i_i2b, i_i2s, i_ifeq, i_ifne, i_iflt, i_ifge, i_ifgt, i_ifle, i_cmpeq, i_cmpne, i_cmplt, i_cmpge, i_cmpgt, i_cmple, i_acmpeq, i_acmpne, i_ifnull, i_ifnonnull, i_getI, i_getR, i_putI, i_putZ, i_putR, i_ald, i_ldL, i_ldR, i_ast, i_stL, i_stR, i_alen, i_new, i_newa, i_iret, i_zret, i_lret, i_aret, i_vret, i_raise, i_throw, i_recv, i_objinit, i_tsw3, lget, lset, lput1, lput2, lkil, ltrim, largs, isL, takev, dropv, nthv, pushO, catv, gd, true_and, and_true, Option.some.injEq, Prod.mk.injEq, exists_eq_left', if_true, if_false, reduceCtorEq, Bool.false_eq_true, lcmp_ge, lcmp_lt, lcmp_le, lcmp_gt, lcmp_eq, true_or, or_true, not_true_eq_false, not_false_eq_true, false_implies, true_implies, List.length_cons, List.length_nil]
          repeat (first | refine ⟨in_small (by omega) (by omega), ?_⟩ | (show (_ → _) ∧ (_ → _); first | refine ⟨by omega, fun _ => ?_⟩ | refine ⟨fun _ => ?_, by omega⟩) | refine ⟨by omega, ?_⟩ | refine ⟨⟨_, rfl, by assumption⟩, ?_⟩ | refine ⟨okT_I _, ?_⟩ | refine call0 (gd_of rfl) ?_)
          have fr : ∀ a i, a ≠ q + 1 → D4 a i = D3 a i := fun a i a1 => f5 a i (fun w => a1 w.1)
          refine ih (c + 1) D4 (cupd cl3 k c (tkW d v P cl k c)) (by omega) (fun a i a1 a2 a3 a4 a5 a6 a7 a8 a9 a10 a11 a12 => by rw [fr a i a2]; exact g1 a i a1 a2 a3 a4 a5 a6 a7 a8 a9 a10 a11 a12) (fun i => by rw [fr _ _ (by omega)]; exact g2 i) (fun a i ha => by rw [fr _ _ (by omega)]; exact g3 a i ha) (fun c' hc' => (g4 c' hc').congr (fun i => fr _ _ (by omega)) (fun i => fr _ _ (by omega))) (g5.save hk35 (by omega) (fun i hi => f5 _ i (fun w => hi ⟨w.2.1, w.2.2⟩)) f6) (fun r' c' hr' hc' => ?_) fun c' hc' => ?_
          · unfold cupd; rw [if_neg (fun w => by omega)]; exact g6 r' c' hr' hc'
          · unfold cupd
            by_cases w : c' = c
            · rw [w, if_pos ⟨rfl, rfl⟩]
            · rw [if_neg (fun x => w x.2)]; exact g7 c' (by omega)
      -- the old rows are turned
      have turns : ∀ (L r : Nat) (D3 : Dat) (cl3 : Nat → Nat → Int), r + L = k → tkO q o D D3 → (∀ i, D3 q i = D q i) → (∀ a i, (a = q + 2 ∨ a = q + 3 ∨ a = q + 13 ∨ a = q + 15 ∨ a = q + 16) → D3 a i = D a i) → (∀ c : Nat, c < 35 + k + 1 → wD 1 2 D3 (q + 20 + 2 * c) (tkW d v P cl k c)) → sqC D3 q cl3 → (∀ r' c, r' < r → c < 35 + k + 1 → cl3 r' c = trnI d k (tkW d v P cl k) lead cl r' c) → (∀ r' c, r ≤ r' → cl3 r' c = cl r' c) → Wp P_X7_take E 2 [some (aR q), some (aI of), some (aI tm), some (aI ((35 + k + 1 : Nat) : Int)), some (aI lead), some (aI r)] [] B S D3 := by
        intro L
        induction L with
        | zero =>
          intro r D3 cl3 hr g1 g2 g3 g4 g5 g6 g7
          have : r = k := by omega
          subst this
          have e15' : D3 q 15 = r := by rw [g2]; exact d1
          refine wp_in ?_
          simp only [P_X7_take, i_kil, i_icon, i_lcon, i_null, i_loadI, i_loadL, i_loadR, i_istore, i_lstore, i_astore, i_iinc, i_dup, i_dup2, i_pop, i_iadd, i_isub, i_imul, i_idiv, i_irem, i_ineg, i_iand, i_ior, i_ishl, i_ishr, i_lxor, i_ladd, i_lsub, i_lmul, i_ldiv, i_lrem, i_lneg, i_lshl, i_lcmp, i_i2l, i_l2i, i_i2b, i_i2s, i_ifeq, i_ifne, i_iflt, i_ifge, i_ifgt, i_ifle, i_cmpeq, i_cmpne, i_cmplt, i_cmpge, i_cmpgt, i_cmple, i_acmpeq, i_acmpne, i_ifnull, i_ifnonnull, i_getI, i_getR, i_putI, i_putZ, i_putR, i_ald, i_ldL, i_ldR, i_ast, i_stL, i_stR, i_alen, i_new, i_newa, i_iret, i_zret, i_lret, i_aret, i_vret, i_raise, i_throw, i_recv, i_objinit, i_tsw3, lget, lset, lput1, lput2, lkil, ltrim, largs, isL, takev, dropv, nthv, pushO, catv, gd, true_and, and_true, Option.some.injEq, Prod.mk.injEq, exists_eq_left', if_true, if_false, reduceCtorEq, Bool.false_eq_true, lcmp_ge, lcmp_lt, lcmp_le, lcmp_gt, lcmp_eq, true_or, or_true, not_true_eq_false, not_false_eq_true, false_implies, true_implies, List.length_cons, List.length_nil, q1, e15']
          repeat (first | refine ⟨in_small (by omega) (by omega), ?_⟩ | (show (_ → _) ∧ (_ → _); first | refine ⟨by omega, fun _ => ?_⟩ | refine ⟨fun _ => ?_, by omega⟩) | refine ⟨by omega, ?_⟩ | refine ⟨⟨_, rfl, by assumption⟩, ?_⟩ | refine ⟨okT_I _, ?_⟩ | refine call0 (gd_of rfl) ?_)
          exact saves (35 + r + 1) 0 D3 cl3 (by omega) g1 g2 g3 g4 g5 g6 fun c' hc' => by omega
        | succ L ih =>
          intro r D3 cl3 hr g1 g2 g3 g4 g5 g6 g7
          have e15' : D3 q 15 = k := by rw [g2]; exact d1
          have hd3 : wD 1 2 D3 (q + 2) d := d3.congr (fun i => g3 _ _ (by omega)) (fun i => g3 _ _ (by omega))
          have etr : ∀ c, trnI d k (tkW d v P cl k) lead cl3 r c = trnI d k (tkW d v P cl k) lead cl r c := fun c => by unfold trnI; rw [g7 r c (Nat.le_refl _), g7 r lead (Nat.le_refl _)]
          refine wp_in ?_
          simp only [P_X7_take, i_kil, i_icon, i_lcon, i_null, i_loadI, i_loadL, i_loadR, i_istore, i_lstore, i_astore, i_iinc, i_dup, i_dup2, i_pop, i_iadd, i_isub, i_imul, i_idiv, i_irem, i_ineg, i_iand, i_ior, i_ishl, i_ishr, i_lxor, i_ladd, i_lsub, i_lmul, i_ldiv, i_lrem, i_lneg, i_lshl, i_lcmp, i_i2l, i_l2i, i_i2b, i_i2s, i_ifeq, i_ifne, i_iflt, i_ifge, i_ifgt, i_ifle, i_cmpeq, i_cmpne, i_cmplt, i_cmpge, i_cmpgt, i_cmple, i_acmpeq, i_acmpne, i_ifnull, i_ifnonnull, i_getI, i_getR, i_putI, i_putZ, i_putR, i_ald, i_ldL, i_ldR, i_ast, i_stL, i_stR, i_alen, i_new, i_newa, i_iret, i_zret, i_lret, i_aret, i_vret, i_raise, i_throw, i_recv, i_objinit, i_tsw3, lget, lset, lput1, lput2, lkil, ltrim, largs, isL, takev, dropv, nthv, pushO, catv, gd, true_and, and_true, Option.some.injEq, Prod.mk.injEq, exists_eq_left', if_true, if_false, reduceCtorEq, Bool.false_eq_true, lcmp_ge, lcmp_lt, lcmp_le, lcmp_gt, lcmp_eq, true_or, or_true, not_true_eq_false, not_false_eq_true, false_implies, true_implies, List.length_cons, List.length_nil, q1, e15']
          repeat (first | refine ⟨in_small (by omega) (by omega), ?_⟩ | (show (_ → _) ∧ (_ → _); first | refine ⟨by omega, fun _ => ?_⟩ | refine ⟨fun _ => ?_, by omega⟩) | refine ⟨by omega, ?_⟩ | refine ⟨⟨_, rfl, by assumption⟩, ?_⟩ | refine ⟨okT_I _, ?_⟩ | refine call0 (gd_of rfl) ?_)
          refine sp_X7_turn (k := k) (r := r) (lead := lead) hq0 ho hoq (by omega) hl (by omega) d2 e15' hd3 d4 d5 g5 (by omega) g4 hbW (fun c hc => by rw [etr]; exact hbT r c (by omega) hc) rfl rfl fun D4 cl4 f5 f6 f7 f8 => ?_
          simp only [P_X7_take, i_kil, i_icon, i_lcon, i_null, i_loadI, i_loadL, i_loadR, i_istore, i_lstore, i_astore, i_iinc, i_dup, i_dup2, i_pop, i_iadd, i_isub, i_imul, i_idiv, i_irem, i_ineg, i_iand, i_ior, i_ishl, i_ishr, i_lxor, i_ladd, i_lsub, i_lmul, i_ldiv, i_lrem, i_lneg, i_lshl, i_lcmp, i_i2l, i_l2i, i_i2b, i_i2s, i_ifeq, i_ifne, i_iflt, i_ifge, i_ifgt, i_ifle, i_cmpeq, i_cmpne, i_cmplt, i_cmpge, i_cmpgt, i_cmple, i_acmpeq, i_acmpne, i_ifnull, i_ifnonnull, i_getI, i_getR, i_putI, i_putZ, i_putR, i_ald, i_ldL, i_ldR, i_ast, i_stL, i_stR, i_alen, i_new, i_newa, i_iret, i_zret, i_lret, i_aret, i_vret, i_raise, i_throw, i_recv, i_objinit, i_tsw3, lget, lset, lput1, lput2, lkil, ltrim, largs, isL, takev, dropv, nthv, pushO, catv, gd, true_and, and_true, Option.some.injEq, Prod.mk.injEq, exists_eq_left', if_true, if_false, reduceCtorEq, Bool.false_eq_true, lcmp_ge, lcmp_lt, lcmp_le, lcmp_gt, lcmp_eq, true_or, or_true, not_true_eq_false, not_false_eq_true, false_implies, true_implies, List.length_cons, List.length_nil]
          repeat (first | refine ⟨in_small (by omega) (by omega), ?_⟩ | (show (_ → _) ∧ (_ → _); first | refine ⟨by omega, fun _ => ?_⟩ | refine ⟨fun _ => ?_, by omega⟩) | refine ⟨by omega, ?_⟩ | refine ⟨⟨_, rfl, by assumption⟩, ?_⟩ | refine ⟨okT_I _, ?_⟩ | refine call0 (gd_of rfl) ?_)
          refine ih (r + 1) D4 cl4 (by omega) (fun a i a1 a2 a3 a4 a5 a6 a7 a8 a9 a10 a11 a12 => by rw [f5 a i a2 a5 a9 a10 a12]; exact g1 a i a1 a2 a3 a4 a5 a6 a7 a8 a9 a10 a11 a12) (fun i => by rw [f5 _ _ (by omega) (by omega) (by omega) (by omega) (by omega)]; exact g2 i) (fun a i ha => by rw [f5 _ _ (by omega) (by omega) (by omega) (by omega) (by omega)]; exact g3 a i ha) (fun c hc => (g4 c hc).congr (fun i => f5 _ _ (by omega) (by omega) (by omega) (by omega) (by omega)) (fun i => f5 _ _ (by omega) (by omega) (by omega) (by omega) (by omega))) f6 (fun r' c hr' hc => ?_) fun r' c hr' => ?_
          · by_cases w : r' = r
            · rw [w, f8 c hc, etr]
            · rw [f7 r' c w]; exact g6 r' c (by omega) hc
          · rw [f7 r' c (by omega)]; exact g7 r' c (by omega)
      exact turns k 0 D2 cl (by omega) O2 Q2 s2 hW2 (d8.congr fun i => by rw [f3 _ _ (by omega) (by omega), f1 _ _ (by omega) (by omega) (by omega) (by omega)]) (fun r' c hr' => by omega) fun _ _ _ => rfl
    · have hl35 : lead = 35 := by omega
      subst hl35
      simp only [P_X7_take, i_kil, i_icon, i_lcon, i_null, i_loadI, i_loadL, i_loadR, i_istore, i_lstore, i_astore, i_iinc, i_dup, i_dup2, i_pop, i_iadd, i_isub, i_imul, i_idiv, i_irem, i_ineg, i_iand, i_ior, i_ishl, i_ishr, i_lxor, i_ladd, i_lsub, i_lmul, i_ldiv, i_lrem, i_lneg, i_lshl, i_lcmp, i_i2l, i_l2i, i_i2b, i_i2s, i_ifeq, i_ifne, i_iflt, i_ifge, i_ifgt, i_ifle, i_cmpeq, i_cmpne, i_cmplt, i_cmpge, i_cmpgt, i_cmple, i_acmpeq, i_acmpne, i_ifnull, i_ifnonnull, i_getI, i_getR, i_putI, i_putZ, i_putR, i_ald, i_ldL, i_ldR, i_ast, i_stL, i_stR, i_alen, i_new, i_newa, i_iret, i_zret, i_lret, i_aret, i_vret, i_raise, i_throw, i_recv, i_objinit, i_tsw3, lget, lset, lput1, lput2, lkil, ltrim, largs, isL, takev, dropv, nthv, pushO, catv, gd, true_and, and_true, Option.some.injEq, Prod.mk.injEq, exists_eq_left', if_true, if_false, reduceCtorEq, Bool.false_eq_true, lcmp_ge, lcmp_lt, lcmp_le, lcmp_gt, lcmp_eq, true_or, or_true, not_true_eq_false, not_false_eq_true, false_implies, true_implies, List.length_cons, List.length_nil]
      repeat (first | refine ⟨in_small (by omega) (by omega), ?_⟩ | (show (_ → _) ∧ (_ → _); first | refine ⟨by omega, fun _ => ?_⟩ | refine ⟨fun _ => ?_, by omega⟩) | refine ⟨by omega, ?_⟩ | refine ⟨⟨_, rfl, by assumption⟩, ?_⟩ | refine ⟨okT_I _, ?_⟩ | refine call0 (gd_of rfl) ?_)
      exact K0 D1 rfl O1 (fun i => f1 _ _ (by omega) (by omega) (by omega) (by omega)) fD1
  refine wp_in ?_
  simp only [P_X7_take, i_kil, i_icon, i_lcon, i_null, i_loadI, i_loadL, i_loadR, i_istore, i_lstore, i_astore, i_iinc, i_dup, i_dup2, i_pop, i_iadd, i_isub, i_imul, i_idiv, i_irem, i_ineg, i_iand, i_ior, i_ishl, i_ishr, i_lxor, i_ladd, i_lsub, i_lmul, i_ldiv, i_lrem, i_lneg, i_lshl, i_lcmp, i_i2l, i_l2i, i_i2b, i_i2s, i_ifeq, i_ifne, i_iflt, i_ifge, i_ifgt, i_ifle, i_cmpeq, i_cmpne, i_cmplt, i_cmpge, i_cmpgt, i_cmple, i_acmpeq, i_acmpne, i_ifnull, i_ifnonnull, i_getI, i_getR, i_putI, i_putZ, i_putR, i_ald, i_ldL, i_ldR, i_ast, i_stL, i_stR, i_alen, i_new, i_newa, i_iret, i_zret, i_lret, i_aret, i_vret, i_raise, i_throw, i_recv, i_objinit, i_tsw3, lget, lset, lput1, lput2, lkil, ltrim, largs, isL, takev, dropv, nthv, pushO, catv, gd, true_and, and_true, Option.some.injEq, Prod.mk.injEq, exists_eq_left', if_true, if_false, reduceCtorEq, Bool.false_eq_true, lcmp_ge, lcmp_lt, lcmp_le, lcmp_gt, lcmp_eq, true_or, or_true, not_true_eq_false, not_false_eq_true, false_implies, true_implies, List.length_cons, List.length_nil, q1, d1]
  repeat (first | refine ⟨in_small (by omega) (by omega), ?_⟩ | (show (_ → _) ∧ (_ → _); first | refine ⟨by omega, fun _ => ?_⟩ | refine ⟨fun _ => ?_, by omega⟩) | refine ⟨by omega, ?_⟩ | refine ⟨⟨_, rfl, by assumption⟩, ?_⟩ | refine ⟨okT_I _, ?_⟩ | refine call0 (gd_of rfl) ?_)
  refine ⟨fun h => ?_, fun h => ?_⟩
  · have := go (35 + k + 1) (by omega) (by omega) (fun _ => rfl)
    rw [show ((35 + k + 1 : Nat) : Int) = 35 + (k : Int) + 1 by omega] at this
    exact this
  · exact go 35 (by omega) (by omega) (fun w => by omega)
