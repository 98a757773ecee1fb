/-! the model's calls: write -/
-- needs: es.mputp
set_option maxRecDepth 100000
set_option linter.unusedVariables false
theorem mpt_low {h : Nat} {v : Int} (hh : h ≤ 7) : (mpt h v).num = v * ((2 ^ (7 - h) : Nat) : Int) ∧ (mpt h v).den = 1 := by
  rw [← mes_pt, show h - 7 = 0 by omega]
  unfold mes
  have : ((v * ((2 ^ (7 - h) : Nat) : Int) : Int) : Rat) / (((2 ^ 0 : Nat) : Int) : Rat) = ((v * ((2 ^ (7 - h) : Nat) : Int) : Int) : Rat) := by
    rw [show ((2 ^ 0 : Nat) : Int) = 1 by decide, show ((1 : Int) : Rat) = 1 from rfl, Rat.div_def]
    grind
  rw [this]
  exact ⟨rfl, rfl⟩
theorem mpt_high {h : Nat} {v : Int} (hh : 7 ≤ h) : Rat.divInt v ((2 ^ (h - 7) : Nat) : Int) = mpt h v := by
  rw [← mes_pt, Rat.divInt_eq_div]
  unfold mes
  rw [show 7 - h = 0 by omega, show ((2 ^ 0 : Nat) : Int) = 1 by decide, Int.mul_one]
section MWR
variable {E : Ex} {B : Nat × Nat} {S : Stat} {D : Dat} {M : Nat} {L : List Int}
/-- what putEnd changes -/
def teO (D D' : Dat) (M : Nat) : Prop := ∀ c i, (c ≠ M ∨ i ≠ 38) → c ≠ M + 4225 → (c ≤ M ∨ M + 20 < c) → (c < M + 4221 ∨ M + 4224 < c) → (c < M + 10791 ∨ M + 10792 < c) → (c < M + 11297 ∨ M + 11298 < c) → D' c i = D c i
theorem sp_X16_putEnd {a h r : Nat} {v y : Int} (hx : mxtS S M) (hm : mS S M) (hs : msS S M) (h36 : S.2.1 M 36 = some (M + 4223) ∧ wS 17 S (M + 4223) 260) (h66 : S.2.1 M 66 = some (M + 10791) ∧ wS 17 S (M + 10791) 260) (ha : wS 17 S a r) (la : a + 1 < M ∨ M + 20 < a) (la2 : a + 1 < M + 4221 ∨ M + 4225 < a) (la3 : a + 1 < M + 10791 ∨ M + 10792 < a) (la4 : a + 1 < M + 11297 ∨ M + 11298 < a) (hv : wD 2 1 D a v) (h1 : v.natAbs ≤ 2 ^ h) (hh : h ≤ 460) (hr : 17 ≤ r) (hr2 : r < 1000) (hy : y = 7 - (h : Int)) (ht : txD 38 D M (M + 4225) L) (hL : L.length + 4690 ≤ 20000)
    (K : ∀ D', teO D D' M → txD 38 D' M (M + 4225) (L ++ eT (mpt h v)) → (eT (mpt h v)).length ≤ 4690 → E (.inl none) B S D') : Wp P_X16_putEnd E 0 [some (aR M), some (aR a), some (aI y)] [] B S D := by
  have o := hx.1
  obtain ⟨s36, t36⟩ := h36
  obtain ⟨s66, t66⟩ := h66
  have s35 := hs.2.2.2.2.2.2.2.2.2.2.1
  have t35 := hs.2.2.2.2.2.2.2.2.2.2.2
  have v35 := t35.1
  have v36 := t36.1
  have v66 := t66.1
  have m0 := hm.2.1
  have m264 := hm.2.2.1
  have p16 : ((2 ^ h : Nat) : Int) < 1000000000 ^ 16 := two_pw (by omega)
  have b16 : (1000000000 : Int) ^ 16 ≤ 1000000000 ^ 17 := by decide
  have hvb : (v.natAbs : Int) < 1000000000 ^ 16 := by omega
  have up : ∀ {x : Int} {k m : Nat}, x < 1000000000 ^ k → k ≤ m → x < 1000000000 ^ m := fun h1 h2 => Int.lt_of_lt_of_le h1 (pw_mono h2)
  have three : ∀ D1 x, teO D D1 M → txD 38 D1 M (M + 4225) (L ++ if (mpt h v).num < 0 then [45] else []) → frD D1 (M + 4221) (M + 4223) x → x = mpt h v → (x.num.natAbs : Int) < 1000000000 ^ 260 → (x.den : Int) < 1000000000 ^ 260 → Wp P_X16_putEnd E 3 [some (aR M)] [] B S D1 := fun D1 x f1 t1 g1 g2 g3 g4 => by
    subst g2
    refine wp_in ?_
    simp only [P_X16_putEnd, i_kil, i_icon, i_lcon, i_null, i_loadI, i_loadL, i_loadR, i_istore, i_lstore, i_astore, i_iinc, i_dup, i_dup2, i_pop, i_iadd, i_isub, i_imul, i_idiv, i_irem, i_ineg, i_iand, i_ior, i_ishl, i_ishr, i_lxor, i_ladd, i_lsub, i_lmul, i_ldiv, i_lrem, i_lneg, i_lshl, i_lcmp, i_i2l, i_l2i, i_i2b, i_i2s, i_ifeq, i_ifne, i_iflt, i_ifge, i_ifgt, i_ifle, i_cmpeq, i_cmpne, i_cmplt, i_cmpge, i_cmpgt, i_cmple, i_acmpeq, i_acmpne, i_ifnull, i_ifnonnull, i_getI, i_getR, i_putI, i_putZ, i_putR, i_ald, i_ldL, i_ldR, i_ast, i_stL, i_stR, i_alen, i_new, i_newa, i_iret, i_zret, i_lret, i_aret, i_vret, i_raise, i_throw, i_recv, i_objinit, i_tsw3, lget, lset, lput1, lput2, lkil, ltrim, largs, isL, takev, dropv, nthv, pushO, catv, gd, true_and, and_true, Option.some.injEq, Prod.mk.injEq, exists_eq_left', if_true, if_false, reduceCtorEq, Bool.false_eq_true, lcmp_ge, lcmp_lt, lcmp_le, lcmp_gt, lcmp_eq, true_or, or_true, not_true_eq_false, not_false_eq_true, false_implies, true_implies, List.length_cons, List.length_nil, o, s35, s36]
    repeat (first | refine ⟨in_small (by omega) (by omega), ?_⟩ | (show (_ → _) ∧ (_ → _); first | refine ⟨by omega, fun _ => ?_⟩ | refine ⟨fun _ => ?_, by omega⟩) | refine ⟨by omega, ?_⟩ | refine ⟨⟨_, rfl, by assumption⟩, ?_⟩ | refine ⟨okT_I _, ?_⟩ | refine call0 (gd_of rfl) ?_)
    have b1 : (if (mpt h v).num < 0 then [(45 : Int)] else []).length ≤ 1 := by split <;> simp
    refine sp_X16_putFraction hx t35 t36 g1 (by omega) (by omega) (by omega) (by omega) g3 g4 (by omega) (by omega) (by omega) (by omega) t1 (by rw [List.length_append]; omega) fun D2 f2 t2 => ?_
    simp only [P_X16_putEnd, i_kil, i_icon, i_lcon, i_null, i_loadI, i_loadL, i_loadR, i_istore, i_lstore, i_astore, i_iinc, i_dup, i_dup2, i_pop, i_iadd, i_isub, i_imul, i_idiv, i_irem, i_ineg, i_iand, i_ior, i_ishl, i_ishr, i_lxor, i_ladd, i_lsub, i_lmul, i_ldiv, i_lrem, i_lneg, i_lshl, i_lcmp, i_i2l, i_l2i, i_i2b, i_i2s, i_ifeq, i_ifne, i_iflt, i_ifge, i_ifgt, i_ifle, i_cmpeq, i_cmpne, i_cmplt, i_cmpge, i_cmpgt, i_cmple, i_acmpeq, i_acmpne, i_ifnull, i_ifnonnull, i_getI, i_getR, i_putI, i_putZ, i_putR, i_ald, i_ldL, i_ldR, i_ast, i_stL, i_stR, i_alen, i_new, i_newa, i_iret, i_zret, i_lret, i_aret, i_vret, i_raise, i_throw, i_recv, i_objinit, i_tsw3, lget, lset, lput1, lput2, lkil, ltrim, largs, isL, takev, dropv, nthv, pushO, catv, gd, true_and, and_true, Option.some.injEq, Prod.mk.injEq, exists_eq_left', if_true, if_false, reduceCtorEq, Bool.false_eq_true, lcmp_ge, lcmp_lt, lcmp_le, lcmp_gt, lcmp_eq, true_or, or_true, not_true_eq_false, not_false_eq_true, false_implies, true_implies, List.length_cons, List.length_nil]
    refine K D2 (fun c i c1 c2 c3 c4 c5 c6 => by rw [f2 c i c1 c2]; exact f1 c i c1 c2 c3 c4 c5 c6) ?_ ?_
    · unfold eT
      rw [← List.append_assoc]; exact t2
    · have := frT_len (zT_len g1.1 g3 (by omega)) (zT_len g1.2 (by rw [Int.natAbs_natCast]; exact g4) (by omega))
      unfold eT
      rw [List.length_append]; omega
  have two : ∀ D1 x, teO D D1 M → txD 38 D1 M (M + 4225) L → frD D1 (M + 4221) (M + 4223) x → x = mpt h v → (x.num.natAbs : Int) < 1000000000 ^ 260 → (x.den : Int) < 1000000000 ^ 260 → Wp P_X16_putEnd E 2 [some (aR M)] [] B S D1 := fun D1 x f1 t1 g1 g2 g3 g4 => by
    have gs : D1 (M + 4221) 1 = Int.sign x.num := by obtain ⟨n, -, -, q, -⟩ := g1.1; exact q
    refine wp_in ?_
    simp only [P_X16_putEnd, i_kil, i_icon, i_lcon, i_null, i_loadI, i_loadL, i_loadR, i_istore, i_lstore, i_astore, i_iinc, i_dup, i_dup2, i_pop, i_iadd, i_isub, i_imul, i_idiv, i_irem, i_ineg, i_iand, i_ior, i_ishl, i_ishr, i_lxor, i_ladd, i_lsub, i_lmul, i_ldiv, i_lrem, i_lneg, i_lshl, i_lcmp, i_i2l, i_l2i, i_i2b, i_i2s, i_ifeq, i_ifne, i_iflt, i_ifge, i_ifgt, i_ifle, i_cmpeq, i_cmpne, i_cmplt, i_cmpge, i_cmpgt, i_cmple, i_acmpeq, i_acmpne, i_ifnull, i_ifnonnull, i_getI, i_getR, i_putI, i_putZ, i_putR, i_ald, i_ldL, i_ldR, i_ast, i_stL, i_stR, i_alen, i_new, i_newa, i_iret, i_zret, i_lret, i_aret, i_vret, i_raise, i_throw, i_recv, i_objinit, i_tsw3, lget, lset, lput1, lput2, lkil, ltrim, largs, isL, takev, dropv, nthv, pushO, catv, gd, true_and, and_true, Option.some.injEq, Prod.mk.injEq, exists_eq_left', if_true, if_false, reduceCtorEq, Bool.false_eq_true, lcmp_ge, lcmp_lt, lcmp_le, lcmp_gt, lcmp_eq, true_or, or_true, not_true_eq_false, not_false_eq_true, false_implies, true_implies, List.length_cons, List.length_nil, o, s35, v35, gs]
    repeat (first | refine ⟨in_small (by omega) (by omega), ?_⟩ | (show (_ → _) ∧ (_ → _); first | refine ⟨by omega, fun _ => ?_⟩ | refine ⟨fun _ => ?_, by omega⟩) | refine ⟨by omega, ?_⟩ | refine ⟨⟨_, rfl, by assumption⟩, ?_⟩ | refine ⟨okT_I _, ?_⟩ | refine call0 (gd_of rfl) ?_)
    rcases sgn_cases x.num with ⟨q1, q2, q3⟩ | ⟨q1, q2⟩ | ⟨q1, q2, q3⟩
    · refine ⟨fun q => three D1 x f1 ?_ g1 g2 g3 g4, fun q => by omega⟩
      rw [← g2, if_neg (by omega), List.append_nil]; exact t1
    · refine ⟨fun q => three D1 x f1 ?_ g1 g2 g3 g4, fun q => by omega⟩
      rw [← g2, if_neg (by omega), List.append_nil]; exact t1
    · refine ⟨fun q => by omega, fun q => ?_⟩
      repeat (first | refine ⟨in_small (by omega) (by omega), ?_⟩ | (show (_ → _) ∧ (_ → _); first | refine ⟨by omega, fun _ => ?_⟩ | refine ⟨fun _ => ?_, by omega⟩) | refine ⟨by omega, ?_⟩ | refine ⟨⟨_, rfl, by assumption⟩, ?_⟩ | refine ⟨okT_I _, ?_⟩ | refine call0 (gd_of rfl) ?_)
      refine sp_X16_put hx t1 (by omega) (by decide) (by decide) fun D2 f2 t2 => ?_
      simp only [P_X16_putEnd, i_kil, i_icon, i_lcon, i_null, i_loadI, i_loadL, i_loadR, i_istore, i_lstore, i_astore, i_iinc, i_dup, i_dup2, i_pop, i_iadd, i_isub, i_imul, i_idiv, i_irem, i_ineg, i_iand, i_ior, i_ishl, i_ishr, i_lxor, i_ladd, i_lsub, i_lmul, i_ldiv, i_lrem, i_lneg, i_lshl, i_lcmp, i_i2l, i_l2i, i_i2b, i_i2s, i_ifeq, i_ifne, i_iflt, i_ifge, i_ifgt, i_ifle, i_cmpeq, i_cmpne, i_cmplt, i_cmpge, i_cmpgt, i_cmple, i_acmpeq, i_acmpne, i_ifnull, i_ifnonnull, i_getI, i_getR, i_putI, i_putZ, i_putR, i_ald, i_ldL, i_ldR, i_ast, i_stL, i_stR, i_alen, i_new, i_newa, i_iret, i_zret, i_lret, i_aret, i_vret, i_raise, i_throw, i_recv, i_objinit, i_tsw3, lget, lset, lput1, lput2, lkil, ltrim, largs, isL, takev, dropv, nthv, pushO, catv, gd, true_and, and_true, Option.some.injEq, Prod.mk.injEq, exists_eq_left', if_true, if_false, reduceCtorEq, Bool.false_eq_true, lcmp_ge, lcmp_lt, lcmp_le, lcmp_gt, lcmp_eq, true_or, or_true, not_true_eq_false, not_false_eq_true, false_implies, true_implies, List.length_cons, List.length_nil]
      refine three D2 x (fun c i c1 c2 c3 c4 c5 c6 => by rw [f2 c i c1 c2]; exact f1 c i c1 c2 c3 c4 c5 c6) ?_ ⟨g1.1.congr (fun i => f2 _ i (Or.inl (by omega)) (by omega)) fun i => f2 _ i (Or.inl (by omega)) (by omega), g1.2.congr (fun i => f2 _ i (Or.inl (by omega)) (by omega)) fun i => f2 _ i (Or.inl (by omega)) (by omega)⟩ g2 g3 g4
      rw [← g2, if_pos q3]; exact t2
  have one : ∀ (D1 : Dat) (k : Nat), (k = 7 - h ∧ h ≤ 7 ∨ k = h - 7 ∧ 7 < h) → teO D D1 M → txD 38 D1 M (M + 4225) L → wD 2 1 D1 (M + 4221) v → wD 2 1 D1 (M + 4223) 1 → Wp P_X16_putEnd E 1 [some (aR M), none, some (aI y)] [.inl (k : Int), .inr (.inr (some (M + 10791))), .inr (.inr (some M))] B S D1 := by
    intro D1 k hk f1 t1 g1 g2
    refine wp_in ?_
    simp only [P_X16_putEnd, i_kil, i_icon, i_lcon, i_null, i_loadI, i_loadL, i_loadR, i_istore, i_lstore, i_astore, i_iinc, i_dup, i_dup2, i_pop, i_iadd, i_isub, i_imul, i_idiv, i_irem, i_ineg, i_iand, i_ior, i_ishl, i_ishr, i_lxor, i_ladd, i_lsub, i_lmul, i_ldiv, i_lrem, i_lneg, i_lshl, i_lcmp, i_i2l, i_l2i, i_i2b, i_i2s, i_ifeq, i_ifne, i_iflt, i_ifge, i_ifgt, i_ifle, i_cmpeq, i_cmpne, i_cmplt, i_cmpge, i_cmpgt, i_cmple, i_acmpeq, i_acmpne, i_ifnull, i_ifnonnull, i_getI, i_getR, i_putI, i_putZ, i_putR, i_ald, i_ldL, i_ldR, i_ast, i_stL, i_stR, i_alen, i_new, i_newa, i_iret, i_zret, i_lret, i_aret, i_vret, i_raise, i_throw, i_recv, i_objinit, i_tsw3, lget, lset, lput1, lput2, lkil, ltrim, largs, isL, takev, dropv, nthv, pushO, catv, gd, true_and, and_true, Option.some.injEq, Prod.mk.injEq, exists_eq_left', if_true, if_false, reduceCtorEq, Bool.false_eq_true, lcmp_ge, lcmp_lt, lcmp_le, lcmp_gt, lcmp_eq, true_or, or_true, not_true_eq_false, not_false_eq_true, false_implies, true_implies, List.length_cons, List.length_nil, o]
    repeat (first | refine ⟨in_small (by omega) (by omega), ?_⟩ | (show (_ → _) ∧ (_ → _); first | refine ⟨by omega, fun _ => ?_⟩ | refine ⟨fun _ => ?_, by omega⟩) | refine ⟨by omega, ?_⟩ | refine ⟨⟨_, rfl, by assumption⟩, ?_⟩ | refine ⟨okT_I _, ?_⟩ | refine call0 (gd_of rfl) ?_)
    refine sp_X16_pow hm hs t66 (by omega) (by omega) rfl (by omega) (by omega) (by omega) fun D2 f2 g3 => ?_
    have f2' : teO D D2 M := fun c i c1 c2 c3 c4 c5 c6 => by rw [f2 c i (by omega) (by omega) (by omega) (by omega) (by omega)]; exact f1 c i c1 c2 c3 c4 c5 c6
    have t2 : txD 38 D2 M (M + 4225) L := ⟨by rw [f2 _ _ (by omega) (by omega) (by omega) (by omega) (by omega)]; exact t1.1, fun i hi => by rw [f2 _ _ (by omega) (by omega) (by omega) (by omega) (by omega)]; exact t1.2 i hi⟩
    have g1' : wD 2 1 D2 (M + 4221) v := g1.congr (fun i => f2 _ i (by omega) (by omega) (by omega) (by omega) (by omega)) fun i => f2 _ i (by omega) (by omega) (by omega) (by omega) (by omega)
    have g2' : wD 2 1 D2 (M + 4223) 1 := g2.congr (fun i => f2 _ i (by omega) (by omega) (by omega) (by omega) (by omega)) fun i => f2 _ i (by omega) (by omega) (by omega) (by omega) (by omega)
    simp only [P_X16_putEnd, i_kil, i_icon, i_lcon, i_null, i_loadI, i_loadL, i_loadR, i_istore, i_lstore, i_astore, i_iinc, i_dup, i_dup2, i_pop, i_iadd, i_isub, i_imul, i_idiv, i_irem, i_ineg, i_iand, i_ior, i_ishl, i_ishr, i_lxor, i_ladd, i_lsub, i_lmul, i_ldiv, i_lrem, i_lneg, i_lshl, i_lcmp, i_i2l, i_l2i, i_i2b, i_i2s, i_ifeq, i_ifne, i_iflt, i_ifge, i_ifgt, i_ifle, i_cmpeq, i_cmpne, i_cmplt, i_cmpge, i_cmpgt, i_cmple, i_acmpeq, i_acmpne, i_ifnull, i_ifnonnull, i_getI, i_getR, i_putI, i_putZ, i_putR, i_ald, i_ldL, i_ldR, i_ast, i_stL, i_stR, i_alen, i_new, i_newa, i_iret, i_zret, i_lret, i_aret, i_vret, i_raise, i_throw, i_recv, i_objinit, i_tsw3, lget, lset, lput1, lput2, lkil, ltrim, largs, isL, takev, dropv, nthv, pushO, catv, gd, true_and, and_true, Option.some.injEq, Prod.mk.injEq, exists_eq_left', if_true, if_false, reduceCtorEq, Bool.false_eq_true, lcmp_ge, lcmp_lt, lcmp_le, lcmp_gt, lcmp_eq, true_or, or_true, not_true_eq_false, not_false_eq_true, false_implies, true_implies, List.length_cons, List.length_nil, o, s35, s36, s66]
    refine ⟨fun q => ?_, fun q => ?_⟩
    · rcases hk with ⟨k1, k2⟩ | ⟨k1, k2⟩
      · omega
      · have pk : ((2 ^ k : Nat) : Int) < 1000000000 ^ 16 := two_pw (by omega)
        repeat (first | refine ⟨in_small (by omega) (by omega), ?_⟩ | (show (_ → _) ∧ (_ → _); first | refine ⟨by omega, fun _ => ?_⟩ | refine ⟨fun _ => ?_, by omega⟩) | refine ⟨by omega, ?_⟩ | refine ⟨⟨_, rfl, by assumption⟩, ?_⟩ | refine ⟨okT_I _, ?_⟩ | refine call0 (gd_of rfl) ?_)
        refine sp_X17_copy t36 t66 g3 (by rw [Int.natAbs_natCast]; exact up pk (by omega)) (by rw [Int.natAbs_natCast]; exact up pk (by omega)) (by omega) fun D3 f3 g4 => ?_
        have g1'' : wD 2 1 D3 (M + 4221) v := g1'.congr (fun i => f3 _ i (by omega) (by omega)) fun i => f3 _ i (by omega) (by omega)
        have hb0 : ((2 ^ k : Nat) : Int) ≠ 0 := by have := Nat.pow_pos (n := k) (show 0 < 2 by decide); omega
        simp only [P_X16_putEnd, i_kil, i_icon, i_lcon, i_null, i_loadI, i_loadL, i_loadR, i_istore, i_lstore, i_astore, i_iinc, i_dup, i_dup2, i_pop, i_iadd, i_isub, i_imul, i_idiv, i_irem, i_ineg, i_iand, i_ior, i_ishl, i_ishr, i_lxor, i_ladd, i_lsub, i_lmul, i_ldiv, i_lrem, i_lneg, i_lshl, i_lcmp, i_i2l, i_l2i, i_i2b, i_i2s, i_ifeq, i_ifne, i_iflt, i_ifge, i_ifgt, i_ifle, i_cmpeq, i_cmpne, i_cmplt, i_cmpge, i_cmpgt, i_cmple, i_acmpeq, i_acmpne, i_ifnull, i_ifnonnull, i_getI, i_getR, i_putI, i_putZ, i_putR, i_ald, i_ldL, i_ldR, i_ast, i_stL, i_stR, i_alen, i_new, i_newa, i_iret, i_zret, i_lret, i_aret, i_vret, i_raise, i_throw, i_recv, i_objinit, i_tsw3, lget, lset, lput1, lput2, lkil, ltrim, largs, isL, takev, dropv, nthv, pushO, catv, gd, true_and, and_true, Option.some.injEq, Prod.mk.injEq, exists_eq_left', if_true, if_false, reduceCtorEq, Bool.false_eq_true, lcmp_ge, lcmp_lt, lcmp_le, lcmp_gt, lcmp_eq, true_or, or_true, not_true_eq_false, not_false_eq_true, false_implies, true_implies, List.length_cons, List.length_nil, o, s35, s36]
        repeat (first | refine ⟨in_small (by omega) (by omega), ?_⟩ | (show (_ → _) ∧ (_ → _); first | refine ⟨by omega, fun _ => ?_⟩ | refine ⟨fun _ => ?_, by omega⟩) | refine ⟨by omega, ?_⟩ | refine ⟨⟨_, rfl, by assumption⟩, ?_⟩ | refine ⟨okT_I _, ?_⟩ | refine call0 (gd_of rfl) ?_)
        refine sp_X16_lowest hm t35 t36 (by omega) (by unfold mN; omega) (by unfold mN; omega) g1'' g4 hb0 (up hvb (by omega)) (by rw [Int.natAbs_natCast]; exact up pk (by omega)) (up hvb (by omega)) (by rw [Int.natAbs_natCast]; exact up pk (by omega)) (by omega) (by omega) (by omega) fun D4 f4 g5 g6 => ?_
        simp only [P_X16_putEnd, i_kil, i_icon, i_lcon, i_null, i_loadI, i_loadL, i_loadR, i_istore, i_lstore, i_astore, i_iinc, i_dup, i_dup2, i_pop, i_iadd, i_isub, i_imul, i_idiv, i_irem, i_ineg, i_iand, i_ior, i_ishl, i_ishr, i_lxor, i_ladd, i_lsub, i_lmul, i_ldiv, i_lrem, i_lneg, i_lshl, i_lcmp, i_i2l, i_l2i, i_i2b, i_i2s, i_ifeq, i_ifne, i_iflt, i_ifge, i_ifgt, i_ifle, i_cmpeq, i_cmpne, i_cmplt, i_cmpge, i_cmpgt, i_cmple, i_acmpeq, i_acmpne, i_ifnull, i_ifnonnull, i_getI, i_getR, i_putI, i_putZ, i_putR, i_ald, i_ldL, i_ldR, i_ast, i_stL, i_stR, i_alen, i_new, i_newa, i_iret, i_zret, i_lret, i_aret, i_vret, i_raise, i_throw, i_recv, i_objinit, i_tsw3, lget, lset, lput1, lput2, lkil, ltrim, largs, isL, takev, dropv, nthv, pushO, catv, gd, true_and, and_true, Option.some.injEq, Prod.mk.injEq, exists_eq_left', if_true, if_false, reduceCtorEq, Bool.false_eq_true, lcmp_ge, lcmp_lt, lcmp_le, lcmp_gt, lcmp_eq, true_or, or_true, not_true_eq_false, not_false_eq_true, false_implies, true_implies, List.length_cons, List.length_nil]
        have hq : qB (Rat.divInt v ((2 ^ k : Nat) : Int)) 260 := qB_divInt (by have := Int.natCast_nonneg (2 ^ k); omega) (up hvb (by omega)) (up pk (by omega))
        have ee : Rat.divInt v ((2 ^ k : Nat) : Int) = mpt h v := by rw [k1]; exact mpt_high (by omega)
        refine two D4 _ (fun c i c1 c2 c3 c4 c5 c6 => by rw [f4 c i (by omega) (by omega) (by omega) (by omega) (by omega), f3 c i (by omega) (by omega)]; exact f2' c i c1 c2 c3 c4 c5 c6) ⟨?_, fun i hi => ?_⟩ ⟨g5, g6⟩ ee hq.1 hq.2
        · rw [f4 _ _ (by omega) (by omega) (by omega) (by omega) (by omega), f3 _ _ (by omega) (by omega)]; exact t2.1
        · rw [f4 _ _ (by omega) (by omega) (by omega) (by omega) (by omega), f3 _ _ (by omega) (by omega)]; exact t2.2 i hi
    · rcases hk with ⟨k1, k2⟩ | ⟨k1, k2⟩
      · have pk : ((2 ^ k : Nat) : Int) < 1000000000 ^ 1 := two_pw (by omega)
        repeat (first | refine ⟨in_small (by omega) (by omega), ?_⟩ | (show (_ → _) ∧ (_ → _); first | refine ⟨by omega, fun _ => ?_⟩ | refine ⟨fun _ => ?_, by omega⟩) | refine ⟨by omega, ?_⟩ | refine ⟨⟨_, rfl, by assumption⟩, ?_⟩ | refine ⟨okT_I _, ?_⟩ | refine call0 (gd_of rfl) ?_)
        refine sp_X16_multiply (p := 16) (q := 1) t35 t35 t66 o m0 m264 (by omega) (by omega) (by omega) g1' g3 hvb (by rw [Int.natAbs_natCast]; exact pk) (by omega) (by omega) (by omega) (by omega) (by omega) (by omega) (by omega) fun D3 f3 g4 => ?_
        simp only [P_X16_putEnd, i_kil, i_icon, i_lcon, i_null, i_loadI, i_loadL, i_loadR, i_istore, i_lstore, i_astore, i_iinc, i_dup, i_dup2, i_pop, i_iadd, i_isub, i_imul, i_idiv, i_irem, i_ineg, i_iand, i_ior, i_ishl, i_ishr, i_lxor, i_ladd, i_lsub, i_lmul, i_ldiv, i_lrem, i_lneg, i_lshl, i_lcmp, i_i2l, i_l2i, i_i2b, i_i2s, i_ifeq, i_ifne, i_iflt, i_ifge, i_ifgt, i_ifle, i_cmpeq, i_cmpne, i_cmplt, i_cmpge, i_cmpgt, i_cmple, i_acmpeq, i_acmpne, i_ifnull, i_ifnonnull, i_getI, i_getR, i_putI, i_putZ, i_putR, i_ald, i_ldL, i_ldR, i_ast, i_stL, i_stR, i_alen, i_new, i_newa, i_iret, i_zret, i_lret, i_aret, i_vret, i_raise, i_throw, i_recv, i_objinit, i_tsw3, lget, lset, lput1, lput2, lkil, ltrim, largs, isL, takev, dropv, nthv, pushO, catv, gd, true_and, and_true, Option.some.injEq, Prod.mk.injEq, exists_eq_left', if_true, if_false, reduceCtorEq, Bool.false_eq_true, lcmp_ge, lcmp_lt, lcmp_le, lcmp_gt, lcmp_eq, true_or, or_true, not_true_eq_false, not_false_eq_true, false_implies, true_implies, List.length_cons, List.length_nil]
        have g2'' : wD 2 1 D3 (M + 4223) 1 := g2'.congr (fun i => f3 _ i (by omega) (by omega) (by omega)) fun i => f3 _ i (by omega) (by omega) (by omega)
        obtain ⟨e1, e2⟩ := mpt_low (v := v) k2
        rw [← k1] at e1
        rw [← e1] at g4
        refine two D3 (mpt h v) (fun c i c1 c2 c3 c4 c5 c6 => by rw [f3 c i (by omega) (by omega) (by omega)]; exact f2' c i c1 c2 c3 c4 c5 c6) ⟨?_, fun i hi => ?_⟩ ⟨g4, by rw [e2]; exact g2''⟩ rfl ?_ ?_
        · rw [f3 _ _ (by omega) (by omega) (by omega)]; exact t2.1
        · rw [f3 _ _ (by omega) (by omega) (by omega)]; exact t2.2 i hi
        · rw [e1, Int.natAbs_mul, Int.natAbs_natCast]
          have a1 : ((v.natAbs * 2 ^ k : Nat) : Int) < 1000000000 ^ 16 * 1000000000 ^ 1 := by
            rw [Int.natCast_mul]
            exact Int.mul_lt_mul hvb (Int.le_of_lt pk) (by have := Nat.pow_pos (n := k) (show 0 < 2 by decide); omega) (by have := pw_pos 16; omega)
          rw [← Int.pow_add] at a1
          exact up a1 (by omega)
        · rw [e2]; exact up (k := 0 + 1) (by decide) (by omega)
      · omega
  refine wp_in ?_
  simp only [P_X16_putEnd, i_kil, i_icon, i_lcon, i_null, i_loadI, i_loadL, i_loadR, i_istore, i_lstore, i_astore, i_iinc, i_dup, i_dup2, i_pop, i_iadd, i_isub, i_imul, i_idiv, i_irem, i_ineg, i_iand, i_ior, i_ishl, i_ishr, i_lxor, i_ladd, i_lsub, i_lmul, i_ldiv, i_lrem, i_lneg, i_lshl, i_lcmp, i_i2l, i_l2i, i_i2b, i_i2s, i_ifeq, i_ifne, i_iflt, i_ifge, i_ifgt, i_ifle, i_cmpeq, i_cmpne, i_cmplt, i_cmpge, i_cmpgt, i_cmple, i_acmpeq, i_acmpne, i_ifnull, i_ifnonnull, i_getI, i_getR, i_putI, i_putZ, i_putR, i_ald, i_ldL, i_ldR, i_ast, i_stL, i_stR, i_alen, i_new, i_newa, i_iret, i_zret, i_lret, i_aret, i_vret, i_raise, i_throw, i_recv, i_objinit, i_tsw3, lget, lset, lput1, lput2, lkil, ltrim, largs, isL, takev, dropv, nthv, pushO, catv, gd, true_and, and_true, Option.some.injEq, Prod.mk.injEq, exists_eq_left', if_true, if_false, reduceCtorEq, Bool.false_eq_true, lcmp_ge, lcmp_lt, lcmp_le, lcmp_gt, lcmp_eq, true_or, or_true, not_true_eq_false, not_false_eq_true, false_implies, true_implies, List.length_cons, List.length_nil, o, s35]
  repeat (first | refine ⟨in_small (by omega) (by omega), ?_⟩ | (show (_ → _) ∧ (_ → _); first | refine ⟨by omega, fun _ => ?_⟩ | refine ⟨fun _ => ?_, by omega⟩) | refine ⟨by omega, ?_⟩ | refine ⟨⟨_, rfl, by assumption⟩, ?_⟩ | refine ⟨okT_I _, ?_⟩ | refine call0 (gd_of rfl) ?_)
  refine sp_X17_copy t35 ha hv (up hvb (by omega)) (up hvb (by omega)) (by omega) fun D1 f1 g1 => ?_
  simp only [P_X16_putEnd, i_kil, i_icon, i_lcon, i_null, i_loadI, i_loadL, i_loadR, i_istore, i_lstore, i_astore, i_iinc, i_dup, i_dup2, i_pop, i_iadd, i_isub, i_imul, i_idiv, i_irem, i_ineg, i_iand, i_ior, i_ishl, i_ishr, i_lxor, i_ladd, i_lsub, i_lmul, i_ldiv, i_lrem, i_lneg, i_lshl, i_lcmp, i_i2l, i_l2i, i_i2b, i_i2s, i_ifeq, i_ifne, i_iflt, i_ifge, i_ifgt, i_ifle, i_cmpeq, i_cmpne, i_cmplt, i_cmpge, i_cmpgt, i_cmple, i_acmpeq, i_acmpne, i_ifnull, i_ifnonnull, i_getI, i_getR, i_putI, i_putZ, i_putR, i_ald, i_ldL, i_ldR, i_ast, i_stL, i_stR, i_alen, i_new, i_newa, i_iret, i_zret, i_lret, i_aret, i_vret, i_raise, i_throw, i_recv, i_objinit, i_tsw3, lget, lset, lput1, lput2, lkil, ltrim, largs, isL, takev, dropv, nthv, pushO, catv, gd, true_and, and_true, Option.some.injEq, Prod.mk.injEq, exists_eq_left', if_true, if_false, reduceCtorEq, Bool.false_eq_true, lcmp_ge, lcmp_lt, lcmp_le, lcmp_gt, lcmp_eq, true_or, or_true, not_true_eq_false, not_false_eq_true, false_implies, true_implies, List.length_cons, List.length_nil, o, s36]
  repeat (first | refine ⟨in_small (by omega) (by omega), ?_⟩ | (show (_ → _) ∧ (_ → _); first | refine ⟨by omega, fun _ => ?_⟩ | refine ⟨fun _ => ?_, by omega⟩) | refine ⟨by omega, ?_⟩ | refine ⟨⟨_, rfl, by assumption⟩, ?_⟩ | refine ⟨okT_I _, ?_⟩ | refine call0 (gd_of rfl) ?_)
  refine sp_X17_set t36 (by omega) (by omega) (by omega) fun D2 f2 g2 => ?_
  simp only [P_X16_putEnd, i_kil, i_icon, i_lcon, i_null, i_loadI, i_loadL, i_loadR, i_istore, i_lstore, i_astore, i_iinc, i_dup, i_dup2, i_pop, i_iadd, i_isub, i_imul, i_idiv, i_irem, i_ineg, i_iand, i_ior, i_ishl, i_ishr, i_lxor, i_ladd, i_lsub, i_lmul, i_ldiv, i_lrem, i_lneg, i_lshl, i_lcmp, i_i2l, i_l2i, i_i2b, i_i2s, i_ifeq, i_ifne, i_iflt, i_ifge, i_ifgt, i_ifle, i_cmpeq, i_cmpne, i_cmplt, i_cmpge, i_cmpgt, i_cmple, i_acmpeq, i_acmpne, i_ifnull, i_ifnonnull, i_getI, i_getR, i_putI, i_putZ, i_putR, i_ald, i_ldL, i_ldR, i_ast, i_stL, i_stR, i_alen, i_new, i_newa, i_iret, i_zret, i_lret, i_aret, i_vret, i_raise, i_throw, i_recv, i_objinit, i_tsw3, lget, lset, lput1, lput2, lkil, ltrim, largs, isL, takev, dropv, nthv, pushO, catv, gd, true_and, and_true, Option.some.injEq, Prod.mk.injEq, exists_eq_left', if_true, if_false, reduceCtorEq, Bool.false_eq_true, lcmp_ge, lcmp_lt, lcmp_le, lcmp_gt, lcmp_eq, true_or, or_true, not_true_eq_false, not_false_eq_true, false_implies, true_implies, List.length_cons, List.length_nil, o, s66]
  have g1' : wD 2 1 D2 (M + 4221) v := g1.congr (fun i => f2 _ i (by omega) (by omega)) fun i => f2 _ i (by omega) (by omega)
  have fr : teO D D2 M := fun c i c1 c2 c3 c4 c5 c6 => by rw [f2 c i (by omega) (by omega), f1 c i (by omega) (by omega)]
  have t2 : txD 38 D2 M (M + 4225) L := ⟨by rw [f2 _ _ (by omega) (by omega), f1 _ _ (by omega) (by omega)]; exact ht.1, fun i hi => by rw [f2 _ _ (by omega) (by omega), f1 _ _ (by omega) (by omega)]; exact ht.2 i hi⟩
  refine ⟨fun q => ?_, fun q => ?_⟩
  · have : y = ((7 - h : Nat) : Int) := by omega
    have := one D2 (7 - h) (Or.inl ⟨rfl, by omega⟩) fr t2 g1' g2
    rw [show ((7 - h : Nat) : Int) = y by omega] at this
    exact this
  · refine ⟨in_small (by omega) (by omega), ?_⟩
    have := one D2 (h - 7) (Or.inr ⟨rfl, by omega⟩) fr t2 g1' g2
    rw [show ((h - 7 : Nat) : Int) = -y by omega] at this
    exact this
end MWR
theorem lk_any {s : Cst} {x : Int} (h : lkN s x 0 = 0) : ∃ p : Nat, x = p ∧ p < 16 ∧ tkN (sTh s p) ≠ 0 := by
  unfold lkN at h
  split at h
  · rename_i h1
    refine ⟨x.toNat, by omega, by omega, fun q => ?_⟩
    rw [if_pos q] at h
    exact absurd h (by decide)
  · exact absurd h (by decide)
section MWC
variable {M N : Nat} {S : Stat} {s : Cst}
theorem moI.tk {D : Dat} (hI : moI S D M s) {p : Nat} (hp : p < 16) : D (M + 21) p = (tkN (sTh s p) : Nat) := by
  have h := hI.2.1 p hp
  generalize sTh s p = z at h ⊢
  rcases z with _ | φ | a | r | k
  · exact h
  · exact h.1
  · exact h.1
  · exact h.1
  · exact h.1
theorem wrF_le (s : Cst) (x y : Int) : wrF s x y ≤ 3 := by
  unfold wrF
  refine foN_le (by have := lkN_le s x 0; omega) ?_
  split
  · have := lkN_le s y 2; omega
  · omega
theorem mo_write {E : Ex} {B : Nat × Nat} {D : Dat} {Z : Nat → Nat} {x y : Int} (hI : moI S D M s) (hW : crW N s) (hN : N < 1000) (K : mK E B S D M (oWrite x y s)) : Wp (P_X16_write Z) E 0 [some (aR M), some (aI x), some (aI y)] [] B S D := by
  have o := hI.1.o
  obtain ⟨k1, k2⟩ := hI.1.h12
  obtain ⟨c1, c2, c3⟩ := hI.1.h13
  obtain ⟨b1, b2⟩ := hI.1.h14
  obtain ⟨f1, f2⟩ := hI.1.h15
  obtain ⟨l1, l2, l3⟩ := hI.1.h18
  obtain ⟨d1, d2⟩ := hI.1.h19
  obtain ⟨t1, t2⟩ := hI.1.h37
  obtain ⟨i1, i2⟩ := hI.1.h39
  have h36 := hI.1.h36
  have h66 := hI.1.h66
  have hms := hI.1.m
  have hss : msS S M := hI.1.mr.2.1
  have htx : mxtS S M := ⟨o, t1, t2⟩
  have e1 : S.2.1 M 67 = some (M + 10793) := hI.1.mr.2.2.2.1
  have e2 : wS 17 S (M + 10793) 260 := hI.1.mr.2.2.2.2.1
  have e3 := e2.1
  have hle := wrF_le s x y
  have fin : ∀ (D1 : Dat) (L : List Int), wrF s x y = 0 → (∀ c i, ¬ sK M c → (c ≠ M ∨ i ≠ 38) → c ≠ M + 4225 → (c < M + 4226 ∨ M + 4226 < c) → D1 c i = D c i) → txD 38 D1 M (M + 4225) L → wrT s y (sTh s x.toNat) L → L.length ≤ 20000 → (∀ c i, (M + 568 ≤ c ∧ c ≤ M + 4217) ∨ (M + 4233 ≤ c ∧ c ≤ M + 5696) → D1 c i = D c i) → Wp (P_X16_write Z) E 3 [some (aR M)] [] B S D1 := fun D1 L h0 g1 g4 g5 g6 g8 => by
    have g7 := g4.1
    refine wp_in ?_
    simp only [P_X16_write, i_kil, i_icon, i_lcon, i_null, i_loadI, i_loadL, i_loadR, i_istore, i_lstore, i_astore, i_iinc, i_dup, i_dup2, i_pop, i_iadd, i_isub, i_imul, i_idiv, i_irem, i_ineg, i_iand, i_ior, i_ishl, i_ishr, i_lxor, i_ladd, i_lsub, i_lmul, i_ldiv, i_lrem, i_lneg, i_lshl, i_lcmp, i_i2l, i_l2i, i_i2b, i_i2s, i_ifeq, i_ifne, i_iflt, i_ifge, i_ifgt, i_ifle, i_cmpeq, i_cmpne, i_cmplt, i_cmpge, i_cmpgt, i_cmple, i_acmpeq, i_acmpne, i_ifnull, i_ifnonnull, i_getI, i_getR, i_putI, i_putZ, i_putR, i_ald, i_ldL, i_ldR, i_ast, i_stL, i_stR, i_alen, i_new, i_newa, i_iret, i_zret, i_lret, i_aret, i_vret, i_raise, i_throw, i_recv, i_objinit, i_tsw3, lget, lset, lput1, lput2, lkil, ltrim, largs, isL, takev, dropv, nthv, pushO, catv, gd, true_and, and_true, Option.some.injEq, Prod.mk.injEq, exists_eq_left', if_true, if_false, reduceCtorEq, Bool.false_eq_true, lcmp_ge, lcmp_lt, lcmp_le, lcmp_gt, lcmp_eq, true_or, or_true, not_true_eq_false, not_false_eq_true, false_implies, true_implies, List.length_cons, List.length_nil, o, g7]
    refine K D1 _ _ (rR_q h0 ⟨L, g5, g6, rfl, rfl⟩) (hI.setTx hW (fun c i a1 a2 => ?_) ⟨Or.inl g4.1, g4.2⟩ (hI.sm.cgr fun c i q => g8 c i q)) fun c i q => ?_
    · have a3 := a1
      unfold pTx at a2
      unfold pK at a3
      exact g1 c i (by unfold sK; omega) (by omega) (by omega) (by omega)
    · exact g1 c i (by unfold sK; omega) (by omega) (by omega) (by omega)
  have one : ∀ v : Int, v = -(wrF s x y : Int) → Wp (P_X16_write Z) E 1 [some (aR M), some (aI x), some (aI y), some (aI v)] [] B S D := fun v hv => by
    refine wp_in ?_
    by_cases h00 : wrF s x y = 0
    · have h01 := (foN_0.mp h00).1
      obtain ⟨p, hp, hp16, hk0⟩ := lk_any h01
      subst hp
      have hk : pmu D M 38 0 (M + 21) p = (tkN (sTh s p) : Nat) := by rw [pmx_ne (Or.inl (by omega))]; exact hI.tk hp16
      have hx : txD 38 (pmu D M 38 0) M (M + 4225) [] := ⟨pmx_eq, fun i hi => absurd hi (by simp)⟩
      have hm := hI.2.1 p hp16
      have hwt := hW.1 p hp16
      have hfin := fin
      rw [show ((p : Nat) : Int).toNat = p by omega] at hfin
      have h02 := (foN_0.mp h00).2
      rw [show ((p : Nat) : Int).toNat = p by omega] at h02
      simp only [P_X16_write, i_kil, i_icon, i_lcon, i_null, i_loadI, i_loadL, i_loadR, i_istore, i_lstore, i_astore, i_iinc, i_dup, i_dup2, i_pop, i_iadd, i_isub, i_imul, i_idiv, i_irem, i_ineg, i_iand, i_ior, i_ishl, i_ishr, i_lxor, i_ladd, i_lsub, i_lmul, i_ldiv, i_lrem, i_lneg, i_lshl, i_lcmp, i_i2l, i_l2i, i_i2b, i_i2s, i_ifeq, i_ifne, i_iflt, i_ifge, i_ifgt, i_ifle, i_cmpeq, i_cmpne, i_cmplt, i_cmpge, i_cmpgt, i_cmple, i_acmpeq, i_acmpne, i_ifnull, i_ifnonnull, i_getI, i_getR, i_putI, i_putZ, i_putR, i_ald, i_ldL, i_ldR, i_ast, i_stL, i_stR, i_alen, i_new, i_newa, i_iret, i_zret, i_lret, i_aret, i_vret, i_raise, i_throw, i_recv, i_objinit, i_tsw3, lget, lset, lput1, lput2, lkil, ltrim, largs, isL, takev, dropv, nthv, pushO, catv, gd, true_and, and_true, Option.some.injEq, Prod.mk.injEq, exists_eq_left', if_true, if_false, reduceCtorEq, Bool.false_eq_true, lcmp_ge, lcmp_lt, lcmp_le, lcmp_gt, lcmp_eq, true_or, or_true, not_true_eq_false, not_false_eq_true, false_implies, true_implies, List.length_cons, List.length_nil, o, k1, k2, b1, b2, f1, f2, c1, c2, l1, l2, d1, d2, e1]
      refine ⟨fun q => ?_, fun q => by omega⟩
      repeat (first | refine ⟨in_small (by omega) (by omega), ?_⟩ | (show (_ → _) ∧ (_ → _); first | refine ⟨by omega, fun _ => ?_⟩ | refine ⟨fun _ => ?_, by omega⟩) | refine ⟨by omega, ?_⟩ | refine ⟨⟨_, rfl, by assumption⟩, ?_⟩ | refine ⟨okT_I _, ?_⟩ | refine call0 (gd_of rfl) ?_)
      rcases hT : sTh s p with _ | φ | ⟨c, g⟩ | ⟨⟨qf, qd⟩, h, w, n⟩ | k
      · rw [hT] at hk0; exact absurd rfl hk0
      · rw [hT] at h02 hfin hk
        have h02 : lkN s y 2 = 0 := h02
        obtain ⟨q2, c, g, hq, hq16, hu⟩ := lk2 h02
        subst hq
        have hk : pmu D M 38 0 (M + 21) p = 1 := hk
        rw [hk]
        repeat (first | refine ⟨in_small (by omega) (by omega), ?_⟩ | (show (_ → _) ∧ (_ → _); first | refine ⟨by omega, fun _ => ?_⟩ | refine ⟨fun _ => ?_, by omega⟩) | refine ⟨by omega, ?_⟩ | refine ⟨⟨_, rfl, by assumption⟩, ?_⟩ | refine ⟨okT_I _, ?_⟩ | refine call0 (gd_of rfl) ?_)
        obtain ⟨p1, p2, p3, p4⟩ := hI.poly hp16 hT
        obtain ⟨ho1, ho2⟩ := hI.ord hq16 hu
        have hw := hW.1 q2 hq16
        rw [hu] at hw
        obtain ⟨hw1, hw2⟩ := hw
        have hw1 : ordOK c g := hw1
        have zb : pmu D M 38 0 (M + 23) (q2 : Int) = (c : Int) - 9 := by rw [pmx_ne (Or.inl (by omega))]; exact ho1
        have zf : pmu D M 38 0 (M + 24) (q2 : Int) = (g : Int) := by rw [pmx_ne (Or.inl (by omega))]; exact ho2
        obtain ⟨n', e', hφ⟩ : mpP (pmu D M 38 0) (M + 12195 + 244 * p) φ := p1.cgr fun c i h1 h2 => pmx_ne (Or.inl (by omega))
        rw [p2, zb, zf]
        refine sp_X16_putPoly htx i1 i2 p3 (by omega) hφ hw1 rfl (Or.inl rfl) hx fun D1 l g1 g2 g3 g4 g5 => ?_
        simp only [P_X16_write, i_kil, i_icon, i_lcon, i_null, i_loadI, i_loadL, i_loadR, i_istore, i_lstore, i_astore, i_iinc, i_dup, i_dup2, i_pop, i_iadd, i_isub, i_imul, i_idiv, i_irem, i_ineg, i_iand, i_ior, i_ishl, i_ishr, i_lxor, i_ladd, i_lsub, i_lmul, i_ldiv, i_lrem, i_lneg, i_lshl, i_lcmp, i_i2l, i_l2i, i_i2b, i_i2s, i_ifeq, i_ifne, i_iflt, i_ifge, i_ifgt, i_ifle, i_cmpeq, i_cmpne, i_cmplt, i_cmpge, i_cmpgt, i_cmple, i_acmpeq, i_acmpne, i_ifnull, i_ifnonnull, i_getI, i_getR, i_putI, i_putZ, i_putR, i_ald, i_ldL, i_ldR, i_ast, i_stL, i_stR, i_alen, i_new, i_newa, i_iret, i_zret, i_lret, i_aret, i_vret, i_raise, i_throw, i_recv, i_objinit, i_tsw3, lget, lset, lput1, lput2, lkil, ltrim, largs, isL, takev, dropv, nthv, pushO, catv, gd, true_and, and_true, Option.some.injEq, Prod.mk.injEq, exists_eq_left', if_true, if_false, reduceCtorEq, Bool.false_eq_true, lcmp_ge, lcmp_lt, lcmp_le, lcmp_gt, lcmp_eq, true_or, or_true, not_true_eq_false, not_false_eq_true, false_implies, true_implies, List.length_cons, List.length_nil]
        have fr : ∀ a i, (a ≠ M ∨ i ≠ 38) → a ≠ M + 4225 → a ≠ M + 4226 → D1 a i = D a i := fun a i a1 a2 a3 => by rw [g1 a i a1 a2 a3, pmx_ne a1]
        exact hfin D1 (pyT φ l) h00 (fun a i a1 a2 a3 a4 => fr a i a2 a3 (by omega)) g4 ⟨c, g, l, by rw [show ((q2 : Nat) : Int).toNat = q2 by omega]; exact hu, g2, g3, rfl⟩ g5 fun a i q => fr a i (Or.inl (by omega)) (by omega) (by omega)
      · rw [hT] at hm hwt hfin hk
        have hk : pmu D M 38 0 (M + 21) p = 2 := hk
        rw [hk]
        repeat (first | refine ⟨in_small (by omega) (by omega), ?_⟩ | (show (_ → _) ∧ (_ → _); first | refine ⟨by omega, fun _ => ?_⟩ | refine ⟨fun _ => ?_, by omega⟩) | refine ⟨by omega, ?_⟩ | refine ⟨⟨_, rfl, by assumption⟩, ?_⟩ | refine ⟨okT_I _, ?_⟩ | refine call0 (gd_of rfl) ?_)
        have two : ∀ k : Nat, k < 10 → strTx.getD k [] = wdT c g → Wp (P_X16_write Z) E 2 [some (aR M)] [.inr (.inr (some (Z k))), .inr (.inr (some M))] B S (pmu D M 38 0) := fun k hk1 hk2 => by
          have hl := str_len ⟨k, hk1⟩
          have hl : (strTx.getD k []).length ≤ 7 := hl
          refine wp_in ?_
          simp only [P_X16_write, i_kil, i_icon, i_lcon, i_null, i_loadI, i_loadL, i_loadR, i_istore, i_lstore, i_astore, i_iinc, i_dup, i_dup2, i_pop, i_iadd, i_isub, i_imul, i_idiv, i_irem, i_ineg, i_iand, i_ior, i_ishl, i_ishr, i_lxor, i_ladd, i_lsub, i_lmul, i_ldiv, i_lrem, i_lneg, i_lshl, i_lcmp, i_i2l, i_l2i, i_i2b, i_i2s, i_ifeq, i_ifne, i_iflt, i_ifge, i_ifgt, i_ifle, i_cmpeq, i_cmpne, i_cmplt, i_cmpge, i_cmpgt, i_cmple, i_acmpeq, i_acmpne, i_ifnull, i_ifnonnull, i_getI, i_getR, i_putI, i_putZ, i_putR, i_ald, i_ldL, i_ldR, i_ast, i_stL, i_stR, i_alen, i_new, i_newa, i_iret, i_zret, i_lret, i_aret, i_vret, i_raise, i_throw, i_recv, i_objinit, i_tsw3, lget, lset, lput1, lput2, lkil, ltrim, largs, isL, takev, dropv, nthv, pushO, catv, gd, true_and, and_true, Option.some.injEq, Prod.mk.injEq, exists_eq_left', if_true, if_false, reduceCtorEq, Bool.false_eq_true, lcmp_ge, lcmp_lt, lcmp_le, lcmp_gt, lcmp_eq, true_or, or_true, not_true_eq_false, not_false_eq_true, false_implies, true_implies, List.length_cons, List.length_nil, o]
          repeat (first | refine ⟨in_small (by omega) (by omega), ?_⟩ | (show (_ → _) ∧ (_ → _); first | refine ⟨by omega, fun _ => ?_⟩ | refine ⟨fun _ => ?_, by omega⟩) | refine ⟨by omega, ?_⟩ | refine ⟨⟨_, rfl, by assumption⟩, ?_⟩ | refine ⟨okT_I _, ?_⟩ | refine call0 (gd_of rfl) ?_)
          refine sp_X16_putWord htx hk1 hx (by simp) fun D1 g1 g4 => ?_
          simp only [P_X16_write, i_kil, i_icon, i_lcon, i_null, i_loadI, i_loadL, i_loadR, i_istore, i_lstore, i_astore, i_iinc, i_dup, i_dup2, i_pop, i_iadd, i_isub, i_imul, i_idiv, i_irem, i_ineg, i_iand, i_ior, i_ishl, i_ishr, i_lxor, i_ladd, i_lsub, i_lmul, i_ldiv, i_lrem, i_lneg, i_lshl, i_lcmp, i_i2l, i_l2i, i_i2b, i_i2s, i_ifeq, i_ifne, i_iflt, i_ifge, i_ifgt, i_ifle, i_cmpeq, i_cmpne, i_cmplt, i_cmpge, i_cmpgt, i_cmple, i_acmpeq, i_acmpne, i_ifnull, i_ifnonnull, i_getI, i_getR, i_putI, i_putZ, i_putR, i_ald, i_ldL, i_ldR, i_ast, i_stL, i_stR, i_alen, i_new, i_newa, i_iret, i_zret, i_lret, i_aret, i_vret, i_raise, i_throw, i_recv, i_objinit, i_tsw3, lget, lset, lput1, lput2, lkil, ltrim, largs, isL, takev, dropv, nthv, pushO, catv, gd, true_and, and_true, Option.some.injEq, Prod.mk.injEq, exists_eq_left', if_true, if_false, reduceCtorEq, Bool.false_eq_true, lcmp_ge, lcmp_lt, lcmp_le, lcmp_gt, lcmp_eq, true_or, or_true, not_true_eq_false, not_false_eq_true, false_implies, true_implies, List.length_cons, List.length_nil]
          rw [List.nil_append] at g4
          have fr : ∀ a i, (a ≠ M ∨ i ≠ 38) → a ≠ M + 4225 → D1 a i = D a i := fun a i a1 a2 => by rw [g1 a i a1 a2, pmx_ne a1]
          exact hfin D1 _ h00 (fun a i a1 a2 a3 a4 => fr a i a2 a3) g4 hk2 (by omega) fun a i q => fr a i (Or.inl (by omega)) (by omega)
        obtain ⟨-, ho1, ho2⟩ := hm
        obtain ⟨hw1, hw2⟩ := hwt
        have hw1 : ordOK c g := hw1
        have ho1 : D (M + 23) p = (c : Int) - 9 := ho1
        have ho2 : D (M + 24) p = (g : Int) := ho2
        have zb : pmu D M 38 0 (M + 23) (p : Int) = (c : Int) - 9 := by rw [pmx_ne (Or.inl (by omega))]; exact ho1
        have zf : pmu D M 38 0 (M + 24) (p : Int) = (g : Int) := by rw [pmx_ne (Or.inl (by omega))]; exact ho2
        rw [zb, zf]
        rcases hw1 with h9 | h10 | h11 | ⟨h12, hg⟩
        · subst h9
          refine ⟨fun z => absurd (by decide) z, fun _ => ?_⟩
          simp only [P_X16_write, i_ref, i_kil, i_icon, i_lcon, i_null, i_loadI, i_loadL, i_loadR, i_istore, i_lstore, i_astore, i_iinc, i_dup, i_dup2, i_pop, i_iadd, i_isub, i_imul, i_idiv, i_irem, i_ineg, i_iand, i_ior, i_ishl, i_ishr, i_lxor, i_ladd, i_lsub, i_lmul, i_ldiv, i_lrem, i_lneg, i_lshl, i_lcmp, i_i2l, i_l2i, i_i2b, i_i2s, i_ifeq, i_ifne, i_iflt, i_ifge, i_ifgt, i_ifle, i_cmpeq, i_cmpne, i_cmplt, i_cmpge, i_cmpgt, i_cmple, i_acmpeq, i_acmpne, i_ifnull, i_ifnonnull, i_getI, i_getR, i_putI, i_putZ, i_putR, i_ald, i_ldL, i_ldR, i_ast, i_stL, i_stR, i_alen, i_new, i_newa, i_iret, i_zret, i_lret, i_aret, i_vret, i_raise, i_throw, i_recv, i_objinit, i_tsw3, lget, lset, lput1, lput2, lkil, ltrim, largs, isL, takev, dropv, nthv, pushO, catv, gd, true_and, and_true, Option.some.injEq, Prod.mk.injEq, exists_eq_left', if_true, if_false, reduceCtorEq, Bool.false_eq_true, lcmp_ge, lcmp_lt, lcmp_le, lcmp_gt, lcmp_eq, true_or, or_true, not_true_eq_false, not_false_eq_true, false_implies, true_implies, List.length_cons, List.length_nil]
          exact two 9 (by decide) rfl
        · subst h10
          refine ⟨fun _ => ?_, fun z => absurd z (by decide)⟩
          refine ⟨by omega, by omega, ?_⟩
          refine ⟨fun z => absurd (by decide) z, fun _ => ?_⟩
          simp only [P_X16_write, i_ref, i_kil, i_icon, i_lcon, i_null, i_loadI, i_loadL, i_loadR, i_istore, i_lstore, i_astore, i_iinc, i_dup, i_dup2, i_pop, i_iadd, i_isub, i_imul, i_idiv, i_irem, i_ineg, i_iand, i_ior, i_ishl, i_ishr, i_lxor, i_ladd, i_lsub, i_lmul, i_ldiv, i_lrem, i_lneg, i_lshl, i_lcmp, i_i2l, i_l2i, i_i2b, i_i2s, i_ifeq, i_ifne, i_iflt, i_ifge, i_ifgt, i_ifle, i_cmpeq, i_cmpne, i_cmplt, i_cmpge, i_cmpgt, i_cmple, i_acmpeq, i_acmpne, i_ifnull, i_ifnonnull, i_getI, i_getR, i_putI, i_putZ, i_putR, i_ald, i_ldL, i_ldR, i_ast, i_stL, i_stR, i_alen, i_new, i_newa, i_iret, i_zret, i_lret, i_aret, i_vret, i_raise, i_throw, i_recv, i_objinit, i_tsw3, lget, lset, lput1, lput2, lkil, ltrim, largs, isL, takev, dropv, nthv, pushO, catv, gd, true_and, and_true, Option.some.injEq, Prod.mk.injEq, exists_eq_left', if_true, if_false, reduceCtorEq, Bool.false_eq_true, lcmp_ge, lcmp_lt, lcmp_le, lcmp_gt, lcmp_eq, true_or, or_true, not_true_eq_false, not_false_eq_true, false_implies, true_implies, List.length_cons, List.length_nil]
          exact two 8 (by decide) rfl
        · subst h11
          refine ⟨fun _ => ?_, fun z => absurd z (by decide)⟩
          refine ⟨by omega, by omega, ?_⟩
          refine ⟨fun _ => ?_, fun z => absurd z (by decide)⟩
          refine ⟨by omega, by omega, ?_⟩
          refine ⟨fun z => absurd (by decide) z, fun _ => ?_⟩
          simp only [P_X16_write, i_ref, i_kil, i_icon, i_lcon, i_null, i_loadI, i_loadL, i_loadR, i_istore, i_lstore, i_astore, i_iinc, i_dup, i_dup2, i_pop, i_iadd, i_isub, i_imul, i_idiv, i_irem, i_ineg, i_iand, i_ior, i_ishl, i_ishr, i_lxor, i_ladd, i_lsub, i_lmul, i_ldiv, i_lrem, i_lneg, i_lshl, i_lcmp, i_i2l, i_l2i, i_i2b, i_i2s, i_ifeq, i_ifne, i_iflt, i_ifge, i_ifgt, i_ifle, i_cmpeq, i_cmpne, i_cmplt, i_cmpge, i_cmpgt, i_cmple, i_acmpeq, i_acmpne, i_ifnull, i_ifnonnull, i_getI, i_getR, i_putI, i_putZ, i_putR, i_ald, i_ldL, i_ldR, i_ast, i_stL, i_stR, i_alen, i_new, i_newa, i_iret, i_zret, i_lret, i_aret, i_vret, i_raise, i_throw, i_recv, i_objinit, i_tsw3, lget, lset, lput1, lput2, lkil, ltrim, largs, isL, takev, dropv, nthv, pushO, catv, gd, true_and, and_true, Option.some.injEq, Prod.mk.injEq, exists_eq_left', if_true, if_false, reduceCtorEq, Bool.false_eq_true, lcmp_ge, lcmp_lt, lcmp_le, lcmp_gt, lcmp_eq, true_or, or_true, not_true_eq_false, not_false_eq_true, false_implies, true_implies, List.length_cons, List.length_nil]
          exact two 7 (by decide) rfl
        · subst h12
          refine ⟨fun _ => ?_, fun z => absurd z (by decide)⟩
          refine ⟨by omega, by omega, ?_⟩
          refine ⟨fun _ => ?_, fun z => absurd z (by decide)⟩
          refine ⟨by omega, by omega, ?_⟩
          refine ⟨fun _ => ?_, fun z => absurd z (by decide)⟩
          refine ⟨by omega, by omega, ?_⟩
          rcases hg with hg | hg
          · subst hg
            refine ⟨fun z => absurd (by decide) z, fun _ => ?_⟩
            simp only [P_X16_write, i_ref, i_kil, i_icon, i_lcon, i_null, i_loadI, i_loadL, i_loadR, i_istore, i_lstore, i_astore, i_iinc, i_dup, i_dup2, i_pop, i_iadd, i_isub, i_imul, i_idiv, i_irem, i_ineg, i_iand, i_ior, i_ishl, i_ishr, i_lxor, i_ladd, i_lsub, i_lmul, i_ldiv, i_lrem, i_lneg, i_lshl, i_lcmp, i_i2l, i_l2i, i_i2b, i_i2s, i_ifeq, i_ifne, i_iflt, i_ifge, i_ifgt, i_ifle, i_cmpeq, i_cmpne, i_cmplt, i_cmpge, i_cmpgt, i_cmple, i_acmpeq, i_acmpne, i_ifnull, i_ifnonnull, i_getI, i_getR, i_putI, i_putZ, i_putR, i_ald, i_ldL, i_ldR, i_ast, i_stL, i_stR, i_alen, i_new, i_newa, i_iret, i_zret, i_lret, i_aret, i_vret, i_raise, i_throw, i_recv, i_objinit, i_tsw3, lget, lset, lput1, lput2, lkil, ltrim, largs, isL, takev, dropv, nthv, pushO, catv, gd, true_and, and_true, Option.some.injEq, Prod.mk.injEq, exists_eq_left', if_true, if_false, reduceCtorEq, Bool.false_eq_true, lcmp_ge, lcmp_lt, lcmp_le, lcmp_gt, lcmp_eq, true_or, or_true, not_true_eq_false, not_false_eq_true, false_implies, true_implies, List.length_cons, List.length_nil]
            exact two 6 (by decide) rfl
          · subst hg
            refine ⟨fun _ => ?_, fun z => absurd z (by decide)⟩
            simp only [P_X16_write, i_ref, i_kil, i_icon, i_lcon, i_null, i_loadI, i_loadL, i_loadR, i_istore, i_lstore, i_astore, i_iinc, i_dup, i_dup2, i_pop, i_iadd, i_isub, i_imul, i_idiv, i_irem, i_ineg, i_iand, i_ior, i_ishl, i_ishr, i_lxor, i_ladd, i_lsub, i_lmul, i_ldiv, i_lrem, i_lneg, i_lshl, i_lcmp, i_i2l, i_l2i, i_i2b, i_i2s, i_ifeq, i_ifne, i_iflt, i_ifge, i_ifgt, i_ifle, i_cmpeq, i_cmpne, i_cmplt, i_cmpge, i_cmpgt, i_cmple, i_acmpeq, i_acmpne, i_ifnull, i_ifnonnull, i_getI, i_getR, i_putI, i_putZ, i_putR, i_ald, i_ldL, i_ldR, i_ast, i_stL, i_stR, i_alen, i_new, i_newa, i_iret, i_zret, i_lret, i_aret, i_vret, i_raise, i_throw, i_recv, i_objinit, i_tsw3, lget, lset, lput1, lput2, lkil, ltrim, largs, isL, takev, dropv, nthv, pushO, catv, gd, true_and, and_true, Option.some.injEq, Prod.mk.injEq, exists_eq_left', if_true, if_false, reduceCtorEq, Bool.false_eq_true, lcmp_ge, lcmp_lt, lcmp_le, lcmp_gt, lcmp_eq, true_or, or_true, not_true_eq_false, not_false_eq_true, false_implies, true_implies, List.length_cons, List.length_nil]
            exact two 5 (by decide) rfl
      · rw [hT] at hm hwt hfin hk
        have hk : pmu D M 38 0 (M + 21) p = 3 := hk
        rw [hk]
        repeat (first | refine ⟨in_small (by omega) (by omega), ?_⟩ | (show (_ → _) ∧ (_ → _); first | refine ⟨by omega, fun _ => ?_⟩ | refine ⟨fun _ => ?_, by omega⟩) | refine ⟨by omega, ?_⟩ | refine ⟨⟨_, rfl, by assumption⟩, ?_⟩ | refine ⟨okT_I _, ?_⟩ | refine call0 (gd_of rfl) ?_)
        obtain ⟨-, m2, m3, m4, sm, a, m5, m6, m7⟩ := hm
        obtain ⟨w4, w5, w6, w7, w8, w9⟩ := hwt
        have m3 : D (M + 76) (p : Int) = (h : Int) := m3
        have m4 : wD 2 1 D (M + 44 + 2 * p) (mlw h w) := m4
        have w5 : 0 ≤ w := w5
        have w6 : w < ((2 ^ h : Nat) : Int) := w6
        have w8 : h ≤ 389 + n := w8
        have w9 : n ≤ 60 := w9
        obtain ⟨lp1, lp2⟩ := l3 p hp16
        have zd : ∀ {D1 : Dat}, teO (pmu D M 38 0) D1 M → D1 (M + 76) p = (h : Int) := fun f => by rw [f _ _ (Or.inl (by omega)) (by omega) (by omega) (by omega) (by omega) (by omega), pmx_ne (Or.inl (by omega))]; exact m3
        have zl : ∀ {D1 : Dat}, teO (pmu D M 38 0) D1 M → wD 2 1 D1 (M + 44 + 2 * p) (mlw h w) := fun f => m4.congr (fun i => by rw [f _ _ (Or.inl (by omega)) (by omega) (by omega) (by omega) (by omega) (by omega), pmx_ne (Or.inl (by omega))]) fun i => by rw [f _ _ (Or.inl (by omega)) (by omega) (by omega) (by omega) (by omega) (by omega), pmx_ne (Or.inl (by omega))]
        have rf : teO (pmu D M 38 0) (pmu D M 38 0) M := fun _ _ _ _ _ _ _ _ => rfl
        have b16 : ((2 ^ h : Nat) : Int) < 1000000000 ^ 16 := two_pw (by omega)
        have b130 : (1000000000 : Int) ^ 16 ≤ 1000000000 ^ 130 := pw_mono (by decide)
        have b260 : (1000000000 : Int) ^ 16 ≤ 1000000000 ^ 259 := pw_mono (by decide)
        have b261 : (1000000000 : Int) ^ 259 * 1000000000 = 1000000000 ^ 260 := (Int.pow_succ _ _).symm
        rw [zd rf, lp1]
        repeat (first | refine ⟨in_small (by omega) (by omega), ?_⟩ | (show (_ → _) ∧ (_ → _); first | refine ⟨by omega, fun _ => ?_⟩ | refine ⟨fun _ => ?_, by omega⟩) | refine ⟨by omega, ?_⟩ | refine ⟨⟨_, rfl, by assumption⟩, ?_⟩ | refine ⟨okT_I _, ?_⟩ | refine call0 (gd_of rfl) ?_)
        refine sp_X16_putEnd htx hms hss h36 h66 lp2 (by omega) (by omega) (by omega) (by omega) (zl rf) (h := h) (by unfold mlw; omega) (by omega) (by omega) (by omega) rfl hx (by simp) fun D1 g1 g2 g3 => ?_
        rw [List.nil_append] at g2
        simp only [P_X16_write, i_kil, i_icon, i_lcon, i_null, i_loadI, i_loadL, i_loadR, i_istore, i_lstore, i_astore, i_iinc, i_dup, i_dup2, i_pop, i_iadd, i_isub, i_imul, i_idiv, i_irem, i_ineg, i_iand, i_ior, i_ishl, i_ishr, i_lxor, i_ladd, i_lsub, i_lmul, i_ldiv, i_lrem, i_lneg, i_lshl, i_lcmp, i_i2l, i_l2i, i_i2b, i_i2s, i_ifeq, i_ifne, i_iflt, i_ifge, i_ifgt, i_ifle, i_cmpeq, i_cmpne, i_cmplt, i_cmpge, i_cmpgt, i_cmple, i_acmpeq, i_acmpne, i_ifnull, i_ifnonnull, i_getI, i_getR, i_putI, i_putZ, i_putR, i_ald, i_ldL, i_ldR, i_ast, i_stL, i_stR, i_alen, i_new, i_newa, i_iret, i_zret, i_lret, i_aret, i_vret, i_raise, i_throw, i_recv, i_objinit, i_tsw3, lget, lset, lput1, lput2, lkil, ltrim, largs, isL, takev, dropv, nthv, pushO, catv, gd, true_and, and_true, Option.some.injEq, Prod.mk.injEq, exists_eq_left', if_true, if_false, reduceCtorEq, Bool.false_eq_true, lcmp_ge, lcmp_lt, lcmp_le, lcmp_gt, lcmp_eq, true_or, or_true, not_true_eq_false, not_false_eq_true, false_implies, true_implies, List.length_cons, List.length_nil, o]
        repeat (first | refine ⟨in_small (by omega) (by omega), ?_⟩ | (show (_ → _) ∧ (_ → _); first | refine ⟨by omega, fun _ => ?_⟩ | refine ⟨fun _ => ?_, by omega⟩) | refine ⟨by omega, ?_⟩ | refine ⟨⟨_, rfl, by assumption⟩, ?_⟩ | refine ⟨okT_I _, ?_⟩ | refine call0 (gd_of rfl) ?_)
        refine sp_X16_put htx g2 (by omega) (by decide) (by decide) fun D2 g4 g5 => ?_
        have f2 : teO (pmu D M 38 0) D2 M := fun c i c1 c2 c3 c4 c5 c6 => by rw [g4 c i c1 c2]; exact g1 c i c1 c2 c3 c4 c5 c6
        simp only [P_X16_write, i_kil, i_icon, i_lcon, i_null, i_loadI, i_loadL, i_loadR, i_istore, i_lstore, i_astore, i_iinc, i_dup, i_dup2, i_pop, i_iadd, i_isub, i_imul, i_idiv, i_irem, i_ineg, i_iand, i_ior, i_ishl, i_ishr, i_lxor, i_ladd, i_lsub, i_lmul, i_ldiv, i_lrem, i_lneg, i_lshl, i_lcmp, i_i2l, i_l2i, i_i2b, i_i2s, i_ifeq, i_ifne, i_iflt, i_ifge, i_ifgt, i_ifle, i_cmpeq, i_cmpne, i_cmplt, i_cmpge, i_cmpgt, i_cmple, i_acmpeq, i_acmpne, i_ifnull, i_ifnonnull, i_getI, i_getR, i_putI, i_putZ, i_putR, i_ald, i_ldL, i_ldR, i_ast, i_stL, i_stR, i_alen, i_new, i_newa, i_iret, i_zret, i_lret, i_aret, i_vret, i_raise, i_throw, i_recv, i_objinit, i_tsw3, lget, lset, lput1, lput2, lkil, ltrim, largs, isL, takev, dropv, nthv, pushO, catv, gd, true_and, and_true, Option.some.injEq, Prod.mk.injEq, exists_eq_left', if_true, if_false, reduceCtorEq, Bool.false_eq_true, lcmp_ge, lcmp_lt, lcmp_le, lcmp_gt, lcmp_eq, true_or, or_true, not_true_eq_false, not_false_eq_true, false_implies, true_implies, List.length_cons, List.length_nil, o, e1]
        repeat (first | refine ⟨in_small (by omega) (by omega), ?_⟩ | (show (_ → _) ∧ (_ → _); first | refine ⟨by omega, fun _ => ?_⟩ | refine ⟨fun _ => ?_, by omega⟩) | refine ⟨by omega, ?_⟩ | refine ⟨⟨_, rfl, by assumption⟩, ?_⟩ | refine ⟨okT_I _, ?_⟩ | refine call0 (gd_of rfl) ?_)
        refine sp_X17_set e2 (by decide) (by decide) (by decide) fun D3 g6 g7 => ?_
        have zl3 : wD 2 1 D3 (M + 44 + 2 * p) (mlw h w) := (zl f2).congr (fun i => g6 _ i (by omega) (by omega)) fun i => g6 _ i (by omega) (by omega)
        simp only [P_X16_write, i_kil, i_icon, i_lcon, i_null, i_loadI, i_loadL, i_loadR, i_istore, i_lstore, i_astore, i_iinc, i_dup, i_dup2, i_pop, i_iadd, i_isub, i_imul, i_idiv, i_irem, i_ineg, i_iand, i_ior, i_ishl, i_ishr, i_lxor, i_ladd, i_lsub, i_lmul, i_ldiv, i_lrem, i_lneg, i_lshl, i_lcmp, i_i2l, i_l2i, i_i2b, i_i2s, i_ifeq, i_ifne, i_iflt, i_ifge, i_ifgt, i_ifle, i_cmpeq, i_cmpne, i_cmplt, i_cmpge, i_cmpgt, i_cmple, i_acmpeq, i_acmpne, i_ifnull, i_ifnonnull, i_getI, i_getR, i_putI, i_putZ, i_putR, i_ald, i_ldL, i_ldR, i_ast, i_stL, i_stR, i_alen, i_new, i_newa, i_iret, i_zret, i_lret, i_aret, i_vret, i_raise, i_throw, i_recv, i_objinit, i_tsw3, lget, lset, lput1, lput2, lkil, ltrim, largs, isL, takev, dropv, nthv, pushO, catv, gd, true_and, and_true, Option.some.injEq, Prod.mk.injEq, exists_eq_left', if_true, if_false, reduceCtorEq, Bool.false_eq_true, lcmp_ge, lcmp_lt, lcmp_le, lcmp_gt, lcmp_eq, true_or, or_true, not_true_eq_false, not_false_eq_true, false_implies, true_implies, List.length_cons, List.length_nil, o, e1, l1, l2]
        repeat (first | refine ⟨in_small (by omega) (by omega), ?_⟩ | (show (_ → _) ∧ (_ → _); first | refine ⟨by omega, fun _ => ?_⟩ | refine ⟨fun _ => ?_, by omega⟩) | refine ⟨by omega, ?_⟩ | refine ⟨⟨_, rfl, by assumption⟩, ?_⟩ | refine ⟨okT_I _, ?_⟩ | refine call0 (gd_of rfl) ?_)
        rw [lp1]
        simp only [P_X16_write, i_kil, i_icon, i_lcon, i_null, i_loadI, i_loadL, i_loadR, i_istore, i_lstore, i_astore, i_iinc, i_dup, i_dup2, i_pop, i_iadd, i_isub, i_imul, i_idiv, i_irem, i_ineg, i_iand, i_ior, i_ishl, i_ishr, i_lxor, i_ladd, i_lsub, i_lmul, i_ldiv, i_lrem, i_lneg, i_lshl, i_lcmp, i_i2l, i_l2i, i_i2b, i_i2s, i_ifeq, i_ifne, i_iflt, i_ifge, i_ifgt, i_ifle, i_cmpeq, i_cmpne, i_cmplt, i_cmpge, i_cmpgt, i_cmple, i_acmpeq, i_acmpne, i_ifnull, i_ifnonnull, i_getI, i_getR, i_putI, i_putZ, i_putR, i_ald, i_ldL, i_ldR, i_ast, i_stL, i_stR, i_alen, i_new, i_newa, i_iret, i_zret, i_lret, i_aret, i_vret, i_raise, i_throw, i_recv, i_objinit, i_tsw3, lget, lset, lput1, lput2, lkil, ltrim, largs, isL, takev, dropv, nthv, pushO, catv, gd, true_and, and_true, Option.some.injEq, Prod.mk.injEq, exists_eq_left', if_true, if_false, reduceCtorEq, Bool.false_eq_true, lcmp_ge, lcmp_lt, lcmp_le, lcmp_gt, lcmp_eq, true_or, or_true, not_true_eq_false, not_false_eq_true, false_implies, true_implies, List.length_cons, List.length_nil, o, e1, l1, l2]
        repeat (first | refine ⟨in_small (by omega) (by omega), ?_⟩ | (show (_ → _) ∧ (_ → _); first | refine ⟨by omega, fun _ => ?_⟩ | refine ⟨fun _ => ?_, by omega⟩) | refine ⟨by omega, ?_⟩ | refine ⟨⟨_, rfl, by assumption⟩, ?_⟩ | refine ⟨okT_I _, ?_⟩ | refine call0 (gd_of rfl) ?_)
        refine sp_X16_add e2 lp2 e2 zl3 g7 (Or.inl rfl) (by unfold mlw; omega) (by rw [← b261]; omega) (by rw [← b261]; unfold mlw; omega) (by decide) (by decide) (by decide) fun D4 g8 g9 => ?_
        have zd4 : D4 (M + 76) p = (h : Int) := by rw [g8 _ _ (by omega) (by omega), g6 _ _ (by omega) (by omega)]; exact zd f2
        have t4 : txD 38 D4 M (M + 4225) (eT (mpt h (mlw h w)) ++ [32]) := ⟨by rw [g8 _ _ (by omega) (by omega), g6 _ _ (by omega) (by omega)]; exact g5.1, fun i hi => by rw [g8 _ _ (by omega) (by omega), g6 _ _ (by omega) (by omega)]; exact g5.2 i hi⟩
        simp only [P_X16_write, i_kil, i_icon, i_lcon, i_null, i_loadI, i_loadL, i_loadR, i_istore, i_lstore, i_astore, i_iinc, i_dup, i_dup2, i_pop, i_iadd, i_isub, i_imul, i_idiv, i_irem, i_ineg, i_iand, i_ior, i_ishl, i_ishr, i_lxor, i_ladd, i_lsub, i_lmul, i_ldiv, i_lrem, i_lneg, i_lshl, i_lcmp, i_i2l, i_l2i, i_i2b, i_i2s, i_ifeq, i_ifne, i_iflt, i_ifge, i_ifgt, i_ifle, i_cmpeq, i_cmpne, i_cmplt, i_cmpge, i_cmpgt, i_cmple, i_acmpeq, i_acmpne, i_ifnull, i_ifnonnull, i_getI, i_getR, i_putI, i_putZ, i_putR, i_ald, i_ldL, i_ldR, i_ast, i_stL, i_stR, i_alen, i_new, i_newa, i_iret, i_zret, i_lret, i_aret, i_vret, i_raise, i_throw, i_recv, i_objinit, i_tsw3, lget, lset, lput1, lput2, lkil, ltrim, largs, isL, takev, dropv, nthv, pushO, catv, gd, true_and, and_true, Option.some.injEq, Prod.mk.injEq, exists_eq_left', if_true, if_false, reduceCtorEq, Bool.false_eq_true, lcmp_ge, lcmp_lt, lcmp_le, lcmp_gt, lcmp_eq, true_or, or_true, not_true_eq_false, not_false_eq_true, false_implies, true_implies, List.length_cons, List.length_nil, o, e1, e3, d1, d2, zd4]
        repeat (first | refine ⟨in_small (by omega) (by omega), ?_⟩ | (show (_ → _) ∧ (_ → _); first | refine ⟨by omega, fun _ => ?_⟩ | refine ⟨fun _ => ?_, by omega⟩) | refine ⟨by omega, ?_⟩ | refine ⟨⟨_, rfl, by assumption⟩, ?_⟩ | refine ⟨okT_I _, ?_⟩ | refine call0 (gd_of rfl) ?_)
        have ew : mlw h w + 1 * 2 = mlw h (w + 1) := by unfold mlw; omega
        rw [ew] at g9
        refine sp_X16_putEnd htx hms hss h36 h66 e2 (by omega) (by omega) (by omega) (by omega) g9 (h := h) (by unfold mlw; omega) (by omega) (by omega) (by omega) rfl t4 (by rw [List.length_append, List.length_singleton]; omega) fun D5 i1 i2 i3 => ?_
        simp only [P_X16_write, i_kil, i_icon, i_lcon, i_null, i_loadI, i_loadL, i_loadR, i_istore, i_lstore, i_astore, i_iinc, i_dup, i_dup2, i_pop, i_iadd, i_isub, i_imul, i_idiv, i_irem, i_ineg, i_iand, i_ior, i_ishl, i_ishr, i_lxor, i_ladd, i_lsub, i_lmul, i_ldiv, i_lrem, i_lneg, i_lshl, i_lcmp, i_i2l, i_l2i, i_i2b, i_i2s, i_ifeq, i_ifne, i_iflt, i_ifge, i_ifgt, i_ifle, i_cmpeq, i_cmpne, i_cmplt, i_cmpge, i_cmpgt, i_cmple, i_acmpeq, i_acmpne, i_ifnull, i_ifnonnull, i_getI, i_getR, i_putI, i_putZ, i_putR, i_ald, i_ldL, i_ldR, i_ast, i_stL, i_stR, i_alen, i_new, i_newa, i_iret, i_zret, i_lret, i_aret, i_vret, i_raise, i_throw, i_recv, i_objinit, i_tsw3, lget, lset, lput1, lput2, lkil, ltrim, largs, isL, takev, dropv, nthv, pushO, catv, gd, true_and, and_true, Option.some.injEq, Prod.mk.injEq, exists_eq_left', if_true, if_false, reduceCtorEq, Bool.false_eq_true, lcmp_ge, lcmp_lt, lcmp_le, lcmp_gt, lcmp_eq, true_or, or_true, not_true_eq_false, not_false_eq_true, false_implies, true_implies, List.length_cons, List.length_nil]
        have q1 : mpt h (mlw h w) = rpt h w := mpt_rpt h w
        have q2 : mpt h (mlw h (w + 1)) = rpt h (w + 1) := mpt_rpt h (w + 1)
        rw [q1, q2] at i2
        rw [q1] at g3
        rw [q2] at i3
        have fr : ∀ a i, (a ≠ M ∨ i ≠ 38) → a ≠ M + 4225 → (a ≤ M ∨ M + 20 < a) → (a < M + 4221 ∨ M + 4224 < a) → (a < M + 10791 ∨ M + 10794 < a) → (a < M + 11297 ∨ M + 11298 < a) → D5 a i = D a i := fun a i c1 c2 c3 c4 c5 c6 => by rw [i1 a i c1 c2 c3 c4 (by omega) c6, g8 a i (by omega) (by omega), g6 a i (by omega) (by omega), f2 a i c1 c2 c3 c4 (by omega) c6, pmx_ne c1]
        refine hfin D5 _ h00 (fun a i a1 a2 a3 a4 => ?_) i2 rfl (by rw [List.length_append, List.length_append, List.length_singleton]; omega) fun a i q => fr a i (Or.inl (by omega)) (by omega) (by omega) (by omega) (by omega) (by omega)
        unfold sK at a1
        exact fr a i a2 a3 (by omega) (by omega) (by omega) (by omega)
      · rw [hT] at hm hwt hfin hk
        have hk : pmu D M 38 0 (M + 21) p = 4 := hk
        rw [hk]
        repeat (first | refine ⟨in_small (by omega) (by omega), ?_⟩ | (show (_ → _) ∧ (_ → _); first | refine ⟨by omega, fun _ => ?_⟩ | refine ⟨fun _ => ?_, by omega⟩) | refine ⟨by omega, ?_⟩ | refine ⟨⟨_, rfl, by assumption⟩, ?_⟩ | refine ⟨okT_I _, ?_⟩ | refine call0 (gd_of rfl) ?_)
        obtain ⟨-, m2, -⟩ := hm
        have hk17 : 1 ≤ k ∧ k ≤ 7 := hwt
        have m2 : D (M + 23) (p : Int) = -(k : Int) := m2
        refine sp_X16_put htx hx (by simp) (by decide) (by decide) fun D1 g1 g2 => ?_
        have zb : D1 (M + 23) p = -(k : Int) := by rw [g1 _ _ (Or.inl (by omega)) (by omega), pmx_ne (Or.inl (by omega))]; exact m2
        simp only [P_X16_write, i_kil, i_icon, i_lcon, i_null, i_loadI, i_loadL, i_loadR, i_istore, i_lstore, i_astore, i_iinc, i_dup, i_dup2, i_pop, i_iadd, i_isub, i_imul, i_idiv, i_irem, i_ineg, i_iand, i_ior, i_ishl, i_ishr, i_lxor, i_ladd, i_lsub, i_lmul, i_ldiv, i_lrem, i_lneg, i_lshl, i_lcmp, i_i2l, i_l2i, i_i2b, i_i2s, i_ifeq, i_ifne, i_iflt, i_ifge, i_ifgt, i_ifle, i_cmpeq, i_cmpne, i_cmplt, i_cmpge, i_cmpgt, i_cmple, i_acmpeq, i_acmpne, i_ifnull, i_ifnonnull, i_getI, i_getR, i_putI, i_putZ, i_putR, i_ald, i_ldL, i_ldR, i_ast, i_stL, i_stR, i_alen, i_new, i_newa, i_iret, i_zret, i_lret, i_aret, i_vret, i_raise, i_throw, i_recv, i_objinit, i_tsw3, lget, lset, lput1, lput2, lkil, ltrim, largs, isL, takev, dropv, nthv, pushO, catv, gd, true_and, and_true, Option.some.injEq, Prod.mk.injEq, exists_eq_left', if_true, if_false, reduceCtorEq, Bool.false_eq_true, lcmp_ge, lcmp_lt, lcmp_le, lcmp_gt, lcmp_eq, true_or, or_true, not_true_eq_false, not_false_eq_true, false_implies, true_implies, List.length_cons, List.length_nil, o, b1, b2, zb]
        repeat (first | refine ⟨in_small (by omega) (by omega), ?_⟩ | (show (_ → _) ∧ (_ → _); first | refine ⟨by omega, fun _ => ?_⟩ | refine ⟨fun _ => ?_, by omega⟩) | refine ⟨by omega, ?_⟩ | refine ⟨⟨_, rfl, by assumption⟩, ?_⟩ | refine ⟨okT_I _, ?_⟩ | refine call0 (gd_of rfl) ?_)
        refine sp_X16_put htx g2 (by simp) (by omega) (by omega) fun D2 g3 g4 => ?_
        simp only [P_X16_write, i_kil, i_icon, i_lcon, i_null, i_loadI, i_loadL, i_loadR, i_istore, i_lstore, i_astore, i_iinc, i_dup, i_dup2, i_pop, i_iadd, i_isub, i_imul, i_idiv, i_irem, i_ineg, i_iand, i_ior, i_ishl, i_ishr, i_lxor, i_ladd, i_lsub, i_lmul, i_ldiv, i_lrem, i_lneg, i_lshl, i_lcmp, i_i2l, i_l2i, i_i2b, i_i2s, i_ifeq, i_ifne, i_iflt, i_ifge, i_ifgt, i_ifle, i_cmpeq, i_cmpne, i_cmplt, i_cmpge, i_cmpgt, i_cmple, i_acmpeq, i_acmpne, i_ifnull, i_ifnonnull, i_getI, i_getR, i_putI, i_putZ, i_putR, i_ald, i_ldL, i_ldR, i_ast, i_stL, i_stR, i_alen, i_new, i_newa, i_iret, i_zret, i_lret, i_aret, i_vret, i_raise, i_throw, i_recv, i_objinit, i_tsw3, lget, lset, lput1, lput2, lkil, ltrim, largs, isL, takev, dropv, nthv, pushO, catv, gd, true_and, and_true, Option.some.injEq, Prod.mk.injEq, exists_eq_left', if_true, if_false, reduceCtorEq, Bool.false_eq_true, lcmp_ge, lcmp_lt, lcmp_le, lcmp_gt, lcmp_eq, true_or, or_true, not_true_eq_false, not_false_eq_true, false_implies, true_implies, List.length_cons, List.length_nil]
        have fr : ∀ a i, (a ≠ M ∨ i ≠ 38) → a ≠ M + 4225 → D2 a i = D a i := fun a i a1 a2 => by rw [g3 a i a1 a2, g1 a i a1 a2, pmx_ne a1]
        have e : (([] ++ [45]) ++ [48 - -(k : Int)] : List Int) = [45, 48 + (k : Int)] := by
          rw [Int.sub_neg]; rfl
        rw [e] at g4
        exact hfin D2 _ h00 (fun a i a1 a2 a3 a4 => fr a i a2 a3) g4 rfl (by simp) fun a i q => fr a i (Or.inl (by omega)) (by omega)
    · simp only [P_X16_write, i_kil, i_icon, i_lcon, i_null, i_loadI, i_loadL, i_loadR, i_istore, i_lstore, i_astore, i_iinc, i_dup, i_dup2, i_pop, i_iadd, i_isub, i_imul, i_idiv, i_irem, i_ineg, i_iand, i_ior, i_ishl, i_ishr, i_lxor, i_ladd, i_lsub, i_lmul, i_ldiv, i_lrem, i_lneg, i_lshl, i_lcmp, i_i2l, i_l2i, i_i2b, i_i2s, i_ifeq, i_ifne, i_iflt, i_ifge, i_ifgt, i_ifle, i_cmpeq, i_cmpne, i_cmplt, i_cmpge, i_cmpgt, i_cmple, i_acmpeq, i_acmpne, i_ifnull, i_ifnonnull, i_getI, i_getR, i_putI, i_putZ, i_putR, i_ald, i_ldL, i_ldR, i_ast, i_stL, i_stR, i_alen, i_new, i_newa, i_iret, i_zret, i_lret, i_aret, i_vret, i_raise, i_throw, i_recv, i_objinit, i_tsw3, lget, lset, lput1, lput2, lkil, ltrim, largs, isL, takev, dropv, nthv, pushO, catv, gd, true_and, and_true, Option.some.injEq, Prod.mk.injEq, exists_eq_left', if_true, if_false, reduceCtorEq, Bool.false_eq_true, lcmp_ge, lcmp_lt, lcmp_le, lcmp_gt, lcmp_eq, true_or, or_true, not_true_eq_false, not_false_eq_true, false_implies, true_implies, List.length_cons, List.length_nil, o, k1, k2]
      refine ⟨fun q => by omega, fun q => ?_⟩
      repeat (first | refine ⟨in_small (by omega) (by omega), ?_⟩ | (show (_ → _) ∧ (_ → _); first | refine ⟨by omega, fun _ => ?_⟩ | refine ⟨fun _ => ?_, by omega⟩) | refine ⟨by omega, ?_⟩ | refine ⟨⟨_, rfl, by assumption⟩, ?_⟩ | refine ⟨okT_I _, ?_⟩ | refine call0 (gd_of rfl) ?_)
      refine mo_ans hI hW hN (k := wrF s x y) (by omega) hv fun D' h3 h4 => ?_
      simp only [P_X16_write, i_kil, i_icon, i_lcon, i_null, i_loadI, i_loadL, i_loadR, i_istore, i_lstore, i_astore, i_iinc, i_dup, i_dup2, i_pop, i_iadd, i_isub, i_imul, i_idiv, i_irem, i_ineg, i_iand, i_ior, i_ishl, i_ishr, i_lxor, i_ladd, i_lsub, i_lmul, i_ldiv, i_lrem, i_lneg, i_lshl, i_lcmp, i_i2l, i_l2i, i_i2b, i_i2s, i_ifeq, i_ifne, i_iflt, i_ifge, i_ifgt, i_ifle, i_cmpeq, i_cmpne, i_cmplt, i_cmpge, i_cmpgt, i_cmple, i_acmpeq, i_acmpne, i_ifnull, i_ifnonnull, i_getI, i_getR, i_putI, i_putZ, i_putR, i_ald, i_ldL, i_ldR, i_ast, i_stL, i_stR, i_alen, i_new, i_newa, i_iret, i_zret, i_lret, i_aret, i_vret, i_raise, i_throw, i_recv, i_objinit, i_tsw3, lget, lset, lput1, lput2, lkil, ltrim, largs, isL, takev, dropv, nthv, pushO, catv, gd, true_and, and_true, Option.some.injEq, Prod.mk.injEq, exists_eq_left', if_true, if_false, reduceCtorEq, Bool.false_eq_true, lcmp_ge, lcmp_lt, lcmp_le, lcmp_gt, lcmp_eq, true_or, or_true, not_true_eq_false, not_false_eq_true, false_implies, true_implies, List.length_cons, List.length_nil]
      exact K D' _ _ (rR_f (by omega) rfl) h3 h4
  refine wp_in ?_
  simp only [P_X16_write, i_kil, i_icon, i_lcon, i_null, i_loadI, i_loadL, i_loadR, i_istore, i_lstore, i_astore, i_iinc, i_dup, i_dup2, i_pop, i_iadd, i_isub, i_imul, i_idiv, i_irem, i_ineg, i_iand, i_ior, i_ishl, i_ishr, i_lxor, i_ladd, i_lsub, i_lmul, i_ldiv, i_lrem, i_lneg, i_lshl, i_lcmp, i_i2l, i_l2i, i_i2b, i_i2s, i_ifeq, i_ifne, i_iflt, i_ifge, i_ifgt, i_ifle, i_cmpeq, i_cmpne, i_cmplt, i_cmpge, i_cmpgt, i_cmple, i_acmpeq, i_acmpne, i_ifnull, i_ifnonnull, i_getI, i_getR, i_putI, i_putZ, i_putR, i_ald, i_ldL, i_ldR, i_ast, i_stL, i_stR, i_alen, i_new, i_newa, i_iret, i_zret, i_lret, i_aret, i_vret, i_raise, i_throw, i_recv, i_objinit, i_tsw3, lget, lset, lput1, lput2, lkil, ltrim, largs, isL, takev, dropv, nthv, pushO, catv, gd, true_and, and_true, Option.some.injEq, Prod.mk.injEq, exists_eq_left', if_true, if_false, reduceCtorEq, Bool.false_eq_true, lcmp_ge, lcmp_lt, lcmp_le, lcmp_gt, lcmp_eq, true_or, or_true, not_true_eq_false, not_false_eq_true, false_implies, true_implies, List.length_cons, List.length_nil, o]
  repeat (first | refine ⟨in_small (by omega) (by omega), ?_⟩ | (show (_ → _) ∧ (_ → _); first | refine ⟨by omega, fun _ => ?_⟩ | refine ⟨fun _ => ?_, by omega⟩) | refine ⟨by omega, ?_⟩ | refine ⟨⟨_, rfl, by assumption⟩, ?_⟩ | refine ⟨okT_I _, ?_⟩ | refine call0 (gd_of rfl) ?_)
  refine mo_look (k := 0) hI rfl ?_
  simp only [P_X16_write, i_kil, i_icon, i_lcon, i_null, i_loadI, i_loadL, i_loadR, i_istore, i_lstore, i_astore, i_iinc, i_dup, i_dup2, i_pop, i_iadd, i_isub, i_imul, i_idiv, i_irem, i_ineg, i_iand, i_ior, i_ishl, i_ishr, i_lxor, i_ladd, i_lsub, i_lmul, i_ldiv, i_lrem, i_lneg, i_lshl, i_lcmp, i_i2l, i_l2i, i_i2b, i_i2s, i_ifeq, i_ifne, i_iflt, i_ifge, i_ifgt, i_ifle, i_cmpeq, i_cmpne, i_cmplt, i_cmpge, i_cmpgt, i_cmple, i_acmpeq, i_acmpne, i_ifnull, i_ifnonnull, i_getI, i_getR, i_putI, i_putZ, i_putR, i_ald, i_ldL, i_ldR, i_ast, i_stL, i_stR, i_alen, i_new, i_newa, i_iret, i_zret, i_lret, i_aret, i_vret, i_raise, i_throw, i_recv, i_objinit, i_tsw3, lget, lset, lput1, lput2, lkil, ltrim, largs, isL, takev, dropv, nthv, pushO, catv, gd, true_and, and_true, Option.some.injEq, Prod.mk.injEq, exists_eq_left', if_true, if_false, reduceCtorEq, Bool.false_eq_true, lcmp_ge, lcmp_lt, lcmp_le, lcmp_gt, lcmp_eq, true_or, or_true, not_true_eq_false, not_false_eq_true, false_implies, true_implies, List.length_cons, List.length_nil, o, k1, k2]
  by_cases h0 : lkN s x 0 = 0
  · obtain ⟨p, hp, hp16, hk0⟩ := lk_any h0
    subst hp
    have hk := hI.tk hp16
    refine ⟨fun q => absurd (by omega) q, fun q => ?_⟩
    repeat (first | refine ⟨in_small (by omega) (by omega), ?_⟩ | (show (_ → _) ∧ (_ → _); first | refine ⟨by omega, fun _ => ?_⟩ | refine ⟨fun _ => ?_, by omega⟩) | refine ⟨by omega, ?_⟩ | refine ⟨⟨_, rfl, by assumption⟩, ?_⟩ | refine ⟨okT_I _, ?_⟩ | refine call0 (gd_of rfl) ?_)
    rw [hk]
    refine ⟨fun q2 => one _ ?_, fun q2 => ?_⟩
    · unfold wrF
      rw [show ((p : Nat) : Int).toNat = p by omega, if_neg (by omega), h0]
      rfl
    · repeat (first | refine ⟨in_small (by omega) (by omega), ?_⟩ | (show (_ → _) ∧ (_ → _); first | refine ⟨by omega, fun _ => ?_⟩ | refine ⟨fun _ => ?_, by omega⟩) | refine ⟨by omega, ?_⟩ | refine ⟨⟨_, rfl, by assumption⟩, ?_⟩ | refine ⟨okT_I _, ?_⟩ | refine call0 (gd_of rfl) ?_)
      refine mo_look (k := 2) hI rfl ?_
      simp only [P_X16_write, i_kil, i_icon, i_lcon, i_null, i_loadI, i_loadL, i_loadR, i_istore, i_lstore, i_astore, i_iinc, i_dup, i_dup2, i_pop, i_iadd, i_isub, i_imul, i_idiv, i_irem, i_ineg, i_iand, i_ior, i_ishl, i_ishr, i_lxor, i_ladd, i_lsub, i_lmul, i_ldiv, i_lrem, i_lneg, i_lshl, i_lcmp, i_i2l, i_l2i, i_i2b, i_i2s, i_ifeq, i_ifne, i_iflt, i_ifge, i_ifgt, i_ifle, i_cmpeq, i_cmpne, i_cmplt, i_cmpge, i_cmpgt, i_cmple, i_acmpeq, i_acmpne, i_ifnull, i_ifnonnull, i_getI, i_getR, i_putI, i_putZ, i_putR, i_ald, i_ldL, i_ldR, i_ast, i_stL, i_stR, i_alen, i_new, i_newa, i_iret, i_zret, i_lret, i_aret, i_vret, i_raise, i_throw, i_recv, i_objinit, i_tsw3, lget, lset, lput1, lput2, lkil, ltrim, largs, isL, takev, dropv, nthv, pushO, catv, gd, true_and, and_true, Option.some.injEq, Prod.mk.injEq, exists_eq_left', if_true, if_false, reduceCtorEq, Bool.false_eq_true, lcmp_ge, lcmp_lt, lcmp_le, lcmp_gt, lcmp_eq, true_or, or_true, not_true_eq_false, not_false_eq_true, false_implies, true_implies, List.length_cons, List.length_nil]
      refine one _ ?_
      unfold wrF
      rw [show ((p : Nat) : Int).toNat = p by omega, if_pos (by omega), h0]
      rfl
  · refine ⟨fun q => one _ ?_, fun q => absurd q (by omega)⟩
    unfold wrF foN
    rw [if_neg h0]
end MWC
