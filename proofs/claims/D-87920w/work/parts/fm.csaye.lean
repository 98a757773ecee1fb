/-! the component's text: sayEnd -/
-- needs: fl.csayp db.csrch
set_option maxRecDepth 100000
set_option linter.unusedVariables false
theorem tdiv_two {z : Int} (h : z % 2 = 0) : z.tdiv 2 * 2 = z := Int.tdiv_mul_cancel (Int.dvd_of_emod_eq_zero h)
/-- a whole number over a power of 2, brought low -/
theorem low_two {z : Int} {b : Nat} (h : b = 0 ∨ z % 2 ≠ 0) : (Rat.divInt z ((2 ^ b : Nat) : Int)).num = z ∧ (Rat.divInt z ((2 ^ b : Nat) : Int)).den = 2 ^ b := by
  have hc : Nat.Coprime z.natAbs (2 ^ b) := by
    rcases h with h | h
    · subst h; exact Nat.coprime_one_right _
    · refine Nat.Coprime.pow_right b ?_
      show Nat.gcd z.natAbs 2 = 1
      rw [Nat.gcd_comm, Nat.gcd_rec, show z.natAbs % 2 = 1 by omega]
      rfl
  have hnz : (2 ^ b : Nat) ≠ 0 := by have := Nat.pow_pos (n := b) (show 0 < 2 by decide); omega
  have e : (⟨z, 2 ^ b, hnz, hc⟩ : Rat) = Rat.divInt z ((2 ^ b : Nat) : Int) := Rat.mk_eq_divInt
  rw [← e]
  exact ⟨rfl, rfl⟩
section CSE
variable {E : Ex} {B : Nat × Nat} {S : Stat} {D : Dat} {C : Nat} {L : List Int}
/-- what sayEnd changes -/
def ceO (D D' : Dat) (C : Nat) : Prop := ∀ c i, (c ≠ C ∨ i ≠ 36) → c ≠ C + 723 → (c < C + 692 ∨ C + 697 < c) → D' c i = D c i
theorem sp_X0_sayEnd {a h : Nat} {w u v : Int} (hS : cxtS S C) (hr : rtS S C) (ha : reS S a) (na : a + 3 < C ∨ C + 740 < a) (h2 : D a 2 = h) (hw : wD 1 2 D (a + 2) w) (h0 : 0 ≤ w) (h1 : w < ((2 ^ h : Nat) : Int)) (hh : h ≤ 460) (hu : (v = 0 ∧ u = 0) ∨ (v = 1 ∧ u = 1)) (ht : txD 36 D C (C + 723) L) (hL : L.length + 300 ≤ 20000)
    (K : ∀ D', ceO D D' C → txD 36 D' C (C + 723) (L ++ eT (rpt h (w + u))) → (eT (rpt h (w + u))).length ≤ 300 → E (.inl none) B S D') : Wp P_X0_sayEnd E 0 [some (aR C), some (aR a), some (aI v)] [] B S D := by
  obtain ⟨s1, s2, s3, s4, s5, s6, s7, s8, s9, s10, s11, s12, s13, -⟩ := id hr
  have o1 := s3.1
  have a1 := ha.1
  have v9 := s9.1
  have v13 := s13.1
  have hab := eI_abs (h := h) (w := w + u) (by omega) (by omega)
  have hpt := eI_pt h (w + u)
  have p16 : ∀ {b : Nat}, b ≤ 459 → ((2 ^ b : Nat) : Int) < 1000000000 ^ 16 := fun hb => two_pw (by omega)
  have fin : ∀ (D2 : Dat) (z : Int) (b : Nat), ceO D D2 C → txD 36 D2 C (C + 723) (L ++ if z < 0 then [45] else []) → wD 1 2 D2 (C + 692) z → wD 1 2 D2 (C + 696) ((2 ^ b : Nat) : Int) → (rpt h (w + u)).num = z → (rpt h (w + u)).den = 2 ^ b → z.natAbs ≤ 2 ^ 459 → b ≤ 459 → Wp P_X0_sayEnd E 5 [some (aR C)] [] B S D2 := by
    intro D2 z b f2 t2 g3 g4 e1 e2 b1 b2
    have bz : (z.natAbs : Int) < 1000000000 ^ 16 := Int.lt_of_le_of_lt (Int.ofNat_le.mpr b1) (p16 (by omega))
    have bb : (((2 ^ b : Nat) : Int).natAbs : Int) < 1000000000 ^ 16 := by rw [Int.natAbs_natCast]; exact p16 b2
    have k0 : (if z < 0 then [(45 : Int)] else []).length ≤ 1 := by split <;> simp
    refine wp_in ?_
    simp only [P_X0_sayEnd, i_kil, i_icon, i_lcon, i_null, i_loadI, i_loadL, i_loadR, i_istore, i_lstore, i_astore, i_iinc, i_dup, i_dup2, i_pop, i_iadd, i_isub, i_imul, i_idiv, i_irem, i_ineg, i_iand, i_ior, i_ishl, i_ishr, i_lxor, i_ladd, i_lsub, i_lmul, i_ldiv, i_lrem, i_lneg, i_lshl, i_lcmp, i_i2l, i_l2i, i_i2b, i_i2s, i_ifeq, i_ifne, i_iflt, i_ifge, i_ifgt, i_ifle, i_cmpeq, i_cmpne, i_cmplt, i_cmpge, i_cmpgt, i_cmple, i_acmpeq, i_acmpne, i_ifnull, i_ifnonnull, i_getI, i_getR, i_putI, i_putZ, i_putR, i_ald, i_ldL, i_ldR, i_ast, i_stL, i_stR, i_alen, i_new, i_newa, i_iret, i_zret, i_lret, i_aret, i_vret, i_raise, i_throw, i_recv, i_objinit, i_tsw3, lget, lset, lput1, lput2, lkil, ltrim, largs, isL, takev, dropv, nthv, pushO, catv, gd, true_and, and_true, Option.some.injEq, Prod.mk.injEq, exists_eq_left', if_true, if_false, reduceCtorEq, Bool.false_eq_true, lcmp_ge, lcmp_lt, lcmp_le, lcmp_gt, lcmp_eq, true_or, or_true, not_true_eq_false, not_false_eq_true, false_implies, true_implies, List.length_cons, List.length_nil, s1, s8, s12]
    repeat (first | refine ⟨in_small (by omega) (by omega), ?_⟩ | (show (_ → _) ∧ (_ → _); first | refine ⟨by omega, fun _ => ?_⟩ | refine ⟨fun _ => ?_, by omega⟩) | refine ⟨by omega, ?_⟩ | refine ⟨⟨_, rfl, by assumption⟩, ?_⟩ | refine ⟨okT_I _, ?_⟩ | refine call0 (gd_of rfl) ?_)
    refine sp_X0_sayRatio (p := 16) (q := 16) hS s9 s13 g3 g4 (by decide) (by decide) (by decide) (by decide) (by decide) (by decide) bz bb (by omega) (by omega) (by omega) (by omega) t2 (by rw [List.length_append]; omega) fun D3 f3 t3 => ?_
    simp only [P_X0_sayEnd, i_kil, i_icon, i_lcon, i_null, i_loadI, i_loadL, i_loadR, i_istore, i_lstore, i_astore, i_iinc, i_dup, i_dup2, i_pop, i_iadd, i_isub, i_imul, i_idiv, i_irem, i_ineg, i_iand, i_ior, i_ishl, i_ishr, i_lxor, i_ladd, i_lsub, i_lmul, i_ldiv, i_lrem, i_lneg, i_lshl, i_lcmp, i_i2l, i_l2i, i_i2b, i_i2s, i_ifeq, i_ifne, i_iflt, i_ifge, i_ifgt, i_ifle, i_cmpeq, i_cmpne, i_cmplt, i_cmpge, i_cmpgt, i_cmple, i_acmpeq, i_acmpne, i_ifnull, i_ifnonnull, i_getI, i_getR, i_putI, i_putZ, i_putR, i_ald, i_ldL, i_ldR, i_ast, i_stL, i_stR, i_alen, i_new, i_newa, i_iret, i_zret, i_lret, i_aret, i_vret, i_raise, i_throw, i_recv, i_objinit, i_tsw3, lget, lset, lput1, lput2, lkil, ltrim, largs, isL, takev, dropv, nthv, pushO, catv, gd, true_and, and_true, Option.some.injEq, Prod.mk.injEq, exists_eq_left', if_true, if_false, reduceCtorEq, Bool.false_eq_true, lcmp_ge, lcmp_lt, lcmp_le, lcmp_gt, lcmp_eq, true_or, or_true, not_true_eq_false, not_false_eq_true, false_implies, true_implies, List.length_cons, List.length_nil]
    have ee : (if z < 0 then [(45 : Int)] else []) ++ (zT z ++ if ((2 ^ b : Nat) : Int) = 1 then [] else 47 :: zT ((2 ^ b : Nat) : Int)) = eT (rpt h (w + u)) := by
      unfold eT frT
      rw [e1, e2]
      congr 2
      by_cases q : (2 ^ b : Nat) = 1
      · rw [if_pos q, if_pos (by omega)]
      · rw [if_neg q, if_neg (by omega)]
    rw [List.append_assoc, ee] at t3
    refine K D3 (fun c i c1 c2 c3 => by rw [f3 c i c1 c2]; exact f2 c i c1 c2 c3) t3 ?_
    have y1 := zT_len g3 bz (by decide)
    have y2 := zT_len g4 bb (by decide)
    rw [← ee, List.length_append, List.length_append]
    have : (if ((2 ^ b : Nat) : Int) = 1 then [] else 47 :: zT ((2 ^ b : Nat) : Int)).length ≤ 145 := by
      split
      · simp
      · rw [List.length_cons]; omega
    omega
  have three : ∀ (D1 : Dat) (z : Int) (b : Nat), ceO D D1 C → txD 36 D1 C (C + 723) L → wD 1 2 D1 (C + 692) z → (rpt h (w + u)).num = z → (rpt h (w + u)).den = 2 ^ b → z.natAbs ≤ 2 ^ 459 → b ≤ 459 → Wp P_X0_sayEnd E 3 [some (aR C), none, none, some (aI (b : Int))] [] B S D1 := by
    intro D1 z b f1 t1 g1 e1 e2 b1 b2
    have gs : ∀ {D2 : Dat}, wD 1 2 D2 (C + 692) z → D2 (C + 692) 2 = Int.sign z := fun g => by obtain ⟨n, -, -, q, -⟩ := g; exact q
    have loop : ∀ (m k : Nat) (D2 : Dat), k + m = b → ceO D D2 C → txD 36 D2 C (C + 723) L → wD 1 2 D2 (C + 692) z → wD 1 2 D2 (C + 696) ((2 ^ k : Nat) : Int) → Wp P_X0_sayEnd E 4 [some (aR C), none, none, some (aI (b : Int)), some (aI (k : Int))] [] B S D2 := by
      intro m
      induction m with
      | zero =>
        intro k D2 hk f2 t2 g3 g4
        have : k = b := by omega
        subst this
        have := gs g3
        refine wp_in ?_
        simp only [P_X0_sayEnd, i_kil, i_icon, i_lcon, i_null, i_loadI, i_loadL, i_loadR, i_istore, i_lstore, i_astore, i_iinc, i_dup, i_dup2, i_pop, i_iadd, i_isub, i_imul, i_idiv, i_irem, i_ineg, i_iand, i_ior, i_ishl, i_ishr, i_lxor, i_ladd, i_lsub, i_lmul, i_ldiv, i_lrem, i_lneg, i_lshl, i_lcmp, i_i2l, i_l2i, i_i2b, i_i2s, i_ifeq, i_ifne, i_iflt, i_ifge, i_ifgt, i_ifle, i_cmpeq, i_cmpne, i_cmplt, i_cmpge, i_cmpgt, i_cmple, i_acmpeq, i_acmpne, i_ifnull, i_ifnonnull, i_getI, i_getR, i_putI, i_putZ, i_putR, i_ald, i_ldL, i_ldR, i_ast, i_stL, i_stR, i_alen, i_new, i_newa, i_iret, i_zret, i_lret, i_aret, i_vret, i_raise, i_throw, i_recv, i_objinit, i_tsw3, lget, lset, lput1, lput2, lkil, ltrim, largs, isL, takev, dropv, nthv, pushO, catv, gd, true_and, and_true, Option.some.injEq, Prod.mk.injEq, exists_eq_left', if_true, if_false, reduceCtorEq, Bool.false_eq_true, lcmp_ge, lcmp_lt, lcmp_le, lcmp_gt, lcmp_eq, true_or, or_true, not_true_eq_false, not_false_eq_true, false_implies, true_implies, List.length_cons, List.length_nil, s1, s8, v9, this]
        refine ⟨fun _ => ?_, fun q => by omega⟩
        rcases sgn_cases z with ⟨q1, q2, q3⟩ | ⟨q1, q2⟩ | ⟨q1, q2, q3⟩
        · exact ⟨fun q => fin D2 z k f2 (by rw [if_neg (by omega), List.append_nil]; exact t2) g3 g4 e1 e2 b1 b2, fun q => by omega⟩
        · exact ⟨fun q => fin D2 z k f2 (by rw [if_neg (by omega), List.append_nil]; exact t2) g3 g4 e1 e2 b1 b2, fun q => by omega⟩
        · refine ⟨fun q => by omega, fun q => ?_⟩
          repeat (first | refine ⟨in_small (by omega) (by omega), ?_⟩ | (show (_ → _) ∧ (_ → _); first | refine ⟨by omega, fun _ => ?_⟩ | refine ⟨fun _ => ?_, by omega⟩) | refine ⟨by omega, ?_⟩ | refine ⟨⟨_, rfl, by assumption⟩, ?_⟩ | refine ⟨okT_I _, ?_⟩ | refine call0 (gd_of rfl) ?_)
          refine sp_X0_say hS t2 (by omega) (by decide) (by decide) fun D3 f3 t3 => ?_
          simp only [P_X0_sayEnd, i_kil, i_icon, i_lcon, i_null, i_loadI, i_loadL, i_loadR, i_istore, i_lstore, i_astore, i_iinc, i_dup, i_dup2, i_pop, i_iadd, i_isub, i_imul, i_idiv, i_irem, i_ineg, i_iand, i_ior, i_ishl, i_ishr, i_lxor, i_ladd, i_lsub, i_lmul, i_ldiv, i_lrem, i_lneg, i_lshl, i_lcmp, i_i2l, i_l2i, i_i2b, i_i2s, i_ifeq, i_ifne, i_iflt, i_ifge, i_ifgt, i_ifle, i_cmpeq, i_cmpne, i_cmplt, i_cmpge, i_cmpgt, i_cmple, i_acmpeq, i_acmpne, i_ifnull, i_ifnonnull, i_getI, i_getR, i_putI, i_putZ, i_putR, i_ald, i_ldL, i_ldR, i_ast, i_stL, i_stR, i_alen, i_new, i_newa, i_iret, i_zret, i_lret, i_aret, i_vret, i_raise, i_throw, i_recv, i_objinit, i_tsw3, lget, lset, lput1, lput2, lkil, ltrim, largs, isL, takev, dropv, nthv, pushO, catv, gd, true_and, and_true, Option.some.injEq, Prod.mk.injEq, exists_eq_left', if_true, if_false, reduceCtorEq, Bool.false_eq_true, lcmp_ge, lcmp_lt, lcmp_le, lcmp_gt, lcmp_eq, true_or, or_true, not_true_eq_false, not_false_eq_true, false_implies, true_implies, List.length_cons, List.length_nil]
          exact fin D3 z k (fun c i c1 c2 c3 => by rw [f3 c i c1 c2]; exact f2 c i c1 c2 c3) (by rw [if_pos q3]; exact t3) (g3.congr (fun i => f3 _ i (Or.inl (by omega)) (by omega)) fun i => f3 _ i (Or.inl (by omega)) (by omega)) (g4.congr (fun i => f3 _ i (Or.inl (by omega)) (by omega)) fun i => f3 _ i (Or.inl (by omega)) (by omega)) e1 e2 b1 b2
      | succ m ih =>
        intro k D2 hk f2 t2 g3 g4
        have hb : 2 * ((2 ^ k : Nat) : Int) + 0 < 1000000000 ^ 160 := by
          have a1 := p16 (b := k + 1) (by omega)
          rw [Nat.pow_succ] at a1
          exact Int.lt_of_lt_of_le (by omega) (pw_mono (show 16 ≤ 160 by decide))
        refine wp_in ?_
        simp only [P_X0_sayEnd, i_kil, i_icon, i_lcon, i_null, i_loadI, i_loadL, i_loadR, i_istore, i_lstore, i_astore, i_iinc, i_dup, i_dup2, i_pop, i_iadd, i_isub, i_imul, i_idiv, i_irem, i_ineg, i_iand, i_ior, i_ishl, i_ishr, i_lxor, i_ladd, i_lsub, i_lmul, i_ldiv, i_lrem, i_lneg, i_lshl, i_lcmp, i_i2l, i_l2i, i_i2b, i_i2s, i_ifeq, i_ifne, i_iflt, i_ifge, i_ifgt, i_ifle, i_cmpeq, i_cmpne, i_cmplt, i_cmpge, i_cmpgt, i_cmple, i_acmpeq, i_acmpne, i_ifnull, i_ifnonnull, i_getI, i_getR, i_putI, i_putZ, i_putR, i_ald, i_ldL, i_ldR, i_ast, i_stL, i_stR, i_alen, i_new, i_newa, i_iret, i_zret, i_lret, i_aret, i_vret, i_raise, i_throw, i_recv, i_objinit, i_tsw3, lget, lset, lput1, lput2, lkil, ltrim, largs, isL, takev, dropv, nthv, pushO, catv, gd, true_and, and_true, Option.some.injEq, Prod.mk.injEq, exists_eq_left', if_true, if_false, reduceCtorEq, Bool.false_eq_true, lcmp_ge, lcmp_lt, lcmp_le, lcmp_gt, lcmp_eq, true_or, or_true, not_true_eq_false, not_false_eq_true, false_implies, true_implies, List.length_cons, List.length_nil, s1, s12, v13]
        refine ⟨fun q => by omega, fun _ => ?_⟩
        repeat (first | refine ⟨in_small (by omega) (by omega), ?_⟩ | (show (_ → _) ∧ (_ → _); first | refine ⟨by omega, fun _ => ?_⟩ | refine ⟨fun _ => ?_, by omega⟩) | refine ⟨by omega, ?_⟩ | refine ⟨⟨_, rfl, by assumption⟩, ?_⟩ | refine ⟨okT_I _, ?_⟩ | refine call0 (gd_of rfl) ?_)
        refine sp_X3_twice s13 g4 (Int.natCast_nonneg _) (Or.inl rfl) hb (by decide) fun D3 f3 g5 => ?_
        simp only [P_X0_sayEnd, i_kil, i_icon, i_lcon, i_null, i_loadI, i_loadL, i_loadR, i_istore, i_lstore, i_astore, i_iinc, i_dup, i_dup2, i_pop, i_iadd, i_isub, i_imul, i_idiv, i_irem, i_ineg, i_iand, i_ior, i_ishl, i_ishr, i_lxor, i_ladd, i_lsub, i_lmul, i_ldiv, i_lrem, i_lneg, i_lshl, i_lcmp, i_i2l, i_l2i, i_i2b, i_i2s, i_ifeq, i_ifne, i_iflt, i_ifge, i_ifgt, i_ifle, i_cmpeq, i_cmpne, i_cmplt, i_cmpge, i_cmpgt, i_cmple, i_acmpeq, i_acmpne, i_ifnull, i_ifnonnull, i_getI, i_getR, i_putI, i_putZ, i_putR, i_ald, i_ldL, i_ldR, i_ast, i_stL, i_stR, i_alen, i_new, i_newa, i_iret, i_zret, i_lret, i_aret, i_vret, i_raise, i_throw, i_recv, i_objinit, i_tsw3, lget, lset, lput1, lput2, lkil, ltrim, largs, isL, takev, dropv, nthv, pushO, catv, gd, true_and, and_true, Option.some.injEq, Prod.mk.injEq, exists_eq_left', if_true, if_false, reduceCtorEq, Bool.false_eq_true, lcmp_ge, lcmp_lt, lcmp_le, lcmp_gt, lcmp_eq, true_or, or_true, not_true_eq_false, not_false_eq_true, false_implies, true_implies, List.length_cons, List.length_nil]
        repeat (first | refine ⟨in_small (by omega) (by omega), ?_⟩ | (show (_ → _) ∧ (_ → _); first | refine ⟨by omega, fun _ => ?_⟩ | refine ⟨fun _ => ?_, by omega⟩) | refine ⟨by omega, ?_⟩ | refine ⟨⟨_, rfl, by assumption⟩, ?_⟩ | refine ⟨okT_I _, ?_⟩ | refine call0 (gd_of rfl) ?_)
        refine ih (k + 1) D3 (by omega) (fun c i c1 c2 c3 => by rw [f3 c i (by omega) (by omega)]; exact f2 c i c1 c2 c3) ⟨by rw [f3 _ _ (by omega) (by omega)]; exact t2.1, fun i hi => by rw [f3 _ _ (by omega) (by omega)]; exact t2.2 i hi⟩ (g3.congr (fun i => f3 _ i (by omega) (by omega)) fun i => f3 _ i (by omega) (by omega)) ?_
        have e : 2 * ((2 ^ k : Nat) : Int) + 0 = ((2 ^ (k + 1) : Nat) : Int) := by rw [Nat.pow_succ]; omega
        rw [e] at g5
        exact g5
    refine wp_in ?_
    simp only [P_X0_sayEnd, i_kil, i_icon, i_lcon, i_null, i_loadI, i_loadL, i_loadR, i_istore, i_lstore, i_astore, i_iinc, i_dup, i_dup2, i_pop, i_iadd, i_isub, i_imul, i_idiv, i_irem, i_ineg, i_iand, i_ior, i_ishl, i_ishr, i_lxor, i_ladd, i_lsub, i_lmul, i_ldiv, i_lrem, i_lneg, i_lshl, i_lcmp, i_i2l, i_l2i, i_i2b, i_i2s, i_ifeq, i_ifne, i_iflt, i_ifge, i_ifgt, i_ifle, i_cmpeq, i_cmpne, i_cmplt, i_cmpge, i_cmpgt, i_cmple, i_acmpeq, i_acmpne, i_ifnull, i_ifnonnull, i_getI, i_getR, i_putI, i_putZ, i_putR, i_ald, i_ldL, i_ldR, i_ast, i_stL, i_stR, i_alen, i_new, i_newa, i_iret, i_zret, i_lret, i_aret, i_vret, i_raise, i_throw, i_recv, i_objinit, i_tsw3, lget, lset, lput1, lput2, lkil, ltrim, largs, isL, takev, dropv, nthv, pushO, catv, gd, true_and, and_true, Option.some.injEq, Prod.mk.injEq, exists_eq_left', if_true, if_false, reduceCtorEq, Bool.false_eq_true, lcmp_ge, lcmp_lt, lcmp_le, lcmp_gt, lcmp_eq, true_or, or_true, not_true_eq_false, not_false_eq_true, false_implies, true_implies, List.length_cons, List.length_nil, s1, s12, v13]
    repeat (first | refine ⟨in_small (by omega) (by omega), ?_⟩ | (show (_ → _) ∧ (_ → _); first | refine ⟨by omega, fun _ => ?_⟩ | refine ⟨fun _ => ?_, by omega⟩) | refine ⟨by omega, ?_⟩ | refine ⟨⟨_, rfl, by assumption⟩, ?_⟩ | refine ⟨okT_I _, ?_⟩ | refine call0 (gd_of rfl) ?_)
    refine sp_X3_set s13 (by decide) (by decide) (by decide) fun D2 f2 g2 => ?_
    simp only [P_X0_sayEnd, i_kil, i_icon, i_lcon, i_null, i_loadI, i_loadL, i_loadR, i_istore, i_lstore, i_astore, i_iinc, i_dup, i_dup2, i_pop, i_iadd, i_isub, i_imul, i_idiv, i_irem, i_ineg, i_iand, i_ior, i_ishl, i_ishr, i_lxor, i_ladd, i_lsub, i_lmul, i_ldiv, i_lrem, i_lneg, i_lshl, i_lcmp, i_i2l, i_l2i, i_i2b, i_i2s, i_ifeq, i_ifne, i_iflt, i_ifge, i_ifgt, i_ifle, i_cmpeq, i_cmpne, i_cmplt, i_cmpge, i_cmpgt, i_cmple, i_acmpeq, i_acmpne, i_ifnull, i_ifnonnull, i_getI, i_getR, i_putI, i_putZ, i_putR, i_ald, i_ldL, i_ldR, i_ast, i_stL, i_stR, i_alen, i_new, i_newa, i_iret, i_zret, i_lret, i_aret, i_vret, i_raise, i_throw, i_recv, i_objinit, i_tsw3, lget, lset, lput1, lput2, lkil, ltrim, largs, isL, takev, dropv, nthv, pushO, catv, gd, true_and, and_true, Option.some.injEq, Prod.mk.injEq, exists_eq_left', if_true, if_false, reduceCtorEq, Bool.false_eq_true, lcmp_ge, lcmp_lt, lcmp_le, lcmp_gt, lcmp_eq, true_or, or_true, not_true_eq_false, not_false_eq_true, false_implies, true_implies, List.length_cons, List.length_nil]
    refine loop b 0 D2 (by omega) (fun c i c1 c2 c3 => by rw [f2 c i (by omega) (by omega)]; exact f1 c i c1 c2 c3) ⟨by rw [f2 _ _ (by omega) (by omega)]; exact t1.1, fun i hi => by rw [f2 _ _ (by omega) (by omega)]; exact t1.2 i hi⟩ (g1.congr (fun i => f2 _ i (by omega) (by omega)) fun i => f2 _ i (by omega) (by omega)) ?_
    exact g2
  have two : ∀ (D1 : Dat) (z : Int) (b : Nat), ceO D D1 C → txD 36 D1 C (C + 723) L → wD 1 2 D1 (C + 692) z → z.natAbs ≤ 2 ^ 459 → b ≤ 459 → Rat.divInt z ((2 ^ b : Nat) : Int) = rpt h (w + u) → (b = 0 ∨ z % 2 ≠ 0) → Wp P_X0_sayEnd E 2 [some (aR C), none, none, some (aI (b : Int))] [] B S D1 := by
    intro D1 z b f1 t1 g1 b1 b2 hx ho
    obtain ⟨e1, e2⟩ := low_two ho
    rw [hx] at e1 e2
    have gs : D1 (C + 692) 2 = Int.sign z := by obtain ⟨n, -, -, q, -⟩ := g1; exact q
    refine wp_in ?_
    simp only [P_X0_sayEnd, i_kil, i_icon, i_lcon, i_null, i_loadI, i_loadL, i_loadR, i_istore, i_lstore, i_astore, i_iinc, i_dup, i_dup2, i_pop, i_iadd, i_isub, i_imul, i_idiv, i_irem, i_ineg, i_iand, i_ior, i_ishl, i_ishr, i_lxor, i_ladd, i_lsub, i_lmul, i_ldiv, i_lrem, i_lneg, i_lshl, i_lcmp, i_i2l, i_l2i, i_i2b, i_i2s, i_ifeq, i_ifne, i_iflt, i_ifge, i_ifgt, i_ifle, i_cmpeq, i_cmpne, i_cmplt, i_cmpge, i_cmpgt, i_cmple, i_acmpeq, i_acmpne, i_ifnull, i_ifnonnull, i_getI, i_getR, i_putI, i_putZ, i_putR, i_ald, i_ldL, i_ldR, i_ast, i_stL, i_stR, i_alen, i_new, i_newa, i_iret, i_zret, i_lret, i_aret, i_vret, i_raise, i_throw, i_recv, i_objinit, i_tsw3, lget, lset, lput1, lput2, lkil, ltrim, largs, isL, takev, dropv, nthv, pushO, catv, gd, true_and, and_true, Option.some.injEq, Prod.mk.injEq, exists_eq_left', if_true, if_false, reduceCtorEq, Bool.false_eq_true, lcmp_ge, lcmp_lt, lcmp_le, lcmp_gt, lcmp_eq, true_or, or_true, not_true_eq_false, not_false_eq_true, false_implies, true_implies, List.length_cons, List.length_nil, s1, s8, v9, gs]
    refine ⟨fun _ => three D1 z b f1 t1 g1 e1 e2 b1 b2, fun q => ?_⟩
    have hz : z = 0 := Int.sign_eq_zero_iff_zero.mp q
    rcases ho with ho | ho
    · subst ho
      exact three D1 z 0 f1 t1 g1 e1 e2 b1 b2
    · rw [hz] at ho; exact absurd rfl ho
  have one : ∀ (b : Nat) (D1 : Dat) (z : Int), ceO D D1 C → txD 36 D1 C (C + 723) L → wD 1 2 D1 (C + 692) z → z.natAbs ≤ 2 ^ 459 → b ≤ 459 → Rat.divInt z ((2 ^ b : Nat) : Int) = rpt h (w + u) → Wp P_X0_sayEnd E 1 [some (aR C), none, none, some (aI (b : Int))] [] B S D1 := by
    intro b
    induction b with
    | zero =>
      intro D1 z f1 t1 g1 b1 b2 hx
      refine wp_in ?_
      simp only [P_X0_sayEnd, i_kil, i_icon, i_lcon, i_null, i_loadI, i_loadL, i_loadR, i_istore, i_lstore, i_astore, i_iinc, i_dup, i_dup2, i_pop, i_iadd, i_isub, i_imul, i_idiv, i_irem, i_ineg, i_iand, i_ior, i_ishl, i_ishr, i_lxor, i_ladd, i_lsub, i_lmul, i_ldiv, i_lrem, i_lneg, i_lshl, i_lcmp, i_i2l, i_l2i, i_i2b, i_i2s, i_ifeq, i_ifne, i_iflt, i_ifge, i_ifgt, i_ifle, i_cmpeq, i_cmpne, i_cmplt, i_cmpge, i_cmpgt, i_cmple, i_acmpeq, i_acmpne, i_ifnull, i_ifnonnull, i_getI, i_getR, i_putI, i_putZ, i_putR, i_ald, i_ldL, i_ldR, i_ast, i_stL, i_stR, i_alen, i_new, i_newa, i_iret, i_zret, i_lret, i_aret, i_vret, i_raise, i_throw, i_recv, i_objinit, i_tsw3, lget, lset, lput1, lput2, lkil, ltrim, largs, isL, takev, dropv, nthv, pushO, catv, gd, true_and, and_true, Option.some.injEq, Prod.mk.injEq, exists_eq_left', if_true, if_false, reduceCtorEq, Bool.false_eq_true, lcmp_ge, lcmp_lt, lcmp_le, lcmp_gt, lcmp_eq, true_or, or_true, not_true_eq_false, not_false_eq_true, false_implies, true_implies, List.length_cons, List.length_nil]
      exact ⟨fun _ => two D1 z 0 f1 t1 g1 b1 b2 hx (Or.inl rfl), fun q => by omega⟩
    | succ b ih =>
      intro D1 z f1 t1 g1 b1 b2 hx
      have bz : (z.natAbs : Int) < 1000000000 ^ 160 := Int.lt_of_le_of_lt (Int.ofNat_le.mpr b1) (Int.lt_of_lt_of_le (p16 (by omega)) (pw_mono (show 16 ≤ 160 by decide)))
      refine wp_in ?_
      simp only [P_X0_sayEnd, i_kil, i_icon, i_lcon, i_null, i_loadI, i_loadL, i_loadR, i_istore, i_lstore, i_astore, i_iinc, i_dup, i_dup2, i_pop, i_iadd, i_isub, i_imul, i_idiv, i_irem, i_ineg, i_iand, i_ior, i_ishl, i_ishr, i_lxor, i_ladd, i_lsub, i_lmul, i_ldiv, i_lrem, i_lneg, i_lshl, i_lcmp, i_i2l, i_l2i, i_i2b, i_i2s, i_ifeq, i_ifne, i_iflt, i_ifge, i_ifgt, i_ifle, i_cmpeq, i_cmpne, i_cmplt, i_cmpge, i_cmpgt, i_cmple, i_acmpeq, i_acmpne, i_ifnull, i_ifnonnull, i_getI, i_getR, i_putI, i_putZ, i_putR, i_ald, i_ldL, i_ldR, i_ast, i_stL, i_stR, i_alen, i_new, i_newa, i_iret, i_zret, i_lret, i_aret, i_vret, i_raise, i_throw, i_recv, i_objinit, i_tsw3, lget, lset, lput1, lput2, lkil, ltrim, largs, isL, takev, dropv, nthv, pushO, catv, gd, true_and, and_true, Option.some.injEq, Prod.mk.injEq, exists_eq_left', if_true, if_false, reduceCtorEq, Bool.false_eq_true, lcmp_ge, lcmp_lt, lcmp_le, lcmp_gt, lcmp_eq, true_or, or_true, not_true_eq_false, not_false_eq_true, false_implies, true_implies, List.length_cons, List.length_nil, s1, s8, v9]
      refine ⟨fun q => by omega, fun _ => ?_⟩
      repeat (first | refine ⟨in_small (by omega) (by omega), ?_⟩ | (show (_ → _) ∧ (_ → _); first | refine ⟨by omega, fun _ => ?_⟩ | refine ⟨fun _ => ?_, by omega⟩) | refine ⟨by omega, ?_⟩ | refine ⟨⟨_, rfl, by assumption⟩, ?_⟩ | refine ⟨okT_I _, ?_⟩ | refine call0 (gd_of rfl) ?_)
      refine sp_X3_isOdd s9 g1 (by decide) (by decide) ?_
      simp only [P_X0_sayEnd, i_kil, i_icon, i_lcon, i_null, i_loadI, i_loadL, i_loadR, i_istore, i_lstore, i_astore, i_iinc, i_dup, i_dup2, i_pop, i_iadd, i_isub, i_imul, i_idiv, i_irem, i_ineg, i_iand, i_ior, i_ishl, i_ishr, i_lxor, i_ladd, i_lsub, i_lmul, i_ldiv, i_lrem, i_lneg, i_lshl, i_lcmp, i_i2l, i_l2i, i_i2b, i_i2s, i_ifeq, i_ifne, i_iflt, i_ifge, i_ifgt, i_ifle, i_cmpeq, i_cmpne, i_cmplt, i_cmpge, i_cmpgt, i_cmple, i_acmpeq, i_acmpne, i_ifnull, i_ifnonnull, i_getI, i_getR, i_putI, i_putZ, i_putR, i_ald, i_ldL, i_ldR, i_ast, i_stL, i_stR, i_alen, i_new, i_newa, i_iret, i_zret, i_lret, i_aret, i_vret, i_raise, i_throw, i_recv, i_objinit, i_tsw3, lget, lset, lput1, lput2, lkil, ltrim, largs, isL, takev, dropv, nthv, pushO, catv, gd, true_and, and_true, Option.some.injEq, Prod.mk.injEq, exists_eq_left', if_true, if_false, reduceCtorEq, Bool.false_eq_true, lcmp_ge, lcmp_lt, lcmp_le, lcmp_gt, lcmp_eq, true_or, or_true, not_true_eq_false, not_false_eq_true, false_implies, true_implies, List.length_cons, List.length_nil, s1, s8, v9]
      refine ⟨fun q => two D1 z (b + 1) f1 t1 g1 b1 b2 hx (Or.inr q), fun q => ?_⟩
      repeat (first | refine ⟨in_small (by omega) (by omega), ?_⟩ | (show (_ → _) ∧ (_ → _); first | refine ⟨by omega, fun _ => ?_⟩ | refine ⟨fun _ => ?_, by omega⟩) | refine ⟨by omega, ?_⟩ | refine ⟨⟨_, rfl, by assumption⟩, ?_⟩ | refine ⟨okT_I _, ?_⟩ | refine call0 (gd_of rfl) ?_)
      refine sp_X3_halve s9 g1 bz (by decide) fun D2 f2 g2 => ?_
      simp only [P_X0_sayEnd, i_kil, i_icon, i_lcon, i_null, i_loadI, i_loadL, i_loadR, i_istore, i_lstore, i_astore, i_iinc, i_dup, i_dup2, i_pop, i_iadd, i_isub, i_imul, i_idiv, i_irem, i_ineg, i_iand, i_ior, i_ishl, i_ishr, i_lxor, i_ladd, i_lsub, i_lmul, i_ldiv, i_lrem, i_lneg, i_lshl, i_lcmp, i_i2l, i_l2i, i_i2b, i_i2s, i_ifeq, i_ifne, i_iflt, i_ifge, i_ifgt, i_ifle, i_cmpeq, i_cmpne, i_cmplt, i_cmpge, i_cmpgt, i_cmple, i_acmpeq, i_acmpne, i_ifnull, i_ifnonnull, i_getI, i_getR, i_putI, i_putZ, i_putR, i_ald, i_ldL, i_ldR, i_ast, i_stL, i_stR, i_alen, i_new, i_newa, i_iret, i_zret, i_lret, i_aret, i_vret, i_raise, i_throw, i_recv, i_objinit, i_tsw3, lget, lset, lput1, lput2, lkil, ltrim, largs, isL, takev, dropv, nthv, pushO, catv, gd, true_and, and_true, Option.some.injEq, Prod.mk.injEq, exists_eq_left', if_true, if_false, reduceCtorEq, Bool.false_eq_true, lcmp_ge, lcmp_lt, lcmp_le, lcmp_gt, lcmp_eq, true_or, or_true, not_true_eq_false, not_false_eq_true, false_implies, true_implies, List.length_cons, List.length_nil]
      repeat (first | refine ⟨in_small (by omega) (by omega), ?_⟩ | (show (_ → _) ∧ (_ → _); first | refine ⟨by omega, fun _ => ?_⟩ | refine ⟨fun _ => ?_, by omega⟩) | refine ⟨by omega, ?_⟩ | refine ⟨⟨_, rfl, by assumption⟩, ?_⟩ | refine ⟨okT_I _, ?_⟩ | refine call0 (gd_of rfl) ?_)
      have hz := tdiv_two q
      rw [show ((b + 1 : Nat) : Int) + -1 = (b : Int) by omega]
      refine ih D2 (z.tdiv 2) (fun c i c1 c2 c3 => by rw [f2 c i (by omega) (by omega)]; exact f1 c i c1 c2 c3) ⟨by rw [f2 _ _ (by omega) (by omega)]; exact t1.1, fun i hi => by rw [f2 _ _ (by omega) (by omega)]; exact t1.2 i hi⟩ g2 (by omega) (by omega) ?_
      rw [← hx]
      have e : ((2 ^ (b + 1) : Nat) : Int) = ((2 ^ b : Nat) : Int) * 2 := by rw [Nat.pow_succ]; omega
      rw [e]
      conv => rhs; rw [← hz]
      rw [Rat.divInt_mul_right (by decide)]
  refine wp_in ?_
  simp only [P_X0_sayEnd, i_kil, i_icon, i_lcon, i_null, i_loadI, i_loadL, i_loadR, i_istore, i_lstore, i_astore, i_iinc, i_dup, i_dup2, i_pop, i_iadd, i_isub, i_imul, i_idiv, i_irem, i_ineg, i_iand, i_ior, i_ishl, i_ishr, i_lxor, i_ladd, i_lsub, i_lmul, i_ldiv, i_lrem, i_lneg, i_lshl, i_lcmp, i_i2l, i_l2i, i_i2b, i_i2s, i_ifeq, i_ifne, i_iflt, i_ifge, i_ifgt, i_ifle, i_cmpeq, i_cmpne, i_cmplt, i_cmpge, i_cmpgt, i_cmple, i_acmpeq, i_acmpne, i_ifnull, i_ifnonnull, i_getI, i_getR, i_putI, i_putZ, i_putR, i_ald, i_ldL, i_ldR, i_ast, i_stL, i_stR, i_alen, i_new, i_newa, i_iret, i_zret, i_lret, i_aret, i_vret, i_raise, i_throw, i_recv, i_objinit, i_tsw3, lget, lset, lput1, lput2, lkil, ltrim, largs, isL, takev, dropv, nthv, pushO, catv, gd, true_and, and_true, Option.some.injEq, Prod.mk.injEq, exists_eq_left', if_true, if_false, reduceCtorEq, Bool.false_eq_true, lcmp_ge, lcmp_lt, lcmp_le, lcmp_gt, lcmp_eq, true_or, or_true, not_true_eq_false, not_false_eq_true, false_implies, true_implies, List.length_cons, List.length_nil, s1, s2, s8, s12, a1]
  repeat (first | refine ⟨in_small (by omega) (by omega), ?_⟩ | (show (_ → _) ∧ (_ → _); first | refine ⟨by omega, fun _ => ?_⟩ | refine ⟨fun _ => ?_, by omega⟩) | refine ⟨by omega, ?_⟩ | refine ⟨⟨_, rfl, by assumption⟩, ?_⟩ | refine ⟨okT_I _, ?_⟩ | refine call0 (gd_of rfl) ?_)
  refine sp_X13_end ha o1 s9 s13 (by omega) (by omega) (by omega) h2 hw h0 h1 hh hu fun D1 f1 g1 => ?_
  simp only [P_X0_sayEnd, i_kil, i_icon, i_lcon, i_null, i_loadI, i_loadL, i_loadR, i_istore, i_lstore, i_astore, i_iinc, i_dup, i_dup2, i_pop, i_iadd, i_isub, i_imul, i_idiv, i_irem, i_ineg, i_iand, i_ior, i_ishl, i_ishr, i_lxor, i_ladd, i_lsub, i_lmul, i_ldiv, i_lrem, i_lneg, i_lshl, i_lcmp, i_i2l, i_l2i, i_i2b, i_i2s, i_ifeq, i_ifne, i_iflt, i_ifge, i_ifgt, i_ifle, i_cmpeq, i_cmpne, i_cmplt, i_cmpge, i_cmpgt, i_cmple, i_acmpeq, i_acmpne, i_ifnull, i_ifnonnull, i_getI, i_getR, i_putI, i_putZ, i_putR, i_ald, i_ldL, i_ldR, i_ast, i_stL, i_stR, i_alen, i_new, i_newa, i_iret, i_zret, i_lret, i_aret, i_vret, i_raise, i_throw, i_recv, i_objinit, i_tsw3, lget, lset, lput1, lput2, lkil, ltrim, largs, isL, takev, dropv, nthv, pushO, catv, gd, true_and, and_true, Option.some.injEq, Prod.mk.injEq, exists_eq_left', if_true, if_false, reduceCtorEq, Bool.false_eq_true, lcmp_ge, lcmp_lt, lcmp_le, lcmp_gt, lcmp_eq, true_or, or_true, not_true_eq_false, not_false_eq_true, false_implies, true_implies, List.length_cons, List.length_nil, a1]
  repeat (first | refine ⟨in_small (by omega) (by omega), ?_⟩ | (show (_ → _) ∧ (_ → _); first | refine ⟨by omega, fun _ => ?_⟩ | refine ⟨fun _ => ?_, by omega⟩) | refine ⟨by omega, ?_⟩ | refine ⟨⟨_, rfl, by assumption⟩, ?_⟩ | refine ⟨okT_I _, ?_⟩ | refine call0 (gd_of rfl) ?_)
  refine sp_X13_bits (h := h) a1 (by rw [f1 _ _ (by omega) (by omega) (by omega) (by omega)]; exact h2) (by omega) ?_
  simp only [P_X0_sayEnd, i_kil, i_icon, i_lcon, i_null, i_loadI, i_loadL, i_loadR, i_istore, i_lstore, i_astore, i_iinc, i_dup, i_dup2, i_pop, i_iadd, i_isub, i_imul, i_idiv, i_irem, i_ineg, i_iand, i_ior, i_ishl, i_ishr, i_lxor, i_ladd, i_lsub, i_lmul, i_ldiv, i_lrem, i_lneg, i_lshl, i_lcmp, i_i2l, i_l2i, i_i2b, i_i2s, i_ifeq, i_ifne, i_iflt, i_ifge, i_ifgt, i_ifle, i_cmpeq, i_cmpne, i_cmplt, i_cmpge, i_cmpgt, i_cmple, i_acmpeq, i_acmpne, i_ifnull, i_ifnonnull, i_getI, i_getR, i_putI, i_putZ, i_putR, i_ald, i_ldL, i_ldR, i_ast, i_stL, i_stR, i_alen, i_new, i_newa, i_iret, i_zret, i_lret, i_aret, i_vret, i_raise, i_throw, i_recv, i_objinit, i_tsw3, lget, lset, lput1, lput2, lkil, ltrim, largs, isL, takev, dropv, nthv, pushO, catv, gd, true_and, and_true, Option.some.injEq, Prod.mk.injEq, exists_eq_left', if_true, if_false, reduceCtorEq, Bool.false_eq_true, lcmp_ge, lcmp_lt, lcmp_le, lcmp_gt, lcmp_eq, true_or, or_true, not_true_eq_false, not_false_eq_true, false_implies, true_implies, List.length_cons, List.length_nil]
  refine one (h - 8) D1 _ (fun c i c1 c2 c3 => f1 c i (by omega) (by omega) (by omega) (by omega)) ⟨by rw [f1 _ _ (by omega) (by omega) (by omega) (by omega)]; exact ht.1, fun i hi => by rw [f1 _ _ (by omega) (by omega) (by omega) (by omega)]; exact ht.2 i hi⟩ g1 (Nat.le_trans hab (pw_le2 (by omega))) (by omega) ?_
  rw [Rat.divInt_eq_div]
  exact hpt
end CSE
