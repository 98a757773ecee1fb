/-! the component's search for roots -/
-- needs: da.real
set_option maxRecDepth 100000
set_option linter.unusedVariables false
/-- what the roots stand on -/
def rtS (S : Stat) (C : Nat) : Prop := S.1 C = some (0, 0) ∧ S.2.1 C 4 = some (C + 22) ∧ rS S (C + 22) ∧ S.2.1 C 7 = some (C + 225) ∧ chS S (C + 225) (C + 22) ∧ S.2.1 C 8 = some (C + 445) ∧ chS S (C + 445) (C + 22) ∧ S.2.1 C 12 = some (C + 692) ∧ wS 3 S (C + 692) 160 ∧ S.2.1 C 13 = some (C + 694) ∧ wS 3 S (C + 694) 160 ∧ S.2.1 C 14 = some (C + 696) ∧ wS 3 S (C + 696) 160 ∧ S.2.1 C 34 = some (C + 719) ∧ reS S (C + 719) ∧ S.2.1 C 37 = some (C + 724) ∧ reS S (C + 724) ∧ S.2.1 C 32 = some (C + 718) ∧ S.1 (C + 718) = some (110, 8) ∧ (∀ k : Nat, k < 8 → S.2.1 (C + 718) k = some (C + 787 + 4 * k) ∧ reS S (C + 787 + 4 * k)) ∧ S.2.1 C 30 = some (C + 716) ∧ S.1 (C + 716) = some (100, 9) ∧ S.2.1 C 31 = some (C + 717) ∧ S.1 (C + 717) = some (100, 9)
theorem chD.sg {D D' : Dat} {b m : Nat} {F : Nat → Nat → Int} {n : Nat → Nat} (h : chD D b F n m) (hm : m ≤ 10) (e : ∀ c i, b ≤ c → c ≤ b + 219 → (c < b + 14 ∨ b + 21 < c) → D' c i = D c i) : chD D' b F n m := by
  refine ⟨by rw [e _ _ (by omega) (by omega) (by omega)]; exact h.1, fun r hr => ?_⟩
  obtain ⟨h1, h2, h3, h4⟩ := h.2 r hr
  refine ⟨by rw [e _ _ (by omega) (by omega) (by omega)]; exact h1, h2, h3, fun k hk => (h4 k hk).congr (fun i => e _ i (by unfold cw; omega) (by unfold cw; omega) (by unfold cw; omega)) fun i => e _ i (by unfold cw; omega) (by unfold cw; omega) (by unfold cw; omega)⟩
/-- only the chain's places to work in and the ends change -/
def wtO (C b : Nat) (D D' : Dat) : Prop := ∀ c i, (c < b + 14 ∨ b + 21 < c) → (c < C + 692 ∨ C + 697 < c) → D' c i = D c i
section SRCH
variable {C : Nat} {S : Stat}
theorem sp_X0_within {E : Ex} {B : Nat × Nat} {D : Dat} {b a h m : Nat} {w : Int} {F : Nat → Nat → Int} {n : Nat → Nat} (hS : rtS S C) (hb : b = C + 225 ∨ b = C + 445) (ha : reS S a) (na : a + 3 < C + 225 ∨ C + 697 < a) (hD : chD D b F n m) (hM : chM F n m) (hm : m ≤ 10) (h2 : D a 2 = h) (hw : wD 1 2 D (a + 2) w) (h0 : 0 ≤ w) (h1 : w < ((2 ^ h : Nat) : Int)) (hh : h ≤ 460)
    (K : ∀ D' : Dat, wtO C b D D' → E (.inl (some (.inl (vch (fun i => zF F n i (rpt h w)) m - vch (fun i => zF F n i (rpt h (w + 1))) m)))) B S D') : Wp P_X0_within E 0 [some (aR C), some (aR b), some (aR a)] [] B S D := by
  obtain ⟨s1, s2, s3, s4, s5, s6, s7, s8, s9, s10, s11, s12, s13, s14⟩ := hS
  have hcS : chS S b (C + 22) := by rcases hb with rfl | rfl; exact s5; exact s7
  have hc1 := hcS.2.1
  have a1 := ha.1
  have o1 := s3.1
  refine wp_in ?_
  simp only [P_X0_within, i_kil, i_icon, i_lcon, i_null, i_loadI, i_loadL, i_loadR, i_istore, i_lstore, i_astore, i_iinc, i_dup, i_dup2, i_pop, i_iadd, i_isub, i_imul, i_idiv, i_irem, i_ineg, i_iand, i_ior, i_ishl, i_ishr, i_lxor, i_ladd, i_lsub, i_lmul, i_ldiv, i_lrem, i_lneg, i_lshl, i_lcmp, i_i2l, i_l2i, i_i2b, i_i2s, i_ifeq, i_ifne, i_iflt, i_ifge, i_ifgt, i_ifle, i_cmpeq, i_cmpne, i_cmplt, i_cmpge, i_cmpgt, i_cmple, i_acmpeq, i_acmpne, i_ifnull, i_ifnonnull, i_getI, i_getR, i_putI, i_putZ, i_putR, i_ald, i_ldL, i_ldR, i_ast, i_stL, i_stR, i_alen, i_new, i_newa, i_iret, i_zret, i_lret, i_aret, i_vret, i_raise, i_throw, i_recv, i_objinit, i_tsw3, lget, lset, lput1, lput2, lkil, ltrim, largs, isL, takev, dropv, nthv, pushO, catv, gd, true_and, and_true, Option.some.injEq, Prod.mk.injEq, exists_eq_left', if_true, if_false, reduceCtorEq, Bool.false_eq_true, lcmp_ge, lcmp_lt, lcmp_le, lcmp_gt, lcmp_eq, true_or, or_true, not_true_eq_false, not_false_eq_true, false_implies, true_implies, List.length_cons, List.length_nil, s1, s2, s8, s12]
  repeat (first | refine ⟨in_small (by omega) (by omega), ?_⟩ | (show (_ → _) ∧ (_ → _); first | refine ⟨by omega, fun _ => ?_⟩ | refine ⟨fun _ => ?_, by omega⟩) | refine ⟨by omega, ?_⟩ | refine ⟨⟨_, rfl, by assumption⟩, ?_⟩ | refine ⟨okT_I _, ?_⟩ | refine ⟨okT_S (by omega) (by omega), ?_⟩ | refine ⟨okT_B (by omega) (by omega), ?_⟩ | refine call0 (gd_of rfl) ?_)
  refine sp_X13_end ha o1 s9 s13 (by omega) (by omega) (by omega) h2 hw h0 h1 hh (.inl ⟨rfl, rfl⟩) fun D1 g1 g2 => ?_
  simp only [P_X0_within, i_kil, i_icon, i_lcon, i_null, i_loadI, i_loadL, i_loadR, i_istore, i_lstore, i_astore, i_iinc, i_dup, i_dup2, i_pop, i_iadd, i_isub, i_imul, i_idiv, i_irem, i_ineg, i_iand, i_ior, i_ishl, i_ishr, i_lxor, i_ladd, i_lsub, i_lmul, i_ldiv, i_lrem, i_lneg, i_lshl, i_lcmp, i_i2l, i_l2i, i_i2b, i_i2s, i_ifeq, i_ifne, i_iflt, i_ifge, i_ifgt, i_ifle, i_cmpeq, i_cmpne, i_cmplt, i_cmpge, i_cmpgt, i_cmple, i_acmpeq, i_acmpne, i_ifnull, i_ifnonnull, i_getI, i_getR, i_putI, i_putZ, i_putR, i_ald, i_ldL, i_ldR, i_ast, i_stL, i_stR, i_alen, i_new, i_newa, i_iret, i_zret, i_lret, i_aret, i_vret, i_raise, i_throw, i_recv, i_objinit, i_tsw3, lget, lset, lput1, lput2, lkil, ltrim, largs, isL, takev, dropv, nthv, pushO, catv, gd, true_and, and_true, Option.some.injEq, Prod.mk.injEq, exists_eq_left', if_true, if_false, reduceCtorEq, Bool.false_eq_true, lcmp_ge, lcmp_lt, lcmp_le, lcmp_gt, lcmp_eq, true_or, or_true, not_true_eq_false, not_false_eq_true, false_implies, true_implies, List.length_cons, List.length_nil, s1, s2, s10, s12]
  repeat (first | refine ⟨in_small (by omega) (by omega), ?_⟩ | (show (_ → _) ∧ (_ → _); first | refine ⟨by omega, fun _ => ?_⟩ | refine ⟨fun _ => ?_, by omega⟩) | refine ⟨by omega, ?_⟩ | refine ⟨⟨_, rfl, by assumption⟩, ?_⟩ | refine ⟨okT_I _, ?_⟩ | refine ⟨okT_S (by omega) (by omega), ?_⟩ | refine ⟨okT_B (by omega) (by omega), ?_⟩ | refine call0 (gd_of rfl) ?_)
  have h2' : D1 a 2 = h := by rw [g1 _ _ (by omega) (by omega) (by omega) (by omega)]; exact h2
  refine sp_X13_end ha o1 s11 s13 (by omega) (by omega) (by omega) h2' (hw.congr (fun i => g1 _ i (by omega) (by omega) (by omega) (by omega)) fun i => g1 _ i (by omega) (by omega) (by omega) (by omega)) h0 h1 hh (.inr ⟨rfl, rfl⟩) fun D2 i1 i2 => ?_
  have f2 : ∀ c i, (c < C + 692 ∨ C + 697 < c) → D2 c i = D c i := fun c i w => by rw [i1 c i (by omega) (by omega) (by omega) (by omega), g1 c i (by omega) (by omega) (by omega) (by omega)]
  have h2'' : D2 a 2 = h := by rw [f2 _ _ (by omega)]; exact h2
  have g2' : wD 1 2 D2 (C + 692) (eI h (w + 0)) := g2.congr (fun i => i1 _ i (by omega) (by omega) (by omega) (by omega)) fun i => i1 _ i (by omega) (by omega) (by omega) (by omega)
  rw [Int.add_zero] at g2'
  have pow0 : (((2 ^ (h - 8) : Nat) : Int) : Rat) = (((2 ^ (h - 8) : Nat) : Int) : Rat) := rfl
  have hD2 : chD D2 b F n m := hD.congr hm fun c i c1 c2 => f2 c i (by omega)
  have bnd : ∀ x : Rat, 0 ≤ vch (fun i => zF F n i x) m ∧ vch (fun i => zF F n i x) m ≤ m := fun x => by
    have : ∀ j, 0 ≤ (vst (fun i => zF F n i x) j).2 ∧ (vst (fun i => zF F n i x) j).2 ≤ j := by
      intro j
      induction j with
      | zero => simp [vst]
      | succ j ih =>
        simp only [vst]
        split
        · omega
        · simp only; split <;> omega
    exact this m
  simp only [P_X0_within, i_kil, i_icon, i_lcon, i_null, i_loadI, i_loadL, i_loadR, i_istore, i_lstore, i_astore, i_iinc, i_dup, i_dup2, i_pop, i_iadd, i_isub, i_imul, i_idiv, i_irem, i_ineg, i_iand, i_ior, i_ishl, i_ishr, i_lxor, i_ladd, i_lsub, i_lmul, i_ldiv, i_lrem, i_lneg, i_lshl, i_lcmp, i_i2l, i_l2i, i_i2b, i_i2s, i_ifeq, i_ifne, i_iflt, i_ifge, i_ifgt, i_ifle, i_cmpeq, i_cmpne, i_cmplt, i_cmpge, i_cmpgt, i_cmple, i_acmpeq, i_acmpne, i_ifnull, i_ifnonnull, i_getI, i_getR, i_putI, i_putZ, i_putR, i_ald, i_ldL, i_ldR, i_ast, i_stL, i_stR, i_alen, i_new, i_newa, i_iret, i_zret, i_lret, i_aret, i_vret, i_raise, i_throw, i_recv, i_objinit, i_tsw3, lget, lset, lput1, lput2, lkil, ltrim, largs, isL, takev, dropv, nthv, pushO, catv, gd, true_and, and_true, Option.some.injEq, Prod.mk.injEq, exists_eq_left', if_true, if_false, reduceCtorEq, Bool.false_eq_true, lcmp_ge, lcmp_lt, lcmp_le, lcmp_gt, lcmp_eq, true_or, or_true, not_true_eq_false, not_false_eq_true, false_implies, true_implies, List.length_cons, List.length_nil, s1, s8]
  repeat (first | refine ⟨in_small (by omega) (by omega), ?_⟩ | (show (_ → _) ∧ (_ → _); first | refine ⟨by omega, fun _ => ?_⟩ | refine ⟨fun _ => ?_, by omega⟩) | refine ⟨by omega, ?_⟩ | refine ⟨⟨_, rfl, by assumption⟩, ?_⟩ | refine ⟨okT_I _, ?_⟩ | refine ⟨okT_S (by omega) (by omega), ?_⟩ | refine ⟨okT_B (by omega) (by omega), ?_⟩ | refine call0 (gd_of rfl) ?_)
  refine sp_X13_bits a1 h2'' (by omega) ?_
  simp only [P_X0_within, i_kil, i_icon, i_lcon, i_null, i_loadI, i_loadL, i_loadR, i_istore, i_lstore, i_astore, i_iinc, i_dup, i_dup2, i_pop, i_iadd, i_isub, i_imul, i_idiv, i_irem, i_ineg, i_iand, i_ior, i_ishl, i_ishr, i_lxor, i_ladd, i_lsub, i_lmul, i_ldiv, i_lrem, i_lneg, i_lshl, i_lcmp, i_i2l, i_l2i, i_i2b, i_i2s, i_ifeq, i_ifne, i_iflt, i_ifge, i_ifgt, i_ifle, i_cmpeq, i_cmpne, i_cmplt, i_cmpge, i_cmpgt, i_cmple, i_acmpeq, i_acmpne, i_ifnull, i_ifnonnull, i_getI, i_getR, i_putI, i_putZ, i_putR, i_ald, i_ldL, i_ldR, i_ast, i_stL, i_stR, i_alen, i_new, i_newa, i_iret, i_zret, i_lret, i_aret, i_vret, i_raise, i_throw, i_recv, i_objinit, i_tsw3, lget, lset, lput1, lput2, lkil, ltrim, largs, isL, takev, dropv, nthv, pushO, catv, gd, true_and, and_true, Option.some.injEq, Prod.mk.injEq, exists_eq_left', if_true, if_false, reduceCtorEq, Bool.false_eq_true, lcmp_ge, lcmp_lt, lcmp_le, lcmp_gt, lcmp_eq, true_or, or_true, not_true_eq_false, not_false_eq_true, false_implies, true_implies, List.length_cons, List.length_nil]
  repeat (first | refine ⟨in_small (by omega) (by omega), ?_⟩ | (show (_ → _) ∧ (_ → _); first | refine ⟨by omega, fun _ => ?_⟩ | refine ⟨fun _ => ?_, by omega⟩) | refine ⟨by omega, ?_⟩ | refine ⟨⟨_, rfl, by assumption⟩, ?_⟩ | refine ⟨okT_I _, ?_⟩ | refine ⟨okT_S (by omega) (by omega), ?_⟩ | refine ⟨okT_B (by omega) (by omega), ?_⟩ | refine call0 (gd_of rfl) ?_)
  refine sp_X8_changes (av := eI h w) hcS hD2 hM hm s9 (by omega) g2' (eI_abs h0 (by omega)) (by omega) fun D3 j1 => ?_
  rw [eI_pt]
  have h23 : D3 a 2 = h := by rw [j1 _ _ (by omega)]; exact h2''
  simp only [P_X0_within, i_kil, i_icon, i_lcon, i_null, i_loadI, i_loadL, i_loadR, i_istore, i_lstore, i_astore, i_iinc, i_dup, i_dup2, i_pop, i_iadd, i_isub, i_imul, i_idiv, i_irem, i_ineg, i_iand, i_ior, i_ishl, i_ishr, i_lxor, i_ladd, i_lsub, i_lmul, i_ldiv, i_lrem, i_lneg, i_lshl, i_lcmp, i_i2l, i_l2i, i_i2b, i_i2s, i_ifeq, i_ifne, i_iflt, i_ifge, i_ifgt, i_ifle, i_cmpeq, i_cmpne, i_cmplt, i_cmpge, i_cmpgt, i_cmple, i_acmpeq, i_acmpne, i_ifnull, i_ifnonnull, i_getI, i_getR, i_putI, i_putZ, i_putR, i_ald, i_ldL, i_ldR, i_ast, i_stL, i_stR, i_alen, i_new, i_newa, i_iret, i_zret, i_lret, i_aret, i_vret, i_raise, i_throw, i_recv, i_objinit, i_tsw3, lget, lset, lput1, lput2, lkil, ltrim, largs, isL, takev, dropv, nthv, pushO, catv, gd, true_and, and_true, Option.some.injEq, Prod.mk.injEq, exists_eq_left', if_true, if_false, reduceCtorEq, Bool.false_eq_true, lcmp_ge, lcmp_lt, lcmp_le, lcmp_gt, lcmp_eq, true_or, or_true, not_true_eq_false, not_false_eq_true, false_implies, true_implies, List.length_cons, List.length_nil, s1, s10]
  repeat (first | refine ⟨in_small (by omega) (by omega), ?_⟩ | (show (_ → _) ∧ (_ → _); first | refine ⟨by omega, fun _ => ?_⟩ | refine ⟨fun _ => ?_, by omega⟩) | refine ⟨by omega, ?_⟩ | refine ⟨⟨_, rfl, by assumption⟩, ?_⟩ | refine ⟨okT_I _, ?_⟩ | refine ⟨okT_S (by omega) (by omega), ?_⟩ | refine ⟨okT_B (by omega) (by omega), ?_⟩ | refine call0 (gd_of rfl) ?_)
  refine sp_X13_bits a1 h23 (by omega) ?_
  simp only [P_X0_within, i_kil, i_icon, i_lcon, i_null, i_loadI, i_loadL, i_loadR, i_istore, i_lstore, i_astore, i_iinc, i_dup, i_dup2, i_pop, i_iadd, i_isub, i_imul, i_idiv, i_irem, i_ineg, i_iand, i_ior, i_ishl, i_ishr, i_lxor, i_ladd, i_lsub, i_lmul, i_ldiv, i_lrem, i_lneg, i_lshl, i_lcmp, i_i2l, i_l2i, i_i2b, i_i2s, i_ifeq, i_ifne, i_iflt, i_ifge, i_ifgt, i_ifle, i_cmpeq, i_cmpne, i_cmplt, i_cmpge, i_cmpgt, i_cmple, i_acmpeq, i_acmpne, i_ifnull, i_ifnonnull, i_getI, i_getR, i_putI, i_putZ, i_putR, i_ald, i_ldL, i_ldR, i_ast, i_stL, i_stR, i_alen, i_new, i_newa, i_iret, i_zret, i_lret, i_aret, i_vret, i_raise, i_throw, i_recv, i_objinit, i_tsw3, lget, lset, lput1, lput2, lkil, ltrim, largs, isL, takev, dropv, nthv, pushO, catv, gd, true_and, and_true, Option.some.injEq, Prod.mk.injEq, exists_eq_left', if_true, if_false, reduceCtorEq, Bool.false_eq_true, lcmp_ge, lcmp_lt, lcmp_le, lcmp_gt, lcmp_eq, true_or, or_true, not_true_eq_false, not_false_eq_true, false_implies, true_implies, List.length_cons, List.length_nil]
  repeat (first | refine ⟨in_small (by omega) (by omega), ?_⟩ | (show (_ → _) ∧ (_ → _); first | refine ⟨by omega, fun _ => ?_⟩ | refine ⟨fun _ => ?_, by omega⟩) | refine ⟨by omega, ?_⟩ | refine ⟨⟨_, rfl, by assumption⟩, ?_⟩ | refine ⟨okT_I _, ?_⟩ | refine ⟨okT_S (by omega) (by omega), ?_⟩ | refine ⟨okT_B (by omega) (by omega), ?_⟩ | refine call0 (gd_of rfl) ?_)
  have hD3 : chD D3 b F n m := hD2.sg hm fun c i c1 c2 c3 => j1 c i c3
  refine sp_X8_changes (av := eI h (w + 1)) hcS hD3 hM hm s11 (by omega) (i2.congr (fun i => j1 _ i (by omega)) fun i => j1 _ i (by omega)) (eI_abs (by omega) (by omega)) (by omega) fun D4 k1 => ?_
  rw [eI_pt]
  have b1 := bnd (rpt h w)
  have b2 := bnd (rpt h (w + 1))
  have K4 := K D4 fun c i c1 c2 => by rw [k1 c i c1, j1 c i c1, f2 c i c2]
  generalize vch (fun i => zF F n i (rpt h w)) m = X at *
  generalize vch (fun i => zF F n i (rpt h (w + 1))) m = Y at *
  simp only [P_X0_within, i_kil, i_icon, i_lcon, i_null, i_loadI, i_loadL, i_loadR, i_istore, i_lstore, i_astore, i_iinc, i_dup, i_dup2, i_pop, i_iadd, i_isub, i_imul, i_idiv, i_irem, i_ineg, i_iand, i_ior, i_ishl, i_ishr, i_lxor, i_ladd, i_lsub, i_lmul, i_ldiv, i_lrem, i_lneg, i_lshl, i_lcmp, i_i2l, i_l2i, i_i2b, i_i2s, i_ifeq, i_ifne, i_iflt, i_ifge, i_ifgt, i_ifle, i_cmpeq, i_cmpne, i_cmplt, i_cmpge, i_cmpgt, i_cmple, i_acmpeq, i_acmpne, i_ifnull, i_ifnonnull, i_getI, i_getR, i_putI, i_putZ, i_putR, i_ald, i_ldL, i_ldR, i_ast, i_stL, i_stR, i_alen, i_new, i_newa, i_iret, i_zret, i_lret, i_aret, i_vret, i_raise, i_throw, i_recv, i_objinit, i_tsw3, lget, lset, lput1, lput2, lkil, ltrim, largs, isL, takev, dropv, nthv, pushO, catv, gd, true_and, and_true, Option.some.injEq, Prod.mk.injEq, exists_eq_left', if_true, if_false, reduceCtorEq, Bool.false_eq_true, lcmp_ge, lcmp_lt, lcmp_le, lcmp_gt, lcmp_eq, true_or, or_true, not_true_eq_false, not_false_eq_true, false_implies, true_implies, List.length_cons, List.length_nil]
  exact ⟨in_small (by omega) (by omega), K4⟩
/-- .. of the first chain, which stands ready for p -/
theorem within_p {E : Ex} {B : Nat × Nat} {D : Dat} {b a h : Nat} {w : Int} {p : pf} (hS : rtS S C) (hb : b = C + 225 ∨ b = C + 445) (ha : reS S a) (na : a + 3 < C + 225 ∨ C + 697 < a) (hD : chB p D b) (h2 : D a 2 = h) (hw : wD 1 2 D (a + 2) w) (h0 : 0 ≤ w) (h1 : w < ((2 ^ h : Nat) : Int)) (hh : h ≤ 460)
    (K : ∀ D' : Dat, wtO C b D D' → chB p D' b → E (.inl (some (.inl (nR p h w)))) B S D') : Wp P_X0_within E 0 [some (aR C), some (aR b), some (aR a)] [] B S D := by
  obtain ⟨F, n, m, s, hm, hD', hM, hpc, hsm⟩ := hD
  refine sp_X0_within hS hb ha na hD' hM hm h2 hw h0 h1 hh fun D1 g1 => ?_
  have e : ∀ x, vch (fun i => zF F n i x) m = vP p x := fun x => (vP_eq ⟨s, zF F n, n, m, hsm, hpc, rfl⟩).symm
  rw [e, e]
  refine K D1 g1 ⟨F, n, m, s, hm, hD'.sg hm fun c i c1 c2 c3 => g1 c i c3 (by omega), hM, hpc, hsm⟩
theorem chB.congr {p : pf} {D D' : Dat} {b : Nat} (h : chB p D b) (e : ∀ c i, b ≤ c → c ≤ b + 219 → D' c i = D c i) : chB p D' b := by
  obtain ⟨F, n, m, s, h1, h2, h3⟩ := h
  exact ⟨F, n, m, s, h1, h2.congr h1 e, h3⟩
/-- the roots that are found -/
def rtL (D : Dat) (C : Nat) (f : Nat → Int) (d : Nat) (L : List (Nat × Int)) : Prop := D C 33 = (L.length : Int) ∧ L.length ≤ 8 ∧ ∀ (k : Nat) (x : Nat × Int), L[k]? = some x → reD D (C + 787 + 4 * k) f d x.1 0 x.2
/-- what the search changes -/
def sxO (C : Nat) (D D' : Dat) : Prop := ∀ c i, (c < C + 239 ∨ C + 246 < c) → (c < C + 692 ∨ C + 697 < c) → (c < C + 719 ∨ C + 722 < c) → (c < C + 787 ∨ C + 818 < c) → (c ≠ C ∨ i ≠ 33) → D' c i = D c i
theorem pw_h {h : Nat} {w : Int} (h0 : 0 ≤ w) (h1 : w < ((2 ^ h : Nat) : Int)) (hh : h ≤ 460) : (w.natAbs : Int) < 1000000000 ^ 16 := by
  have l46 : ((2 ^ 460 : Nat) : Int) < 1000000000 ^ 16 := two_pw (by decide)
  have lh : ((2 ^ h : Nat) : Int) ≤ ((2 ^ 460 : Nat) : Int) := Int.ofNat_le.mpr (pw_le2 hh)
  omega
theorem pw_h32 {h : Nat} {w : Int} (h0 : 0 ≤ w) (h1 : w < ((2 ^ h : Nat) : Int)) (hh : h ≤ 460) : (w.natAbs : Int) < 1000000000 ^ 32 := Int.lt_trans (pw_h h0 h1 hh) (Int.lt_of_le_of_lt (Int.le_refl _) (by
  have a : (1000000000 : Int) ^ 17 ≤ 1000000000 ^ 32 := pw_mono (by decide)
  have b := pw_succ 16
  have c := pw_pos 16
  omega))
set_option maxHeartbeats 2000000 in
/-- to the next span -/
theorem go_next {E : Ex} {B : Nat × Nat} (hS : rtS S C) {f : Nat → Int} {d : Nat} : ∀ (h : Nat) (w : Int) (D : Dat), h ≤ 460 → 0 ≤ w → w < ((2 ^ h : Nat) : Int) → reD D (C + 719) f d h 0 w →
    (∀ D' : Dat, (∀ c i, (c < C + 696 ∨ C + 697 < c) → (c < C + 719 ∨ C + 722 < c) → D' c i = D c i) → (nxt h w = none → E (.inl (some (.inl 0))) B S D') ∧ (∀ x, nxt h w = some x → reD D' (C + 719) f d x.1 0 x.2 → E (.inl (some (.inl 1))) B S D')) → Wp P_X0_goOn E 1 [some (aR C)] [] B S D := by
  obtain ⟨s1, s2, s3, s4, s5, s6, s7, s8, s9, s10, s11, s12, s13, s14, s15, -⟩ := hS
  obtain ⟨a1, a2, a3, a4, a5⟩ := s15
  have a6 := a5.1
  have o1 := s3.1
  have h1' := s13.1
  have last : ∀ (h : Nat) (w : Int) (D : Dat), h ≤ 460 → 0 ≤ w → w < ((2 ^ h : Nat) : Int) → reD D (C + 719) f d h 0 w → (h = 0 ∨ w % 2 ≠ 1) →
    (∀ D' : Dat, (∀ c i, (c < C + 696 ∨ C + 697 < c) → (c < C + 719 ∨ C + 722 < c) → D' c i = D c i) → (nxt h w = none → E (.inl (some (.inl 0))) B S D') ∧ (∀ x, nxt h w = some x → reD D' (C + 719) f d x.1 0 x.2 → E (.inl (some (.inl 1))) B S D')) → Wp P_X0_goOn E 2 [some (aR C)] [] B S D := by
    intro h w D hh h0 h1 hD hor K
    obtain ⟨k1, k2, k3, k4, k5⟩ := hD
    refine wp_in ?_
    simp only [P_X0_goOn, i_kil, i_icon, i_lcon, i_null, i_loadI, i_loadL, i_loadR, i_istore, i_lstore, i_astore, i_iinc, i_dup, i_dup2, i_pop, i_iadd, i_isub, i_imul, i_idiv, i_irem, i_ineg, i_iand, i_ior, i_ishl, i_ishr, i_lxor, i_ladd, i_lsub, i_lmul, i_ldiv, i_lrem, i_lneg, i_lshl, i_lcmp, i_i2l, i_l2i, i_i2b, i_i2s, i_ifeq, i_ifne, i_iflt, i_ifge, i_ifgt, i_ifle, i_cmpeq, i_cmpne, i_cmplt, i_cmpge, i_cmpgt, i_cmple, i_acmpeq, i_acmpne, i_ifnull, i_ifnonnull, i_getI, i_getR, i_putI, i_putZ, i_putR, i_ald, i_ldL, i_ldR, i_ast, i_stL, i_stR, i_alen, i_new, i_newa, i_iret, i_zret, i_lret, i_aret, i_vret, i_raise, i_throw, i_recv, i_objinit, i_tsw3, lget, lset, lput1, lput2, lkil, ltrim, largs, isL, takev, dropv, nthv, pushO, catv, gd, true_and, and_true, Option.some.injEq, Prod.mk.injEq, exists_eq_left', if_true, if_false, reduceCtorEq, Bool.false_eq_true, lcmp_ge, lcmp_lt, lcmp_le, lcmp_gt, lcmp_eq, true_or, or_true, not_true_eq_false, not_false_eq_true, false_implies, true_implies, List.length_cons, List.length_nil, s1, s14, a1, k3]
    refine ⟨fun q => ?_, fun q => ?_⟩
    · have hw2 : w % 2 ≠ 1 := by rcases hor with r | r <;> omega
      obtain ⟨h', rfl⟩ : ∃ h', h = h' + 1 := ⟨h - 1, by omega⟩
      simp only [P_X0_goOn, i_kil, i_icon, i_lcon, i_null, i_loadI, i_loadL, i_loadR, i_istore, i_lstore, i_astore, i_iinc, i_dup, i_dup2, i_pop, i_iadd, i_isub, i_imul, i_idiv, i_irem, i_ineg, i_iand, i_ior, i_ishl, i_ishr, i_lxor, i_ladd, i_lsub, i_lmul, i_ldiv, i_lrem, i_lneg, i_lshl, i_lcmp, i_i2l, i_l2i, i_i2b, i_i2s, i_ifeq, i_ifne, i_iflt, i_ifge, i_ifgt, i_ifle, i_cmpeq, i_cmpne, i_cmplt, i_cmpge, i_cmpgt, i_cmple, i_acmpeq, i_acmpne, i_ifnull, i_ifnonnull, i_getI, i_getR, i_putI, i_putZ, i_putR, i_ald, i_ldL, i_ldR, i_ast, i_stL, i_stR, i_alen, i_new, i_newa, i_iret, i_zret, i_lret, i_aret, i_vret, i_raise, i_throw, i_recv, i_objinit, i_tsw3, lget, lset, lput1, lput2, lkil, ltrim, largs, isL, takev, dropv, nthv, pushO, catv, gd, true_and, and_true, Option.some.injEq, Prod.mk.injEq, exists_eq_left', if_true, if_false, reduceCtorEq, Bool.false_eq_true, lcmp_ge, lcmp_lt, lcmp_le, lcmp_gt, lcmp_eq, true_or, or_true, not_true_eq_false, not_false_eq_true, false_implies, true_implies, List.length_cons, List.length_nil, s1, s12]
      repeat (first | refine ⟨in_small (by omega) (by omega), ?_⟩ | (show (_ → _) ∧ (_ → _); first | refine ⟨by omega, fun _ => ?_⟩ | refine ⟨fun _ => ?_, by omega⟩) | refine ⟨by omega, ?_⟩ | refine ⟨⟨_, rfl, by assumption⟩, ?_⟩ | refine ⟨okT_I _, ?_⟩ | refine ⟨okT_S (by omega) (by omega), ?_⟩ | refine ⟨okT_B (by omega) (by omega), ?_⟩ | refine call0 (gd_of rfl) ?_)
      refine sp_X3_set s13 (by decide) (by decide) (by omega) fun D1 g1 g2 => ?_
      simp only [P_X0_goOn, i_kil, i_icon, i_lcon, i_null, i_loadI, i_loadL, i_loadR, i_istore, i_lstore, i_astore, i_iinc, i_dup, i_dup2, i_pop, i_iadd, i_isub, i_imul, i_idiv, i_irem, i_ineg, i_iand, i_ior, i_ishl, i_ishr, i_lxor, i_ladd, i_lsub, i_lmul, i_ldiv, i_lrem, i_lneg, i_lshl, i_lcmp, i_i2l, i_l2i, i_i2b, i_i2s, i_ifeq, i_ifne, i_iflt, i_ifge, i_ifgt, i_ifle, i_cmpeq, i_cmpne, i_cmplt, i_cmpge, i_cmpgt, i_cmple, i_acmpeq, i_acmpne, i_ifnull, i_ifnonnull, i_getI, i_getR, i_putI, i_putZ, i_putR, i_ald, i_ldL, i_ldR, i_ast, i_stL, i_stR, i_alen, i_new, i_newa, i_iret, i_zret, i_lret, i_aret, i_vret, i_raise, i_throw, i_recv, i_objinit, i_tsw3, lget, lset, lput1, lput2, lkil, ltrim, largs, isL, takev, dropv, nthv, pushO, catv, gd, true_and, and_true, Option.some.injEq, Prod.mk.injEq, exists_eq_left', if_true, if_false, reduceCtorEq, Bool.false_eq_true, lcmp_ge, lcmp_lt, lcmp_le, lcmp_gt, lcmp_eq, true_or, or_true, not_true_eq_false, not_false_eq_true, false_implies, true_implies, List.length_cons, List.length_nil, s1, s2, s12, s14, a1, a4]
      repeat (first | refine ⟨in_small (by omega) (by omega), ?_⟩ | (show (_ → _) ∧ (_ → _); first | refine ⟨by omega, fun _ => ?_⟩ | refine ⟨fun _ => ?_, by omega⟩) | refine ⟨by omega, ?_⟩ | refine ⟨⟨_, rfl, by assumption⟩, ?_⟩ | refine ⟨okT_I _, ?_⟩ | refine ⟨okT_S (by omega) (by omega), ?_⟩ | refine ⟨okT_B (by omega) (by omega), ?_⟩ | refine call0 (gd_of rfl) ?_)
      have lw := pw_h h0 h1 hh
      have p16 : (1000000000 : Int) ^ 16 ≤ 1000000000 ^ 32 := pw_mono (by decide)
      have p32 : (1000000000 : Int) ^ 32 ≤ 1000000000 ^ 160 := pw_mono (by decide)
      have p1 : (1 : Int) < 1000000000 ^ 16 := two_pw (x := 0) (p := 16) (by decide)
      have p17 : (1000000000 : Int) ^ 17 ≤ 1000000000 ^ 32 := pw_mono (by decide)
      have e17 := pw_succ 16
      have k5' : wD 1 2 D1 (C + 721) w := k5.congr (fun i => g1 _ i (by omega) (by omega)) fun i => g1 _ i (by omega) (by omega)
      refine sp_X2_add o1 a5 a5 s13 k5' g2 (.inl rfl) (by omega) (by omega) (by omega) (by decide) (by decide) (by decide) fun D2 i1 i2 => ?_
      simp only [P_X0_goOn, i_kil, i_icon, i_lcon, i_null, i_loadI, i_loadL, i_loadR, i_istore, i_lstore, i_astore, i_iinc, i_dup, i_dup2, i_pop, i_iadd, i_isub, i_imul, i_idiv, i_irem, i_ineg, i_iand, i_ior, i_ishl, i_ishr, i_lxor, i_ladd, i_lsub, i_lmul, i_ldiv, i_lrem, i_lneg, i_lshl, i_lcmp, i_i2l, i_l2i, i_i2b, i_i2s, i_ifeq, i_ifne, i_iflt, i_ifge, i_ifgt, i_ifle, i_cmpeq, i_cmpne, i_cmplt, i_cmpge, i_cmpgt, i_cmple, i_acmpeq, i_acmpne, i_ifnull, i_ifnonnull, i_getI, i_getR, i_putI, i_putZ, i_putR, i_ald, i_ldL, i_ldR, i_ast, i_stL, i_stR, i_alen, i_new, i_newa, i_iret, i_zret, i_lret, i_aret, i_vret, i_raise, i_throw, i_recv, i_objinit, i_tsw3, lget, lset, lput1, lput2, lkil, ltrim, largs, isL, takev, dropv, nthv, pushO, catv, gd, true_and, and_true, Option.some.injEq, Prod.mk.injEq, exists_eq_left', if_true, if_false, reduceCtorEq, Bool.false_eq_true, lcmp_ge, lcmp_lt, lcmp_le, lcmp_gt, lcmp_eq, true_or, or_true, not_true_eq_false, not_false_eq_true, false_implies, true_implies, List.length_cons, List.length_nil]
      have fr : ∀ c i, (c < C + 696 ∨ C + 697 < c) → (c < C + 721 ∨ C + 722 < c) → D2 c i = D c i := fun c i c1 c2 => by rw [i1 c i (by omega) (by omega), g1 c i (by omega) (by omega)]
      have hx : nxt (h' + 1) w = some (h' + 1, w + 1) := by simp only [nxt]; rw [if_neg hw2]
      rw [show w + 1 * 1 = w + 1 by omega] at i2
      exact (K D2 fun c i c1 c2 => fr c i c1 (by omega)).2 _ hx ⟨fun k hk => by rw [fr _ _ (by omega) (by omega)]; exact k1 k hk, by rw [fr _ _ (by omega) (by omega)]; exact k2, by rw [fr _ _ (by omega) (by omega)]; exact k3, by rw [fr _ _ (by omega) (by omega)]; exact k4, i2⟩
    · have : h = 0 := by omega
      subst this
      exact (K D fun c i _ _ => rfl).1 rfl
  intro h
  induction h with
  | zero =>
    intro w D hh h0 h1 hD K
    have k3 := hD.2.2.1
    refine wp_in ?_
    simp only [P_X0_goOn, i_kil, i_icon, i_lcon, i_null, i_loadI, i_loadL, i_loadR, i_istore, i_lstore, i_astore, i_iinc, i_dup, i_dup2, i_pop, i_iadd, i_isub, i_imul, i_idiv, i_irem, i_ineg, i_iand, i_ior, i_ishl, i_ishr, i_lxor, i_ladd, i_lsub, i_lmul, i_ldiv, i_lrem, i_lneg, i_lshl, i_lcmp, i_i2l, i_l2i, i_i2b, i_i2s, i_ifeq, i_ifne, i_iflt, i_ifge, i_ifgt, i_ifle, i_cmpeq, i_cmpne, i_cmplt, i_cmpge, i_cmpgt, i_cmple, i_acmpeq, i_acmpne, i_ifnull, i_ifnonnull, i_getI, i_getR, i_putI, i_putZ, i_putR, i_ald, i_ldL, i_ldR, i_ast, i_stL, i_stR, i_alen, i_new, i_newa, i_iret, i_zret, i_lret, i_aret, i_vret, i_raise, i_throw, i_recv, i_objinit, i_tsw3, lget, lset, lput1, lput2, lkil, ltrim, largs, isL, takev, dropv, nthv, pushO, catv, gd, true_and, and_true, Option.some.injEq, Prod.mk.injEq, exists_eq_left', if_true, if_false, reduceCtorEq, Bool.false_eq_true, lcmp_ge, lcmp_lt, lcmp_le, lcmp_gt, lcmp_eq, true_or, or_true, not_true_eq_false, not_false_eq_true, false_implies, true_implies, List.length_cons, List.length_nil, s1, s14, a1, k3]
    refine ⟨fun _ => last 0 w D hh h0 h1 hD (.inl rfl) K, fun q => absurd q (by decide)⟩
  | succ h ih =>
    intro w D hh h0 h1 hD K
    have k3 := hD.2.2.1
    have k5 := hD.2.2.2.2
    have lw := pw_h h0 h1 hh
    have p16 : (1000000000 : Int) ^ 16 ≤ 1000000000 ^ 32 := pw_mono (by decide)
    refine wp_in ?_
    simp only [P_X0_goOn, i_kil, i_icon, i_lcon, i_null, i_loadI, i_loadL, i_loadR, i_istore, i_lstore, i_astore, i_iinc, i_dup, i_dup2, i_pop, i_iadd, i_isub, i_imul, i_idiv, i_irem, i_ineg, i_iand, i_ior, i_ishl, i_ishr, i_lxor, i_ladd, i_lsub, i_lmul, i_ldiv, i_lrem, i_lneg, i_lshl, i_lcmp, i_i2l, i_l2i, i_i2b, i_i2s, i_ifeq, i_ifne, i_iflt, i_ifge, i_ifgt, i_ifle, i_cmpeq, i_cmpne, i_cmplt, i_cmpge, i_cmpgt, i_cmple, i_acmpeq, i_acmpne, i_ifnull, i_ifnonnull, i_getI, i_getR, i_putI, i_putZ, i_putR, i_ald, i_ldL, i_ldR, i_ast, i_stL, i_stR, i_alen, i_new, i_newa, i_iret, i_zret, i_lret, i_aret, i_vret, i_raise, i_throw, i_recv, i_objinit, i_tsw3, lget, lset, lput1, lput2, lkil, ltrim, largs, isL, takev, dropv, nthv, pushO, catv, gd, true_and, and_true, Option.some.injEq, Prod.mk.injEq, exists_eq_left', if_true, if_false, reduceCtorEq, Bool.false_eq_true, lcmp_ge, lcmp_lt, lcmp_le, lcmp_gt, lcmp_eq, true_or, or_true, not_true_eq_false, not_false_eq_true, false_implies, true_implies, List.length_cons, List.length_nil, s1, s14, a1, a4, k3]
    refine ⟨fun q => by omega, fun _ => ?_⟩
    repeat (first | refine ⟨in_small (by omega) (by omega), ?_⟩ | (show (_ → _) ∧ (_ → _); first | refine ⟨by omega, fun _ => ?_⟩ | refine ⟨fun _ => ?_, by omega⟩) | refine ⟨by omega, ?_⟩ | refine ⟨⟨_, rfl, by assumption⟩, ?_⟩ | refine ⟨okT_I _, ?_⟩ | refine ⟨okT_S (by omega) (by omega), ?_⟩ | refine ⟨okT_B (by omega) (by omega), ?_⟩ | refine call0 (gd_of rfl) ?_)
    refine sp_X3_isOdd a5 k5 (by decide) (by decide) ?_
    simp only [P_X0_goOn, i_kil, i_icon, i_lcon, i_null, i_loadI, i_loadL, i_loadR, i_istore, i_lstore, i_astore, i_iinc, i_dup, i_dup2, i_pop, i_iadd, i_isub, i_imul, i_idiv, i_irem, i_ineg, i_iand, i_ior, i_ishl, i_ishr, i_lxor, i_ladd, i_lsub, i_lmul, i_ldiv, i_lrem, i_lneg, i_lshl, i_lcmp, i_i2l, i_l2i, i_i2b, i_i2s, i_ifeq, i_ifne, i_iflt, i_ifge, i_ifgt, i_ifle, i_cmpeq, i_cmpne, i_cmplt, i_cmpge, i_cmpgt, i_cmple, i_acmpeq, i_acmpne, i_ifnull, i_ifnonnull, i_getI, i_getR, i_putI, i_putZ, i_putR, i_ald, i_ldL, i_ldR, i_ast, i_stL, i_stR, i_alen, i_new, i_newa, i_iret, i_zret, i_lret, i_aret, i_vret, i_raise, i_throw, i_recv, i_objinit, i_tsw3, lget, lset, lput1, lput2, lkil, ltrim, largs, isL, takev, dropv, nthv, pushO, catv, gd, true_and, and_true, Option.some.injEq, Prod.mk.injEq, exists_eq_left', if_true, if_false, reduceCtorEq, Bool.false_eq_true, lcmp_ge, lcmp_lt, lcmp_le, lcmp_gt, lcmp_eq, true_or, or_true, not_true_eq_false, not_false_eq_true, false_implies, true_implies, List.length_cons, List.length_nil, s1, s14, a1, a4]
    refine ⟨fun q => last (h + 1) w D hh h0 h1 hD (.inr (by omega)) K, fun q => ?_⟩
    repeat (first | refine ⟨in_small (by omega) (by omega), ?_⟩ | (show (_ → _) ∧ (_ → _); first | refine ⟨by omega, fun _ => ?_⟩ | refine ⟨fun _ => ?_, by omega⟩) | refine ⟨by omega, ?_⟩ | refine ⟨⟨_, rfl, by assumption⟩, ?_⟩ | refine ⟨okT_I _, ?_⟩ | refine ⟨okT_S (by omega) (by omega), ?_⟩ | refine ⟨okT_B (by omega) (by omega), ?_⟩ | refine call0 (gd_of rfl) ?_)
    refine sp_X3_halve a5 k5 (by omega) (by decide) fun D1 g1 g2 => ?_
    have e3 : D1 (C + 719) 2 = ((h + 1 : Nat) : Int) := by rw [g1 _ _ (by omega) (by omega)]; exact k3
    simp only [P_X0_goOn, i_kil, i_icon, i_lcon, i_null, i_loadI, i_loadL, i_loadR, i_istore, i_lstore, i_astore, i_iinc, i_dup, i_dup2, i_pop, i_iadd, i_isub, i_imul, i_idiv, i_irem, i_ineg, i_iand, i_ior, i_ishl, i_ishr, i_lxor, i_ladd, i_lsub, i_lmul, i_ldiv, i_lrem, i_lneg, i_lshl, i_lcmp, i_i2l, i_l2i, i_i2b, i_i2s, i_ifeq, i_ifne, i_iflt, i_ifge, i_ifgt, i_ifle, i_cmpeq, i_cmpne, i_cmplt, i_cmpge, i_cmpgt, i_cmple, i_acmpeq, i_acmpne, i_ifnull, i_ifnonnull, i_getI, i_getR, i_putI, i_putZ, i_putR, i_ald, i_ldL, i_ldR, i_ast, i_stL, i_stR, i_alen, i_new, i_newa, i_iret, i_zret, i_lret, i_aret, i_vret, i_raise, i_throw, i_recv, i_objinit, i_tsw3, lget, lset, lput1, lput2, lkil, ltrim, largs, isL, takev, dropv, nthv, pushO, catv, gd, true_and, and_true, Option.some.injEq, Prod.mk.injEq, exists_eq_left', if_true, if_false, reduceCtorEq, Bool.false_eq_true, lcmp_ge, lcmp_lt, lcmp_le, lcmp_gt, lcmp_eq, true_or, or_true, not_true_eq_false, not_false_eq_true, false_implies, true_implies, List.length_cons, List.length_nil, s1, s14, a1, a4, e3]
    repeat (first | refine ⟨in_small (by omega) (by omega), ?_⟩ | (show (_ → _) ∧ (_ → _); first | refine ⟨by omega, fun _ => ?_⟩ | refine ⟨fun _ => ?_, by omega⟩) | refine ⟨by omega, ?_⟩ | refine ⟨⟨_, rfl, by assumption⟩, ?_⟩ | refine ⟨okT_I _, ?_⟩ | refine ⟨okT_S (by omega) (by omega), ?_⟩ | refine ⟨okT_B (by omega) (by omega), ?_⟩ | refine call0 (gd_of rfl) ?_)
    have hw2 : w % 2 = 1 := by have := Int.emod_two_eq w; omega
    have et : w.tdiv 2 = w / 2 := Int.tdiv_eq_ediv_of_nonneg h0
    rw [et] at g2
    have hlt : w / 2 < ((2 ^ h : Nat) : Int) := by rw [Nat.pow_succ] at h1; omega
    have hn : nxt (h + 1) w = nxt h (w / 2) := by show (if w % 2 = 1 then nxt h (w / 2) else some (h + 1, w + 1)) = _; rw [if_pos hw2]
    rw [hn] at K
    have fr : ∀ c i, (c < C + 721 ∨ C + 722 < c) → (c ≠ C + 719 ∨ i ≠ 2) → pmu D1 (C + 719) 2 (((h + 1 : Nat) : Int) - 1) c i = D c i := fun c i c1 c2 => by
      simp only [pmu]; rw [if_neg (by omega)]; exact g1 c i (by omega) (by omega)
    obtain ⟨k1, k2, -, k4, -⟩ := hD
    refine ih (w / 2) _ (by omega) (by omega) hlt ⟨fun k hk => by rw [fr _ _ (by omega) (by omega)]; exact k1 k hk, by rw [fr _ _ (by omega) (by omega)]; exact k2, by simp only [pmu, and_self, if_true]; omega, by rw [fr _ _ (by omega) (by omega)]; exact k4, g2.congr (fun i => by simp only [pmu]; rw [if_neg (by omega)]) fun i => by simp only [pmu]; rw [if_neg (by omega)]⟩ fun D' q1 => ?_
    exact K D' fun c i c1 c2 => by rw [q1 c i c1 c2, fr c i (by omega) (by omega)]
theorem sxO.tr {D D1 D2 : Dat} (h : sxO C D D1) (k : sxO C D1 D2) : sxO C D D2 := fun c i c1 c2 c3 c4 c5 => by rw [k c i c1 c2 c3 c4 c5]; exact h c i c1 c2 c3 c4 c5
theorem rtL.congr {D D' : Dat} {f : Nat → Int} {d : Nat} {L : List (Nat × Int)} (h : rtL D C f d L) (e : ∀ c i, (c = C ∧ i = 33) ∨ (C + 787 ≤ c ∧ c ≤ C + 818) → D' c i = D c i) : rtL D' C f d L := by
  obtain ⟨h1, h2, h3⟩ := h
  refine ⟨by rw [e _ _ (by omega)]; exact h1, h2, fun k x hx => (h3 k x hx).congr fun c i c1 c2 => e c i ?_⟩
  have := List.getElem?_eq_some_iff.mp hx
  obtain ⟨hk, -⟩ := this
  omega
set_option maxHeartbeats 2000000 in
/-- one look at a span -/
theorem sp_X0_goOn {E : Ex} {B : Nat × Nat} (hS : rtS S C) {f : Nat → Int} {d : Nat} {p : pf} {D : Dat} {h : Nat} {w : Int} {L : List (Nat × Int)} (hh : h ≤ 459) (h0 : 0 ≤ w) (h1 : w < ((2 ^ h : Nat) : Int)) (hD : reD D (C + 719) f d h 0 w) (hB : chB p D (C + 225)) (hL : rtL D C f d L) (h8 : nR p h w = 1 → L.length < 8)
    (K1 : 1 < nR p h w → ∀ D' : Dat, sxO C D D' → chB p D' (C + 225) → rtL D' C f d L → reD D' (C + 719) f d (h + 1) 0 (2 * w) → E (.inl (some (.inl 1))) B S D')
    (K2 : ¬ 1 < nR p h w → ∀ D' : Dat, sxO C D D' → chB p D' (C + 225) → rtL D' C f d (L ++ (if nR p h w = 1 then [(h, w)] else [])) → (nxt h w = none → E (.inl (some (.inl 0))) B S D') ∧ (∀ x, nxt h w = some x → reD D' (C + 719) f d x.1 0 x.2 → E (.inl (some (.inl 1))) B S D')) : Wp P_X0_goOn E 0 [some (aR C)] [] B S D := by
  have hS0 := hS
  obtain ⟨s1, s2, s3, s4, s5, s6, s7, s8, s9, s10, s11, s12, s13, s14, s15, s16, s17, s18, s19, s20, -⟩ := hS
  have a1 := s15.1
  have c1 := s5.2.1
  refine wp_in ?_
  simp only [P_X0_goOn, i_kil, i_icon, i_lcon, i_null, i_loadI, i_loadL, i_loadR, i_istore, i_lstore, i_astore, i_iinc, i_dup, i_dup2, i_pop, i_iadd, i_isub, i_imul, i_idiv, i_irem, i_ineg, i_iand, i_ior, i_ishl, i_ishr, i_lxor, i_ladd, i_lsub, i_lmul, i_ldiv, i_lrem, i_lneg, i_lshl, i_lcmp, i_i2l, i_l2i, i_i2b, i_i2s, i_ifeq, i_ifne, i_iflt, i_ifge, i_ifgt, i_ifle, i_cmpeq, i_cmpne, i_cmplt, i_cmpge, i_cmpgt, i_cmple, i_acmpeq, i_acmpne, i_ifnull, i_ifnonnull, i_getI, i_getR, i_putI, i_putZ, i_putR, i_ald, i_ldL, i_ldR, i_ast, i_stL, i_stR, i_alen, i_new, i_newa, i_iret, i_zret, i_lret, i_aret, i_vret, i_raise, i_throw, i_recv, i_objinit, i_tsw3, lget, lset, lput1, lput2, lkil, ltrim, largs, isL, takev, dropv, nthv, pushO, catv, gd, true_and, and_true, Option.some.injEq, Prod.mk.injEq, exists_eq_left', if_true, if_false, reduceCtorEq, Bool.false_eq_true, lcmp_ge, lcmp_lt, lcmp_le, lcmp_gt, lcmp_eq, true_or, or_true, not_true_eq_false, not_false_eq_true, false_implies, true_implies, List.length_cons, List.length_nil, s1, s4, s14]
  repeat (first | refine ⟨in_small (by omega) (by omega), ?_⟩ | (show (_ → _) ∧ (_ → _); first | refine ⟨by omega, fun _ => ?_⟩ | refine ⟨fun _ => ?_, by omega⟩) | refine ⟨by omega, ?_⟩ | refine ⟨⟨_, rfl, by assumption⟩, ?_⟩ | refine ⟨okT_I _, ?_⟩ | refine ⟨okT_S (by omega) (by omega), ?_⟩ | refine ⟨okT_B (by omega) (by omega), ?_⟩ | refine call0 (gd_of rfl) ?_)
  refine within_p hS0 (.inl rfl) s15 (by omega) hB hD.2.2.1 hD.2.2.2.2 h0 h1 (by omega) fun D1 g1 hB1 => ?_
  have fx : sxO C D D1 := fun c i c1 c2 c3 c4 c5 => g1 c i (by omega) c2
  have hD1 : reD D1 (C + 719) f d h 0 w := hD.congr fun c i c1 c2 => g1 c i (by omega) (by omega)
  have hL1 : rtL D1 C f d L := hL.congr fun c i c1 => g1 c i (by omega) (by omega)
  have chk : ∀ {D2 D3 : Dat}, chB p D2 (C + 225) → (∀ c i, C + 225 ≤ c → c ≤ C + 444 → D3 c i = D2 c i) → chB p D3 (C + 225) := fun hb e => hb.congr fun c i c1 c2 => e c i c1 (by omega)
  -- behind what is recorded
  have next : ∀ (D2 : Dat), ¬ 1 < nR p h w → sxO C D D2 → chB p D2 (C + 225) → rtL D2 C f d (L ++ (if nR p h w = 1 then [(h, w)] else [])) → reD D2 (C + 719) f d h 0 w → Wp P_X0_goOn E 1 [some (aR C)] [] B S D2 := fun D2 hn f2 hB2 hL2 hD2 => by
    refine go_next hS0 h w D2 (by omega) h0 h1 hD2 fun D3 q => ?_
    exact K2 hn D3 (f2.tr fun c i c1 c2 c3 c4 c5 => q c i (by omega) (by omega)) (chk hB2 fun c i c1 c2 => q c i (by omega) (by omega)) (hL2.congr fun c i c1 => q c i (by omega) (by omega))
  generalize hN : nR p h w = N at *
  simp only [P_X0_goOn, i_kil, i_icon, i_lcon, i_null, i_loadI, i_loadL, i_loadR, i_istore, i_lstore, i_astore, i_iinc, i_dup, i_dup2, i_pop, i_iadd, i_isub, i_imul, i_idiv, i_irem, i_ineg, i_iand, i_ior, i_ishl, i_ishr, i_lxor, i_ladd, i_lsub, i_lmul, i_ldiv, i_lrem, i_lneg, i_lshl, i_lcmp, i_i2l, i_l2i, i_i2b, i_i2s, i_ifeq, i_ifne, i_iflt, i_ifge, i_ifgt, i_ifle, i_cmpeq, i_cmpne, i_cmplt, i_cmpge, i_cmpgt, i_cmple, i_acmpeq, i_acmpne, i_ifnull, i_ifnonnull, i_getI, i_getR, i_putI, i_putZ, i_putR, i_ald, i_ldL, i_ldR, i_ast, i_stL, i_stR, i_alen, i_new, i_newa, i_iret, i_zret, i_lret, i_aret, i_vret, i_raise, i_throw, i_recv, i_objinit, i_tsw3, lget, lset, lput1, lput2, lkil, ltrim, largs, isL, takev, dropv, nthv, pushO, catv, gd, true_and, and_true, Option.some.injEq, Prod.mk.injEq, exists_eq_left', if_true, if_false, reduceCtorEq, Bool.false_eq_true, lcmp_ge, lcmp_lt, lcmp_le, lcmp_gt, lcmp_eq, true_or, or_true, not_true_eq_false, not_false_eq_true, false_implies, true_implies, List.length_cons, List.length_nil]
  refine ⟨fun q => ?_, fun q => ?_⟩
  · refine ⟨fun r => ?_, fun r => ?_⟩
    · refine next D1 (by omega) fx hB1 ?_ hD1
      rw [if_neg r, List.append_nil]; exact hL1
    · obtain ⟨l1, l2, l3⟩ := hL1
      have hl := h8 r
      obtain ⟨b1, b2⟩ := s20 L.length hl
      have b3 := b2.1
      simp only [P_X0_goOn, i_kil, i_icon, i_lcon, i_null, i_loadI, i_loadL, i_loadR, i_istore, i_lstore, i_astore, i_iinc, i_dup, i_dup2, i_pop, i_iadd, i_isub, i_imul, i_idiv, i_irem, i_ineg, i_iand, i_ior, i_ishl, i_ishr, i_lxor, i_ladd, i_lsub, i_lmul, i_ldiv, i_lrem, i_lneg, i_lshl, i_lcmp, i_i2l, i_l2i, i_i2b, i_i2s, i_ifeq, i_ifne, i_iflt, i_ifge, i_ifgt, i_ifle, i_cmpeq, i_cmpne, i_cmplt, i_cmpge, i_cmpgt, i_cmple, i_acmpeq, i_acmpne, i_ifnull, i_ifnonnull, i_getI, i_getR, i_putI, i_putZ, i_putR, i_ald, i_ldL, i_ldR, i_ast, i_stL, i_stR, i_alen, i_new, i_newa, i_iret, i_zret, i_lret, i_aret, i_vret, i_raise, i_throw, i_recv, i_objinit, i_tsw3, lget, lset, lput1, lput2, lkil, ltrim, largs, isL, takev, dropv, nthv, pushO, catv, gd, true_and, and_true, Option.some.injEq, Prod.mk.injEq, exists_eq_left', if_true, if_false, reduceCtorEq, Bool.false_eq_true, lcmp_ge, lcmp_lt, lcmp_le, lcmp_gt, lcmp_eq, true_or, or_true, not_true_eq_false, not_false_eq_true, false_implies, true_implies, List.length_cons, List.length_nil, s1, s14, s18, s19, l1, b1]
      repeat (first | refine ⟨in_small (by omega) (by omega), ?_⟩ | (show (_ → _) ∧ (_ → _); first | refine ⟨by omega, fun _ => ?_⟩ | refine ⟨fun _ => ?_, by omega⟩) | refine ⟨by omega, ?_⟩ | refine ⟨⟨_, rfl, by assumption⟩, ?_⟩ | refine ⟨okT_I _, ?_⟩ | refine ⟨okT_S (by omega) (by omega), ?_⟩ | refine ⟨okT_B (by omega) (by omega), ?_⟩ | refine call0 (gd_of rfl) ?_)
      refine sp_X13_be b2 s15 (by omega) hD1 (pw_h32 h0 h1 (by omega)) fun D2 i1 i2 => ?_
      have i1' : ∀ c i, (c < C + 787 ∨ C + 818 < c) → D2 c i = D1 c i := fun c i w => i1 c i (by omega)
      have l1' : D2 C 33 = (L.length : Int) := by rw [i1' _ _ (by omega)]; exact l1
      simp only [P_X0_goOn, i_kil, i_icon, i_lcon, i_null, i_loadI, i_loadL, i_loadR, i_istore, i_lstore, i_astore, i_iinc, i_dup, i_dup2, i_pop, i_iadd, i_isub, i_imul, i_idiv, i_irem, i_ineg, i_iand, i_ior, i_ishl, i_ishr, i_lxor, i_ladd, i_lsub, i_lmul, i_ldiv, i_lrem, i_lneg, i_lshl, i_lcmp, i_i2l, i_l2i, i_i2b, i_i2s, i_ifeq, i_ifne, i_iflt, i_ifge, i_ifgt, i_ifle, i_cmpeq, i_cmpne, i_cmplt, i_cmpge, i_cmpgt, i_cmple, i_acmpeq, i_acmpne, i_ifnull, i_ifnonnull, i_getI, i_getR, i_putI, i_putZ, i_putR, i_ald, i_ldL, i_ldR, i_ast, i_stL, i_stR, i_alen, i_new, i_newa, i_iret, i_zret, i_lret, i_aret, i_vret, i_raise, i_throw, i_recv, i_objinit, i_tsw3, lget, lset, lput1, lput2, lkil, ltrim, largs, isL, takev, dropv, nthv, pushO, catv, gd, true_and, and_true, Option.some.injEq, Prod.mk.injEq, exists_eq_left', if_true, if_false, reduceCtorEq, Bool.false_eq_true, lcmp_ge, lcmp_lt, lcmp_le, lcmp_gt, lcmp_eq, true_or, or_true, not_true_eq_false, not_false_eq_true, false_implies, true_implies, List.length_cons, List.length_nil, s1, l1']
      repeat (first | refine ⟨in_small (by omega) (by omega), ?_⟩ | (show (_ → _) ∧ (_ → _); first | refine ⟨by omega, fun _ => ?_⟩ | refine ⟨fun _ => ?_, by omega⟩) | refine ⟨by omega, ?_⟩ | refine ⟨⟨_, rfl, by assumption⟩, ?_⟩ | refine ⟨okT_I _, ?_⟩ | refine ⟨okT_S (by omega) (by omega), ?_⟩ | refine ⟨okT_B (by omega) (by omega), ?_⟩ | refine call0 (gd_of rfl) ?_)
      refine next _ (by omega) (fun c i c1 c2 c3 c4 c5 => ?_) (chk hB1 fun c i c1 c2 => ?_) ?_ (hD1.congr fun c i c1 c2 => ?_)
      · simp only [pmu]; rw [if_neg (by omega), i1' c i (by omega)]; exact fx c i c1 c2 c3 c4 c5
      · simp only [pmu]; rw [if_neg (by omega)]; exact i1' c i (by omega)
      · rw [if_pos r]
        refine ⟨by simp only [pmu, and_self, if_true, List.length_append, List.length_cons, List.length_nil]; omega, by simp only [List.length_append, List.length_cons, List.length_nil]; omega, fun k x hx => ?_⟩
        have hk := (List.getElem?_eq_some_iff.mp hx).1
        simp only [List.length_append, List.length_cons, List.length_nil] at hk
        rcases Nat.lt_or_ge k L.length with z | z
        · rw [List.getElem?_append_left z] at hx
          refine (l3 k x hx).congr fun c i c1 c2 => ?_
          simp only [pmu]; rw [if_neg (by omega)]
          exact i1 c i (by omega)
        · have ek : k = L.length := by omega
          subst ek
          rw [List.getElem?_append_right (Nat.le_refl _), Nat.sub_self] at hx
          simp only [List.getElem?_cons_zero, Option.some.injEq] at hx
          subst hx
          exact i2.congr fun c i c1 c2 => by simp only [pmu]; rw [if_neg (by omega)]
      · simp only [pmu]; rw [if_neg (by omega)]; exact i1' c i (by omega)
  · simp only [P_X0_goOn, i_kil, i_icon, i_lcon, i_null, i_loadI, i_loadL, i_loadR, i_istore, i_lstore, i_astore, i_iinc, i_dup, i_dup2, i_pop, i_iadd, i_isub, i_imul, i_idiv, i_irem, i_ineg, i_iand, i_ior, i_ishl, i_ishr, i_lxor, i_ladd, i_lsub, i_lmul, i_ldiv, i_lrem, i_lneg, i_lshl, i_lcmp, i_i2l, i_l2i, i_i2b, i_i2s, i_ifeq, i_ifne, i_iflt, i_ifge, i_ifgt, i_ifle, i_cmpeq, i_cmpne, i_cmplt, i_cmpge, i_cmpgt, i_cmple, i_acmpeq, i_acmpne, i_ifnull, i_ifnonnull, i_getI, i_getR, i_putI, i_putZ, i_putR, i_ald, i_ldL, i_ldR, i_ast, i_stL, i_stR, i_alen, i_new, i_newa, i_iret, i_zret, i_lret, i_aret, i_vret, i_raise, i_throw, i_recv, i_objinit, i_tsw3, lget, lset, lput1, lput2, lkil, ltrim, largs, isL, takev, dropv, nthv, pushO, catv, gd, true_and, and_true, Option.some.injEq, Prod.mk.injEq, exists_eq_left', if_true, if_false, reduceCtorEq, Bool.false_eq_true, lcmp_ge, lcmp_lt, lcmp_le, lcmp_gt, lcmp_eq, true_or, or_true, not_true_eq_false, not_false_eq_true, false_implies, true_implies, List.length_cons, List.length_nil, s1, s14]
    repeat (first | refine ⟨in_small (by omega) (by omega), ?_⟩ | (show (_ → _) ∧ (_ → _); first | refine ⟨by omega, fun _ => ?_⟩ | refine ⟨fun _ => ?_, by omega⟩) | refine ⟨by omega, ?_⟩ | refine ⟨⟨_, rfl, by assumption⟩, ?_⟩ | refine ⟨okT_I _, ?_⟩ | refine ⟨okT_S (by omega) (by omega), ?_⟩ | refine ⟨okT_B (by omega) (by omega), ?_⟩ | refine call0 (gd_of rfl) ?_)
    refine sp_X13_half s15 hD1.2.2.1 hD1.2.2.2.2 h0 h1 (by omega) (.inl rfl) fun D2 i1 i2 i3 => ?_
    simp only [P_X0_goOn, i_kil, i_icon, i_lcon, i_null, i_loadI, i_loadL, i_loadR, i_istore, i_lstore, i_astore, i_iinc, i_dup, i_dup2, i_pop, i_iadd, i_isub, i_imul, i_idiv, i_irem, i_ineg, i_iand, i_ior, i_ishl, i_ishr, i_lxor, i_ladd, i_lsub, i_lmul, i_ldiv, i_lrem, i_lneg, i_lshl, i_lcmp, i_i2l, i_l2i, i_i2b, i_i2s, i_ifeq, i_ifne, i_iflt, i_ifge, i_ifgt, i_ifle, i_cmpeq, i_cmpne, i_cmplt, i_cmpge, i_cmpgt, i_cmple, i_acmpeq, i_acmpne, i_ifnull, i_ifnonnull, i_getI, i_getR, i_putI, i_putZ, i_putR, i_ald, i_ldL, i_ldR, i_ast, i_stL, i_stR, i_alen, i_new, i_newa, i_iret, i_zret, i_lret, i_aret, i_vret, i_raise, i_throw, i_recv, i_objinit, i_tsw3, lget, lset, lput1, lput2, lkil, ltrim, largs, isL, takev, dropv, nthv, pushO, catv, gd, true_and, and_true, Option.some.injEq, Prod.mk.injEq, exists_eq_left', if_true, if_false, reduceCtorEq, Bool.false_eq_true, lcmp_ge, lcmp_lt, lcmp_le, lcmp_gt, lcmp_eq, true_or, or_true, not_true_eq_false, not_false_eq_true, false_implies, true_implies, List.length_cons, List.length_nil]
    have i1' : ∀ c i, (c < C + 719 ∨ C + 722 < c) → D2 c i = D1 c i := fun c i w => i1 c i (by omega) (by omega) (by omega)
    rw [Int.add_zero] at i3
    refine K1 q D2 (fun c i c1 c2 c3 c4 c5 => ?_) (chk hB1 fun c i c1 c2 => i1' c i (by omega)) (hL1.congr fun c i c1 => i1' c i (by omega)) ⟨fun k hk => ?_, ?_, i2, ?_, i3⟩
    · rw [i1' c i c3]; exact fx c i c1 c2 c3 c4 c5
    · rw [i1 _ _ (by omega) (by omega) (by omega)]; exact hD1.1 k hk
    · rw [i1 _ _ (by omega) (by omega) (by omega)]; exact hD1.2.1
    · rw [i1 _ _ (by omega) (by omega) (by omega)]; exact hD1.2.2.2.1
/-- the whole search below a span -/
theorem roots_loop {E : Ex} {B : Nat × Nat} (hS : rtS S C) {f : Nat → Int} {d : Nat} {p : pf} (hN : gdN (nR p)) : ∀ (fu h : Nat) (w : Int) (D : Dat) (L : List (Nat × Int)), h + fu = 390 → 1 ≤ fu → 0 ≤ w → w < ((2 ^ h : Nat) : Int) → reD D (C + 719) f d h 0 w → chB p D (C + 225) → rtL D C f d L → (L.length : Int) + nR p h w ≤ 8 →
    (∀ D' : Dat, sxO C D D' → chB p D' (C + 225) → rtL D' C f d (L ++ lv (nR p) fu h w) → (nxt h w = none → Wp P_X0_roots E 3 [some (aR C), none, none, none, some (aI 0)] [] B S D') ∧ (∀ x, nxt h w = some x → reD D' (C + 719) f d x.1 0 x.2 → Wp P_X0_roots E 3 [some (aR C), none, none, none, some (aI 1)] [] B S D')) → Wp P_X0_roots E 3 [some (aR C), none, none, none, some (aI 1)] [] B S D := by
  have s1 := hS.1
  intro fu
  induction fu with
  | zero => intro h w D L _ hf; omega
  | succ fu ih =>
    intro h w D L hfu _ h0 h1 hD hB hL h8 K
    have h2 := half_lt h0 h1
    have hge := hN.1 h w h0 h1
    refine wp_in ?_
    simp only [P_X0_roots, i_kil, i_icon, i_lcon, i_null, i_loadI, i_loadL, i_loadR, i_istore, i_lstore, i_astore, i_iinc, i_dup, i_dup2, i_pop, i_iadd, i_isub, i_imul, i_idiv, i_irem, i_ineg, i_iand, i_ior, i_ishl, i_ishr, i_lxor, i_ladd, i_lsub, i_lmul, i_ldiv, i_lrem, i_lneg, i_lshl, i_lcmp, i_i2l, i_l2i, i_i2b, i_i2s, i_ifeq, i_ifne, i_iflt, i_ifge, i_ifgt, i_ifle, i_cmpeq, i_cmpne, i_cmplt, i_cmpge, i_cmpgt, i_cmple, i_acmpeq, i_acmpne, i_ifnull, i_ifnonnull, i_getI, i_getR, i_putI, i_putZ, i_putR, i_ald, i_ldL, i_ldR, i_ast, i_stL, i_stR, i_alen, i_new, i_newa, i_iret, i_zret, i_lret, i_aret, i_vret, i_raise, i_throw, i_recv, i_objinit, i_tsw3, lget, lset, lput1, lput2, lkil, ltrim, largs, isL, takev, dropv, nthv, pushO, catv, gd, true_and, and_true, Option.some.injEq, Prod.mk.injEq, exists_eq_left', if_true, if_false, reduceCtorEq, Bool.false_eq_true, lcmp_ge, lcmp_lt, lcmp_le, lcmp_gt, lcmp_eq, true_or, or_true, not_true_eq_false, not_false_eq_true, false_implies, true_implies, List.length_cons, List.length_nil, s1]
    refine ⟨fun q => absurd q (by decide), fun _ => ?_⟩
    repeat (first | refine ⟨in_small (by omega) (by omega), ?_⟩ | (show (_ → _) ∧ (_ → _); first | refine ⟨by omega, fun _ => ?_⟩ | refine ⟨fun _ => ?_, by omega⟩) | refine ⟨by omega, ?_⟩ | refine ⟨⟨_, rfl, by assumption⟩, ?_⟩ | refine ⟨okT_I _, ?_⟩ | refine ⟨okT_S (by omega) (by omega), ?_⟩ | refine ⟨okT_B (by omega) (by omega), ?_⟩ | refine call0 (gd_of rfl) ?_)
    refine sp_X0_goOn hS (p := p) (L := L) (by omega) h0 h1 hD hB hL (fun q => by omega) (fun q D1 g1 g2 g3 g4 => ?_) fun q D1 g1 g2 g3 => ⟨fun r => ?_, fun x r g4 => ?_⟩
    · simp only [P_X0_roots, i_kil, i_icon, i_lcon, i_null, i_loadI, i_loadL, i_loadR, i_istore, i_lstore, i_astore, i_iinc, i_dup, i_dup2, i_pop, i_iadd, i_isub, i_imul, i_idiv, i_irem, i_ineg, i_iand, i_ior, i_ishl, i_ishr, i_lxor, i_ladd, i_lsub, i_lmul, i_ldiv, i_lrem, i_lneg, i_lshl, i_lcmp, i_i2l, i_l2i, i_i2b, i_i2s, i_ifeq, i_ifne, i_iflt, i_ifge, i_ifgt, i_ifle, i_cmpeq, i_cmpne, i_cmplt, i_cmpge, i_cmpgt, i_cmple, i_acmpeq, i_acmpne, i_ifnull, i_ifnonnull, i_getI, i_getR, i_putI, i_putZ, i_putR, i_ald, i_ldL, i_ldR, i_ast, i_stL, i_stR, i_alen, i_new, i_newa, i_iret, i_zret, i_lret, i_aret, i_vret, i_raise, i_throw, i_recv, i_objinit, i_tsw3, lget, lset, lput1, lput2, lkil, ltrim, largs, isL, takev, dropv, nthv, pushO, catv, gd, true_and, and_true, Option.some.injEq, Prod.mk.injEq, exists_eq_left', if_true, if_false, reduceCtorEq, Bool.false_eq_true, lcmp_ge, lcmp_lt, lcmp_le, lcmp_gt, lcmp_eq, true_or, or_true, not_true_eq_false, not_false_eq_true, false_implies, true_implies, List.length_cons, List.length_nil]
      have hfu1 : 1 ≤ fu := by
        rcases Nat.eq_zero_or_pos fu with z | z
        · have := hN.2.2.2 h w (by omega) h0 h1; omega
        · exact z
      have hadd := hN.2.1 h w
      have na := hN.1 (h + 1) (2 * w) (by omega) (by omega)
      have nb := hN.1 (h + 1) (2 * w + 1) (by omega) h2
      have e : lv (nR p) (fu + 1) h w = lv (nR p) fu (h + 1) (2 * w) ++ lv (nR p) fu (h + 1) (2 * w + 1) := by simp only [lv]; rw [if_pos q]
      have len := lv_len hN fu (h + 1) (2 * w) (by omega) (by omega)
      have n1 : nxt (h + 1) (2 * w) = some (h + 1, 2 * w + 1) := by simp only [nxt]; rw [if_neg (by omega)]
      have n2 : nxt (h + 1) (2 * w + 1) = nxt h w := by
        show (if (2 * w + 1) % 2 = 1 then nxt h ((2 * w + 1) / 2) else some (h + 1, 2 * w + 1 + 1)) = _
        rw [if_pos (by omega)]; congr 1; omega
      refine ih (h + 1) (2 * w) D1 L (by omega) hfu1 (by omega) (by omega) g4 g2 g3 (by omega) fun D2 i1 i2 i3 => ⟨fun z => by rw [n1] at z; exact absurd z (by simp), fun x z i4 => ?_⟩
      rw [n1] at z
      obtain rfl := Option.some.inj z
      refine ih (h + 1) (2 * w + 1) D2 _ (by omega) hfu1 (by omega) h2 i4 i2 i3 (by simp only [List.length_append]; omega) fun D3 j1 j2 j3 => ?_
      rw [n2]
      rw [List.append_assoc, ← e] at j3
      exact K D3 ((g1.tr i1).tr j1) j2 j3
    · simp only [P_X0_roots, i_kil, i_icon, i_lcon, i_null, i_loadI, i_loadL, i_loadR, i_istore, i_lstore, i_astore, i_iinc, i_dup, i_dup2, i_pop, i_iadd, i_isub, i_imul, i_idiv, i_irem, i_ineg, i_iand, i_ior, i_ishl, i_ishr, i_lxor, i_ladd, i_lsub, i_lmul, i_ldiv, i_lrem, i_lneg, i_lshl, i_lcmp, i_i2l, i_l2i, i_i2b, i_i2s, i_ifeq, i_ifne, i_iflt, i_ifge, i_ifgt, i_ifle, i_cmpeq, i_cmpne, i_cmplt, i_cmpge, i_cmpgt, i_cmple, i_acmpeq, i_acmpne, i_ifnull, i_ifnonnull, i_getI, i_getR, i_putI, i_putZ, i_putR, i_ald, i_ldL, i_ldR, i_ast, i_stL, i_stR, i_alen, i_new, i_newa, i_iret, i_zret, i_lret, i_aret, i_vret, i_raise, i_throw, i_recv, i_objinit, i_tsw3, lget, lset, lput1, lput2, lkil, ltrim, largs, isL, takev, dropv, nthv, pushO, catv, gd, true_and, and_true, Option.some.injEq, Prod.mk.injEq, exists_eq_left', if_true, if_false, reduceCtorEq, Bool.false_eq_true, lcmp_ge, lcmp_lt, lcmp_le, lcmp_gt, lcmp_eq, true_or, or_true, not_true_eq_false, not_false_eq_true, false_implies, true_implies, List.length_cons, List.length_nil]
      refine (K D1 g1 g2 ?_).1 r
      simp only [lv]; rw [if_neg q]; exact g3
    · simp only [P_X0_roots, i_kil, i_icon, i_lcon, i_null, i_loadI, i_loadL, i_loadR, i_istore, i_lstore, i_astore, i_iinc, i_dup, i_dup2, i_pop, i_iadd, i_isub, i_imul, i_idiv, i_irem, i_ineg, i_iand, i_ior, i_ishl, i_ishr, i_lxor, i_ladd, i_lsub, i_lmul, i_ldiv, i_lrem, i_lneg, i_lshl, i_lcmp, i_i2l, i_l2i, i_i2b, i_i2s, i_ifeq, i_ifne, i_iflt, i_ifge, i_ifgt, i_ifle, i_cmpeq, i_cmpne, i_cmplt, i_cmpge, i_cmpgt, i_cmple, i_acmpeq, i_acmpne, i_ifnull, i_ifnonnull, i_getI, i_getR, i_putI, i_putZ, i_putR, i_ald, i_ldL, i_ldR, i_ast, i_stL, i_stR, i_alen, i_new, i_newa, i_iret, i_zret, i_lret, i_aret, i_vret, i_raise, i_throw, i_recv, i_objinit, i_tsw3, lget, lset, lput1, lput2, lkil, ltrim, largs, isL, takev, dropv, nthv, pushO, catv, gd, true_and, and_true, Option.some.injEq, Prod.mk.injEq, exists_eq_left', if_true, if_false, reduceCtorEq, Bool.false_eq_true, lcmp_ge, lcmp_lt, lcmp_le, lcmp_gt, lcmp_eq, true_or, or_true, not_true_eq_false, not_false_eq_true, false_implies, true_implies, List.length_cons, List.length_nil]
      refine (K D1 g1 g2 ?_).2 x r g4
      simp only [lv]; rw [if_neg q]; exact g3
/-- in which half a root lies -/
theorem sp_X0_halfOf {E : Ex} {B : Nat × Nat} (hS : rtS S C) {f : Nat → Int} {d s h a : Nat} {w : Int} {p : pf} {D : Dat} (ha : reS S a) (na : a + 3 < C + 225 ∨ C + 722 < a) (hh : h ≤ 459) (h0 : 0 ≤ w) (h1 : w < ((2 ^ h : Nat) : Int)) (hD : reD D a f d h s w) (hB : chB p D (C + 225))
    (K : ∀ D' : Dat, (∀ c i, (c < C + 239 ∨ C + 246 < c) → (c < C + 692 ∨ C + 697 < c) → (c < C + 719 ∨ C + 722 < c) → D' c i = D c i) → chB p D' (C + 225) → E (.inl (some (.inl (if nR p (h + 1) (2 * w) = 1 then 0 else 1)))) B S D') : Wp P_X0_halfOf E 0 [some (aR C), some (aR a)] [] B S D := by
  have hS0 := hS
  obtain ⟨s1, s2, s3, s4, s5, s6, s7, s8, s9, s10, s11, s12, s13, s14, s15, s16, s17, s18, s19, s20, -⟩ := hS
  have w1 := s15.1
  have c1 := s5.2.1
  refine wp_in ?_
  simp only [P_X0_halfOf, i_kil, i_icon, i_lcon, i_null, i_loadI, i_loadL, i_loadR, i_istore, i_lstore, i_astore, i_iinc, i_dup, i_dup2, i_pop, i_iadd, i_isub, i_imul, i_idiv, i_irem, i_ineg, i_iand, i_ior, i_ishl, i_ishr, i_lxor, i_ladd, i_lsub, i_lmul, i_ldiv, i_lrem, i_lneg, i_lshl, i_lcmp, i_i2l, i_l2i, i_i2b, i_i2s, i_ifeq, i_ifne, i_iflt, i_ifge, i_ifgt, i_ifle, i_cmpeq, i_cmpne, i_cmplt, i_cmpge, i_cmpgt, i_cmple, i_acmpeq, i_acmpne, i_ifnull, i_ifnonnull, i_getI, i_getR, i_putI, i_putZ, i_putR, i_ald, i_ldL, i_ldR, i_ast, i_stL, i_stR, i_alen, i_new, i_newa, i_iret, i_zret, i_lret, i_aret, i_vret, i_raise, i_throw, i_recv, i_objinit, i_tsw3, lget, lset, lput1, lput2, lkil, ltrim, largs, isL, takev, dropv, nthv, pushO, catv, gd, true_and, and_true, Option.some.injEq, Prod.mk.injEq, exists_eq_left', if_true, if_false, reduceCtorEq, Bool.false_eq_true, lcmp_ge, lcmp_lt, lcmp_le, lcmp_gt, lcmp_eq, true_or, or_true, not_true_eq_false, not_false_eq_true, false_implies, true_implies, List.length_cons, List.length_nil, s1, s14]
  repeat (first | refine ⟨in_small (by omega) (by omega), ?_⟩ | (show (_ → _) ∧ (_ → _); first | refine ⟨by omega, fun _ => ?_⟩ | refine ⟨fun _ => ?_, by omega⟩) | refine ⟨by omega, ?_⟩ | refine ⟨⟨_, rfl, by assumption⟩, ?_⟩ | refine ⟨okT_I _, ?_⟩ | refine ⟨okT_S (by omega) (by omega), ?_⟩ | refine ⟨okT_B (by omega) (by omega), ?_⟩ | refine call0 (gd_of rfl) ?_)
  refine sp_X13_be s15 ha (by omega) hD (pw_h32 h0 h1 (by omega)) fun D1 g1 g2 => ?_
  simp only [P_X0_halfOf, i_kil, i_icon, i_lcon, i_null, i_loadI, i_loadL, i_loadR, i_istore, i_lstore, i_astore, i_iinc, i_dup, i_dup2, i_pop, i_iadd, i_isub, i_imul, i_idiv, i_irem, i_ineg, i_iand, i_ior, i_ishl, i_ishr, i_lxor, i_ladd, i_lsub, i_lmul, i_ldiv, i_lrem, i_lneg, i_lshl, i_lcmp, i_i2l, i_l2i, i_i2b, i_i2s, i_ifeq, i_ifne, i_iflt, i_ifge, i_ifgt, i_ifle, i_cmpeq, i_cmpne, i_cmplt, i_cmpge, i_cmpgt, i_cmple, i_acmpeq, i_acmpne, i_ifnull, i_ifnonnull, i_getI, i_getR, i_putI, i_putZ, i_putR, i_ald, i_ldL, i_ldR, i_ast, i_stL, i_stR, i_alen, i_new, i_newa, i_iret, i_zret, i_lret, i_aret, i_vret, i_raise, i_throw, i_recv, i_objinit, i_tsw3, lget, lset, lput1, lput2, lkil, ltrim, largs, isL, takev, dropv, nthv, pushO, catv, gd, true_and, and_true, Option.some.injEq, Prod.mk.injEq, exists_eq_left', if_true, if_false, reduceCtorEq, Bool.false_eq_true, lcmp_ge, lcmp_lt, lcmp_le, lcmp_gt, lcmp_eq, true_or, or_true, not_true_eq_false, not_false_eq_true, false_implies, true_implies, List.length_cons, List.length_nil, s1, s14]
  repeat (first | refine ⟨in_small (by omega) (by omega), ?_⟩ | (show (_ → _) ∧ (_ → _); first | refine ⟨by omega, fun _ => ?_⟩ | refine ⟨fun _ => ?_, by omega⟩) | refine ⟨by omega, ?_⟩ | refine ⟨⟨_, rfl, by assumption⟩, ?_⟩ | refine ⟨okT_I _, ?_⟩ | refine ⟨okT_S (by omega) (by omega), ?_⟩ | refine ⟨okT_B (by omega) (by omega), ?_⟩ | refine call0 (gd_of rfl) ?_)
  refine sp_X13_half s15 g2.2.2.1 g2.2.2.2.2 h0 h1 (by omega) (.inl rfl) fun D2 i1 i2 i3 => ?_
  have i1' : ∀ c i, (c < C + 719 ∨ C + 722 < c) → D2 c i = D c i := fun c i w => by rw [i1 c i (by omega) (by omega) (by omega)]; exact g1 c i w
  rw [Int.add_zero] at i3
  simp only [P_X0_halfOf, i_kil, i_icon, i_lcon, i_null, i_loadI, i_loadL, i_loadR, i_istore, i_lstore, i_astore, i_iinc, i_dup, i_dup2, i_pop, i_iadd, i_isub, i_imul, i_idiv, i_irem, i_ineg, i_iand, i_ior, i_ishl, i_ishr, i_lxor, i_ladd, i_lsub, i_lmul, i_ldiv, i_lrem, i_lneg, i_lshl, i_lcmp, i_i2l, i_l2i, i_i2b, i_i2s, i_ifeq, i_ifne, i_iflt, i_ifge, i_ifgt, i_ifle, i_cmpeq, i_cmpne, i_cmplt, i_cmpge, i_cmpgt, i_cmple, i_acmpeq, i_acmpne, i_ifnull, i_ifnonnull, i_getI, i_getR, i_putI, i_putZ, i_putR, i_ald, i_ldL, i_ldR, i_ast, i_stL, i_stR, i_alen, i_new, i_newa, i_iret, i_zret, i_lret, i_aret, i_vret, i_raise, i_throw, i_recv, i_objinit, i_tsw3, lget, lset, lput1, lput2, lkil, ltrim, largs, isL, takev, dropv, nthv, pushO, catv, gd, true_and, and_true, Option.some.injEq, Prod.mk.injEq, exists_eq_left', if_true, if_false, reduceCtorEq, Bool.false_eq_true, lcmp_ge, lcmp_lt, lcmp_le, lcmp_gt, lcmp_eq, true_or, or_true, not_true_eq_false, not_false_eq_true, false_implies, true_implies, List.length_cons, List.length_nil, s1, s4, s14]
  repeat (first | refine ⟨in_small (by omega) (by omega), ?_⟩ | (show (_ → _) ∧ (_ → _); first | refine ⟨by omega, fun _ => ?_⟩ | refine ⟨fun _ => ?_, by omega⟩) | refine ⟨by omega, ?_⟩ | refine ⟨⟨_, rfl, by assumption⟩, ?_⟩ | refine ⟨okT_I _, ?_⟩ | refine ⟨okT_S (by omega) (by omega), ?_⟩ | refine ⟨okT_B (by omega) (by omega), ?_⟩ | refine call0 (gd_of rfl) ?_)
  have h2 := half_lt h0 h1
  refine within_p hS0 (p := p) (.inl rfl) s15 (by omega) (hB.congr fun c i c1 c2 => i1' c i (by omega)) i2 i3 (by omega) (by omega) (by omega) fun D3 j1 j2 => ?_
  have K' := K D3 (fun c i c1 c2 c3 => by rw [j1 c i (by omega) c2]; exact i1' c i c3) j2
  simp only [P_X0_halfOf, i_kil, i_icon, i_lcon, i_null, i_loadI, i_loadL, i_loadR, i_istore, i_lstore, i_astore, i_iinc, i_dup, i_dup2, i_pop, i_iadd, i_isub, i_imul, i_idiv, i_irem, i_ineg, i_iand, i_ior, i_ishl, i_ishr, i_lxor, i_ladd, i_lsub, i_lmul, i_ldiv, i_lrem, i_lneg, i_lshl, i_lcmp, i_i2l, i_l2i, i_i2b, i_i2s, i_ifeq, i_ifne, i_iflt, i_ifge, i_ifgt, i_ifle, i_cmpeq, i_cmpne, i_cmplt, i_cmpge, i_cmpgt, i_cmple, i_acmpeq, i_acmpne, i_ifnull, i_ifnonnull, i_getI, i_getR, i_putI, i_putZ, i_putR, i_ald, i_ldL, i_ldR, i_ast, i_stL, i_stR, i_alen, i_new, i_newa, i_iret, i_zret, i_lret, i_aret, i_vret, i_raise, i_throw, i_recv, i_objinit, i_tsw3, lget, lset, lput1, lput2, lkil, ltrim, largs, isL, takev, dropv, nthv, pushO, catv, gd, true_and, and_true, Option.some.injEq, Prod.mk.injEq, exists_eq_left', if_true, if_false, reduceCtorEq, Bool.false_eq_true, lcmp_ge, lcmp_lt, lcmp_le, lcmp_gt, lcmp_eq, true_or, or_true, not_true_eq_false, not_false_eq_true, false_implies, true_implies, List.length_cons, List.length_nil]
  refine ⟨fun q => ?_, fun q => ?_⟩
  · rw [if_neg q] at K'
    refine wp_in ?_
    simp only [P_X0_halfOf, i_kil, i_icon, i_lcon, i_null, i_loadI, i_loadL, i_loadR, i_istore, i_lstore, i_astore, i_iinc, i_dup, i_dup2, i_pop, i_iadd, i_isub, i_imul, i_idiv, i_irem, i_ineg, i_iand, i_ior, i_ishl, i_ishr, i_lxor, i_ladd, i_lsub, i_lmul, i_ldiv, i_lrem, i_lneg, i_lshl, i_lcmp, i_i2l, i_l2i, i_i2b, i_i2s, i_ifeq, i_ifne, i_iflt, i_ifge, i_ifgt, i_ifle, i_cmpeq, i_cmpne, i_cmplt, i_cmpge, i_cmpgt, i_cmple, i_acmpeq, i_acmpne, i_ifnull, i_ifnonnull, i_getI, i_getR, i_putI, i_putZ, i_putR, i_ald, i_ldL, i_ldR, i_ast, i_stL, i_stR, i_alen, i_new, i_newa, i_iret, i_zret, i_lret, i_aret, i_vret, i_raise, i_throw, i_recv, i_objinit, i_tsw3, lget, lset, lput1, lput2, lkil, ltrim, largs, isL, takev, dropv, nthv, pushO, catv, gd, true_and, and_true, Option.some.injEq, Prod.mk.injEq, exists_eq_left', if_true, if_false, reduceCtorEq, Bool.false_eq_true, lcmp_ge, lcmp_lt, lcmp_le, lcmp_gt, lcmp_eq, true_or, or_true, not_true_eq_false, not_false_eq_true, false_implies, true_implies, List.length_cons, List.length_nil]
    exact K'
  · rw [if_pos q] at K'
    refine wp_in ?_
    simp only [P_X0_halfOf, i_kil, i_icon, i_lcon, i_null, i_loadI, i_loadL, i_loadR, i_istore, i_lstore, i_astore, i_iinc, i_dup, i_dup2, i_pop, i_iadd, i_isub, i_imul, i_idiv, i_irem, i_ineg, i_iand, i_ior, i_ishl, i_ishr, i_lxor, i_ladd, i_lsub, i_lmul, i_ldiv, i_lrem, i_lneg, i_lshl, i_lcmp, i_i2l, i_l2i, i_i2b, i_i2s, i_ifeq, i_ifne, i_iflt, i_ifge, i_ifgt, i_ifle, i_cmpeq, i_cmpne, i_cmplt, i_cmpge, i_cmpgt, i_cmple, i_acmpeq, i_acmpne, i_ifnull, i_ifnonnull, i_getI, i_getR, i_putI, i_putZ, i_putR, i_ald, i_ldL, i_ldR, i_ast, i_stL, i_stR, i_alen, i_new, i_newa, i_iret, i_zret, i_lret, i_aret, i_vret, i_raise, i_throw, i_recv, i_objinit, i_tsw3, lget, lset, lput1, lput2, lkil, ltrim, largs, isL, takev, dropv, nthv, pushO, catv, gd, true_and, and_true, Option.some.injEq, Prod.mk.injEq, exists_eq_left', if_true, if_false, reduceCtorEq, Bool.false_eq_true, lcmp_ge, lcmp_lt, lcmp_le, lcmp_gt, lcmp_eq, true_or, or_true, not_true_eq_false, not_false_eq_true, false_implies, true_implies, List.length_cons, List.length_nil]
    exact K'
end SRCH
