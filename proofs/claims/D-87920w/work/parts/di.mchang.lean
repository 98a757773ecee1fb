/-! the model's chains: changes; a chain that stands ready -/
-- needs: dh.msign
set_option maxRecDepth 100000
set_option linter.unusedVariables false
/-- rows with small numbers -/
def mhM (F : Nat → Nat → Int) (n : Nat → Nat) (m : Nat) : Prop := ∀ i, i < m → ∃ c, (∀ k, k ≤ n i → (F i k).natAbs ≤ 2 ^ c) ∧ mgB c (n i) ∧ c < 29 * 130
theorem chM.mh {F : Nat → Nat → Int} {n : Nat → Nat} {m : Nat} (h : chM F n m) (h9 : ∀ i, i < m → n i < 9) : mhM F n m := fun i hi => by
  refine ⟨szC (n i), h i hi, ?_, ?_⟩
  · have := (sg_words (d := n i) (b := 460) (by have := h9 i hi; omega) (by decide)).2
    unfold mgB; omega
  · unfold szC; omega
section MCH
variable {M : Nat}
theorem sp_X16_changes {E : Ex} {B : Nat × Nat} {S : Stat} {D : Dat} {m h V RV : Nat} {F : Nat → Nat → Int} {n : Nat → Nat} {av y : Int} (hS : mhS S M) (hs : msS S M) (hD : mhD D M F n m) (hMm : mhM F n m) (hm : m ≤ 11) (hV : wS 17 S V RV) (hRV : 17 ≤ RV) (hRV2 : RV < 265) (lV : V + 1 < M ∨ M + 16 < V) (lV2 : V + 1 < M + 4221 ∨ M + 4222 < V) (lV3 : V + 1 < M + 11297 ∨ M + 11306 < V) (ha : wD 2 1 D V av) (hab : av.natAbs ≤ 2 ^ h) (hh : h ≤ 460) (hy : y = 7 - (h : Int))
    (K : ∀ D' : Dat, mgO M D D' → E (.inl (some (.inl (vch (fun i => zF F n i (mpt h av)) m)))) B S D') : Wp P_X16_changes E 0 [some (aR M), some (aR V), some (aI y)] [] B S D := by
  subst hy
  obtain ⟨hM, hWw, hK, s1, s2, s3, s4, s5⟩ := hS
  have M1 := hM.1
  have h8 := hD.1
  have loop : ∀ (L j : Nat) (D1 : Dat), j + L = m → mgO M D D1 → Wp P_X16_changes E 1 [some (aR M), some (aR V), some (aI (7 - (h : Int))), some (aI (vst (fun i => zF F n i (mpt h av)) j).2), some (aI (vst (fun i => zF F n i (mpt h av)) j).1), some (aI j)] [] B S D1 := by
    intro L
    induction L with
    | zero =>
      intro j D1 hj hfr
      have : j = m := by omega
      subst this
      have h8' : D1 M 70 = j := by rw [hfr _ _ (by omega) (by omega) (by omega) (by omega)]; exact h8
      refine wp_in ?_
      simp only [P_X16_changes, i_kil, i_icon, i_lcon, i_null, i_loadI, i_loadL, i_loadR, i_istore, i_lstore, i_astore, i_iinc, i_dup, i_dup2, i_pop, i_iadd, i_isub, i_imul, i_idiv, i_irem, i_ineg, i_iand, i_ior, i_ishl, i_ishr, i_lxor, i_ladd, i_lsub, i_lmul, i_ldiv, i_lrem, i_lneg, i_lshl, i_lcmp, i_i2l, i_l2i, i_i2b, i_i2s, i_ifeq, i_ifne, i_iflt, i_ifge, i_ifgt, i_ifle, i_cmpeq, i_cmpne, i_cmplt, i_cmpge, i_cmpgt, i_cmple, i_acmpeq, i_acmpne, i_ifnull, i_ifnonnull, i_getI, i_getR, i_putI, i_putZ, i_putR, i_ald, i_ldL, i_ldR, i_ast, i_stL, i_stR, i_alen, i_new, i_newa, i_iret, i_zret, i_lret, i_aret, i_vret, i_raise, i_throw, i_recv, i_objinit, i_tsw3, lget, lset, lput1, lput2, lkil, ltrim, largs, isL, takev, dropv, nthv, pushO, catv, gd, true_and, and_true, Option.some.injEq, Prod.mk.injEq, exists_eq_left', if_true, if_false, reduceCtorEq, Bool.false_eq_true, lcmp_ge, lcmp_lt, lcmp_le, lcmp_gt, lcmp_eq, true_or, or_true, not_true_eq_false, not_false_eq_true, false_implies, true_implies, List.length_cons, List.length_nil, M1, h8']
      refine ⟨fun _ => K D1 hfr, fun w => by omega⟩
    | succ L ih =>
      intro j D1 hj hfr
      have h8' : D1 M 70 = m := by rw [hfr _ _ (by omega) (by omega) (by omega) (by omega)]; exact h8
      obtain ⟨x1, x2, x3, x4⟩ := hD.2 j (by omega)
      obtain ⟨c, hc1, hc2, hc3⟩ := hMm j (by omega)
      obtain ⟨r1, r2⟩ := s3 j (by omega)
      have x1' : D1 (M + 11240) j = n j := by rw [hfr _ _ (by omega) (by omega) (by omega) (by omega)]; exact x1
      have c1 := vst_le (F := fun i => zF F n i (mpt h av)) j
      have c2 := vst_fst (fun i => zF F n i (mpt h av)) j
      have step := show vst (fun i => zF F n i (mpt h av)) (j + 1) = (if sgr (zF F n j (mpt h av)) = 0 then vst (fun i => zF F n i (mpt h av)) j else (sgr (zF F n j (mpt h av)), (vst (fun i => zF F n i (mpt h av)) j).2 + if (vst (fun i => zF F n i (mpt h av)) j).1 = -sgr (zF F n j (mpt h av)) then 1 else 0)) from rfl
      have hsc := sgr_cases (zF F n j (mpt h av))
      refine wp_in ?_
      simp only [P_X16_changes, i_kil, i_icon, i_lcon, i_null, i_loadI, i_loadL, i_loadR, i_istore, i_lstore, i_astore, i_iinc, i_dup, i_dup2, i_pop, i_iadd, i_isub, i_imul, i_idiv, i_irem, i_ineg, i_iand, i_ior, i_ishl, i_ishr, i_lxor, i_ladd, i_lsub, i_lmul, i_ldiv, i_lrem, i_lneg, i_lshl, i_lcmp, i_i2l, i_l2i, i_i2b, i_i2s, i_ifeq, i_ifne, i_iflt, i_ifge, i_ifgt, i_ifle, i_cmpeq, i_cmpne, i_cmplt, i_cmpge, i_cmpgt, i_cmple, i_acmpeq, i_acmpne, i_ifnull, i_ifnonnull, i_getI, i_getR, i_putI, i_putZ, i_putR, i_ald, i_ldL, i_ldR, i_ast, i_stL, i_stR, i_alen, i_new, i_newa, i_iret, i_zret, i_lret, i_aret, i_vret, i_raise, i_throw, i_recv, i_objinit, i_tsw3, lget, lset, lput1, lput2, lkil, ltrim, largs, isL, takev, dropv, nthv, pushO, catv, gd, true_and, and_true, Option.some.injEq, Prod.mk.injEq, exists_eq_left', if_true, if_false, reduceCtorEq, Bool.false_eq_true, lcmp_ge, lcmp_lt, lcmp_le, lcmp_gt, lcmp_eq, true_or, or_true, not_true_eq_false, not_false_eq_true, false_implies, true_implies, List.length_cons, List.length_nil, M1, s1, s2, s4, s5, h8', r1, x1']
      repeat (first | refine ⟨in_small (by omega) (by omega), ?_⟩ | (show (_ → _) ∧ (_ → _); first | refine ⟨by omega, fun _ => ?_⟩ | refine ⟨fun _ => ?_, by omega⟩) | refine ⟨by omega, ?_⟩ | refine ⟨⟨_, rfl, by assumption⟩, ?_⟩ | refine ⟨okT_I _, ?_⟩ | refine ⟨okT_S (by omega) (by omega), ?_⟩ | refine ⟨okT_B (by omega) (by omega), ?_⟩ | refine call0 (gd_of rfl) ?_)
      refine sp_X16_signAt (f := F j) (d := n j) (av := av) (c := c) hM hs r2 (by omega) (by omega) (by omega) (fun k hk => (x4 k hk).congr (fun i => hfr _ i (by unfold mcw; omega) (by unfold mcw; omega) (by unfold mcw; omega) (by unfold mcw; omega)) fun i => hfr _ i (by unfold mcw; omega) (by unfold mcw; omega) (by unfold mcw; omega) (by unfold mcw; omega)) hc1 hc3 hc2 hV hRV hRV2 lV lV2 lV3 (ha.congr (fun i => hfr _ i (by omega) (by omega) (by omega) (by omega)) fun i => hfr _ i (by omega) (by omega) (by omega) (by omega)) hab hh rfl rfl fun D2 g1 => ?_
      rw [show sgr (zp (F j) (n j + 1) (mpt h av)) = sgr (zF F n j (mpt h av)) from rfl]
      have g2 : mgO M D D2 := fun c i c1 c2 c3 c4 => by rw [g1 c i c1 c2 c3 c4]; exact hfr c i c1 c2 c3 c4
      have hih := ih (j + 1) D2 (by omega) g2
      rw [step] at hih
      generalize vst (fun i => zF F n i (mpt h av)) j = U at *
      generalize sgr (zF F n j (mpt h av)) = s at *
      have fin : ∀ x : Int, (x = 0 ∨ x = 1) → x = (if s = 0 then 0 else if U.1 = -s then 1 else 0) → Wp P_X16_changes E 3 [some (aR M), some (aR V), some (aI (7 - (h : Int))), none, some (aI U.1), some (aI j), some (aI s)] [.inl x, .inl U.2] B S D2 := fun x x01 hx => by
        refine wp_in ?_
        simp only [P_X16_changes, i_kil, i_icon, i_lcon, i_null, i_loadI, i_loadL, i_loadR, i_istore, i_lstore, i_astore, i_iinc, i_dup, i_dup2, i_pop, i_iadd, i_isub, i_imul, i_idiv, i_irem, i_ineg, i_iand, i_ior, i_ishl, i_ishr, i_lxor, i_ladd, i_lsub, i_lmul, i_ldiv, i_lrem, i_lneg, i_lshl, i_lcmp, i_i2l, i_l2i, i_i2b, i_i2s, i_ifeq, i_ifne, i_iflt, i_ifge, i_ifgt, i_ifle, i_cmpeq, i_cmpne, i_cmplt, i_cmpge, i_cmpgt, i_cmple, i_acmpeq, i_acmpne, i_ifnull, i_ifnonnull, i_getI, i_getR, i_putI, i_putZ, i_putR, i_ald, i_ldL, i_ldR, i_ast, i_stL, i_stR, i_alen, i_new, i_newa, i_iret, i_zret, i_lret, i_aret, i_vret, i_raise, i_throw, i_recv, i_objinit, i_tsw3, lget, lset, lput1, lput2, lkil, ltrim, largs, isL, takev, dropv, nthv, pushO, catv, gd, true_and, and_true, Option.some.injEq, Prod.mk.injEq, exists_eq_left', if_true, if_false, reduceCtorEq, Bool.false_eq_true, lcmp_ge, lcmp_lt, lcmp_le, lcmp_gt, lcmp_eq, true_or, or_true, not_true_eq_false, not_false_eq_true, false_implies, true_implies, List.length_cons, List.length_nil]
        have hu2 : U.2 ≤ 1000 := by
          by_cases w : U.1 = 0
          · have := c1.2.1 w; omega
          · have := c1.2.2 w; omega
        refine ⟨in_small (by omega) (by omega), fun w => ?_, fun w => ?_⟩
        · rw [if_neg w] at hx hih
          refine wp_in ?_
          simp only [P_X16_changes, i_kil, i_icon, i_lcon, i_null, i_loadI, i_loadL, i_loadR, i_istore, i_lstore, i_astore, i_iinc, i_dup, i_dup2, i_pop, i_iadd, i_isub, i_imul, i_idiv, i_irem, i_ineg, i_iand, i_ior, i_ishl, i_ishr, i_lxor, i_ladd, i_lsub, i_lmul, i_ldiv, i_lrem, i_lneg, i_lshl, i_lcmp, i_i2l, i_l2i, i_i2b, i_i2s, i_ifeq, i_ifne, i_iflt, i_ifge, i_ifgt, i_ifle, i_cmpeq, i_cmpne, i_cmplt, i_cmpge, i_cmpgt, i_cmple, i_acmpeq, i_acmpne, i_ifnull, i_ifnonnull, i_getI, i_getR, i_putI, i_putZ, i_putR, i_ald, i_ldL, i_ldR, i_ast, i_stL, i_stR, i_alen, i_new, i_newa, i_iret, i_zret, i_lret, i_aret, i_vret, i_raise, i_throw, i_recv, i_objinit, i_tsw3, lget, lset, lput1, lput2, lkil, ltrim, largs, isL, takev, dropv, nthv, pushO, catv, gd, true_and, and_true, Option.some.injEq, Prod.mk.injEq, exists_eq_left', if_true, if_false, reduceCtorEq, Bool.false_eq_true, lcmp_ge, lcmp_lt, lcmp_le, lcmp_gt, lcmp_eq, true_or, or_true, not_true_eq_false, not_false_eq_true, false_implies, true_implies, List.length_cons, List.length_nil]
          refine ⟨in_small (by omega) (by omega), ?_⟩
          rw [← hx] at hih
          exact hih
        · rw [if_pos w] at hx hih
          refine wp_in ?_
          simp only [P_X16_changes, i_kil, i_icon, i_lcon, i_null, i_loadI, i_loadL, i_loadR, i_istore, i_lstore, i_astore, i_iinc, i_dup, i_dup2, i_pop, i_iadd, i_isub, i_imul, i_idiv, i_irem, i_ineg, i_iand, i_ior, i_ishl, i_ishr, i_lxor, i_ladd, i_lsub, i_lmul, i_ldiv, i_lrem, i_lneg, i_lshl, i_lcmp, i_i2l, i_l2i, i_i2b, i_i2s, i_ifeq, i_ifne, i_iflt, i_ifge, i_ifgt, i_ifle, i_cmpeq, i_cmpne, i_cmplt, i_cmpge, i_cmpgt, i_cmple, i_acmpeq, i_acmpne, i_ifnull, i_ifnonnull, i_getI, i_getR, i_putI, i_putZ, i_putR, i_ald, i_ldL, i_ldR, i_ast, i_stL, i_stR, i_alen, i_new, i_newa, i_iret, i_zret, i_lret, i_aret, i_vret, i_raise, i_throw, i_recv, i_objinit, i_tsw3, lget, lset, lput1, lput2, lkil, ltrim, largs, isL, takev, dropv, nthv, pushO, catv, gd, true_and, and_true, Option.some.injEq, Prod.mk.injEq, exists_eq_left', if_true, if_false, reduceCtorEq, Bool.false_eq_true, lcmp_ge, lcmp_lt, lcmp_le, lcmp_gt, lcmp_eq, true_or, or_true, not_true_eq_false, not_false_eq_true, false_implies, true_implies, List.length_cons, List.length_nil]
          refine ⟨in_small (by omega) (by omega), ?_⟩
          rw [hx, Int.add_zero]
          exact hih
      have two : (if s = 0 then (0 : Int) else if U.1 = -s then 1 else 0) = 0 → Wp P_X16_changes E 2 [some (aR M), some (aR V), some (aI (7 - (h : Int))), none, some (aI U.1), some (aI j), some (aI s)] [.inl U.2] B S D2 := fun hz => by
        refine wp_in ?_
        simp only [P_X16_changes, i_kil, i_icon, i_lcon, i_null, i_loadI, i_loadL, i_loadR, i_istore, i_lstore, i_astore, i_iinc, i_dup, i_dup2, i_pop, i_iadd, i_isub, i_imul, i_idiv, i_irem, i_ineg, i_iand, i_ior, i_ishl, i_ishr, i_lxor, i_ladd, i_lsub, i_lmul, i_ldiv, i_lrem, i_lneg, i_lshl, i_lcmp, i_i2l, i_l2i, i_i2b, i_i2s, i_ifeq, i_ifne, i_iflt, i_ifge, i_ifgt, i_ifle, i_cmpeq, i_cmpne, i_cmplt, i_cmpge, i_cmpgt, i_cmple, i_acmpeq, i_acmpne, i_ifnull, i_ifnonnull, i_getI, i_getR, i_putI, i_putZ, i_putR, i_ald, i_ldL, i_ldR, i_ast, i_stL, i_stR, i_alen, i_new, i_newa, i_iret, i_zret, i_lret, i_aret, i_vret, i_raise, i_throw, i_recv, i_objinit, i_tsw3, lget, lset, lput1, lput2, lkil, ltrim, largs, isL, takev, dropv, nthv, pushO, catv, gd, true_and, and_true, Option.some.injEq, Prod.mk.injEq, exists_eq_left', if_true, if_false, reduceCtorEq, Bool.false_eq_true, lcmp_ge, lcmp_lt, lcmp_le, lcmp_gt, lcmp_eq, true_or, or_true, not_true_eq_false, not_false_eq_true, false_implies, true_implies, List.length_cons, List.length_nil]
        exact fin 0 (.inl rfl) hz.symm
      simp only [P_X16_changes, i_kil, i_icon, i_lcon, i_null, i_loadI, i_loadL, i_loadR, i_istore, i_lstore, i_astore, i_iinc, i_dup, i_dup2, i_pop, i_iadd, i_isub, i_imul, i_idiv, i_irem, i_ineg, i_iand, i_ior, i_ishl, i_ishr, i_lxor, i_ladd, i_lsub, i_lmul, i_ldiv, i_lrem, i_lneg, i_lshl, i_lcmp, i_i2l, i_l2i, i_i2b, i_i2s, i_ifeq, i_ifne, i_iflt, i_ifge, i_ifgt, i_ifle, i_cmpeq, i_cmpne, i_cmplt, i_cmpge, i_cmpgt, i_cmple, i_acmpeq, i_acmpne, i_ifnull, i_ifnonnull, i_getI, i_getR, i_putI, i_putZ, i_putR, i_ald, i_ldL, i_ldR, i_ast, i_stL, i_stR, i_alen, i_new, i_newa, i_iret, i_zret, i_lret, i_aret, i_vret, i_raise, i_throw, i_recv, i_objinit, i_tsw3, lget, lset, lput1, lput2, lkil, ltrim, largs, isL, takev, dropv, nthv, pushO, catv, gd, true_and, and_true, Option.some.injEq, Prod.mk.injEq, exists_eq_left', if_true, if_false, reduceCtorEq, Bool.false_eq_true, lcmp_ge, lcmp_lt, lcmp_le, lcmp_gt, lcmp_eq, true_or, or_true, not_true_eq_false, not_false_eq_true, false_implies, true_implies, List.length_cons, List.length_nil]
      refine ⟨fun w => two (if_pos w), fun w => ⟨fun w2 => two ?_, fun w2 => ⟨fun w3 => two ?_, fun w3 => fin 1 (.inr rfl) ?_⟩⟩⟩
      · rw [if_neg w, if_neg (by omega)]
      · rw [if_neg w, if_neg (by omega)]
      · rw [if_neg w, if_pos (by omega)]
  refine wp_in ?_
  simp only [P_X16_changes, i_kil, i_icon, i_lcon, i_null, i_loadI, i_loadL, i_loadR, i_istore, i_lstore, i_astore, i_iinc, i_dup, i_dup2, i_pop, i_iadd, i_isub, i_imul, i_idiv, i_irem, i_ineg, i_iand, i_ior, i_ishl, i_ishr, i_lxor, i_ladd, i_lsub, i_lmul, i_ldiv, i_lrem, i_lneg, i_lshl, i_lcmp, i_i2l, i_l2i, i_i2b, i_i2s, i_ifeq, i_ifne, i_iflt, i_ifge, i_ifgt, i_ifle, i_cmpeq, i_cmpne, i_cmplt, i_cmpge, i_cmpgt, i_cmple, i_acmpeq, i_acmpne, i_ifnull, i_ifnonnull, i_getI, i_getR, i_putI, i_putZ, i_putR, i_ald, i_ldL, i_ldR, i_ast, i_stL, i_stR, i_alen, i_new, i_newa, i_iret, i_zret, i_lret, i_aret, i_vret, i_raise, i_throw, i_recv, i_objinit, i_tsw3, lget, lset, lput1, lput2, lkil, ltrim, largs, isL, takev, dropv, nthv, pushO, catv, gd, true_and, and_true, Option.some.injEq, Prod.mk.injEq, exists_eq_left', if_true, if_false, reduceCtorEq, Bool.false_eq_true, lcmp_ge, lcmp_lt, lcmp_le, lcmp_gt, lcmp_eq, true_or, or_true, not_true_eq_false, not_false_eq_true, false_implies, true_implies, List.length_cons, List.length_nil]
  exact loop m 0 D (by omega) (fun _ _ _ _ _ _ => rfl)
/-- the chain of what p has once stands ready -/
def mB (p : pf) (D : Dat) (M : Nat) : Prop := ∃ (F : Nat → Nat → Int) (n : Nat → Nat) (m : Nat) (s : pf), m ≤ 11 ∧ mhD D M F n m ∧ mhM F n m ∧ pchain s (zF F n) n m ∧ smp p s
theorem changes_p {E : Ex} {B : Nat × Nat} {S : Stat} {D : Dat} {h V RV : Nat} {p : pf} {av y : Int} (hS : mhS S M) (hs : msS S M) (hD : mB p D M) (hV : wS 17 S V RV) (hRV : 17 ≤ RV) (hRV2 : RV < 265) (lV : V + 1 < M ∨ M + 16 < V) (lV2 : V + 1 < M + 4221 ∨ M + 4222 < V) (lV3 : V + 1 < M + 11297 ∨ M + 11306 < V) (ha : wD 2 1 D V av) (hab : av.natAbs ≤ 2 ^ h) (hh : h ≤ 460) (hy : y = 7 - (h : Int))
    (K : ∀ D' : Dat, mgO M D D' → mB p D' M → E (.inl (some (.inl (vP p (mpt h av))))) B S D') : Wp P_X16_changes E 0 [some (aR M), some (aR V), some (aI y)] [] B S D := by
  obtain ⟨F, n, m, s, hm, hD', hMm, hpc, hsm⟩ := hD
  refine sp_X16_changes hS hs hD' hMm hm hV hRV hRV2 lV lV2 lV3 ha hab hh hy fun D1 g1 => ?_
  have e : vch (fun i => zF F n i (mpt h av)) m = vP p (mpt h av) := (vP_eq ⟨s, zF F n, n, m, hsm, hpc, rfl⟩).symm
  rw [e]
  exact K D1 g1 ⟨F, n, m, s, hm, hD'.congr (by omega) fun c i c1 => g1 c i (by omega) (by omega) (by omega) (by omega), hMm, hpc, hsm⟩
theorem mB.congr {p : pf} {D D' : Dat} (h : mB p D M) (e : ∀ c i, (c = M ∧ i = 70) ∨ (M + 10796 ≤ c ∧ c ≤ M + 11240) → D' c i = D c i) : mB p D' M := by
  obtain ⟨F, n, m, s, h1, h2, h3⟩ := h
  exact ⟨F, n, m, s, h1, h2.congr (by omega) e, h3⟩
end MCH
