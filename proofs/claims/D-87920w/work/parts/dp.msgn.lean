/-! the model's sign: the span until one end decides -/
-- needs: do.msgsz
set_option maxRecDepth 100000
set_option linter.unusedVariables false
def sgS (S : Stat) (M : Nat) : Prop := mrS S M ∧ mthS S M ∧ S.2.1 M 90 = some (M + 12121) ∧ nmS S (M + 12121) (M + 12121 + 1) 18 4 ∧ S.2.1 M 91 = some (M + 12158) ∧ nmS S (M + 12158) (M + 12158 + 1) 18 4 ∧ S.2.1 M 16 = some (M + 25) ∧ S.1 (M + 25) = some (117, 16) ∧ ∀ r : Nat, r < 16 → S.2.1 (M + 25) r = some (M + 26 + r) ∧ S.1 (M + 26 + r) = some (104, 9)
def mxO (M : Nat) (D D' : Dat) : Prop := ∀ c i, c ≠ M + 1 → c ≠ M + 4221 → c ≠ M + 4222 → (c < M + 11297 ∨ M + 11306 < c) → c ≠ M + 10793 → c ≠ M + 10794 → (c < M + 12111 ∨ M + 12120 < c) → D' c i = D c i
section MSGN
variable {M : Nat} {S : Stat}
/-- a sign of the root's polynomial at an end -/
theorem rootSign {E : Ex} {B : Nat × Nat} {D : Dat} {s : Nat → Int} {a V h : Nat} {av y : Int} (hS : sgS S M) (ha8 : a ≤ 8) (hr : ∀ k, k ≤ a → wD 2 1 D (M + 12121 + 1 + 2 * k) (s k)) (hs : ∀ k, k ≤ a → (s k).natAbs ≤ 2 ^ 47) (hV : wS 17 S V 130) (lV : M + 12110 < V ∧ V + 1 < M + 12121) (hv : wD 2 1 D V av) (hab : av.natAbs ≤ 2 ^ h) (hh : h ≤ 460) (hy : y = 7 - (h : Int))
    (K : ∀ D' : Dat, mgO M D D' → E (.inl (some (.inl (sgr (zp s (a + 1) (mpt h av)))))) B S D') : Wp P_X16_signAt E 0 [some (aR M), some (aR (M + 12121)), some (aI a), some (aR V), some (aI y)] [] B S D := by
  obtain ⟨hmr, hmt, s1, s2, -⟩ := hS
  obtain ⟨hmh, hms, -⟩ := hmr
  exact sp_X16_signAt (f := s) (d := a) (c := 47) hmh.1 hms s2 (by omega) (by omega) ha8 hr hs (by omega) (by unfold mgB; omega) hV (by omega) (by omega) (by omega) (by omega) (by omega) hv hab hh rfl hy K
set_option maxHeartbeats 2000000 in
theorem ms_loop {E : Ex} {B : Nat × Nat} {p : pf} {s : Nat → Int} {a : Nat} {pq : Int} (hS : sgS S M) (hN : gdN (nR p)) (ha8 : a ≤ 8) (hs47 : ∀ k, k ≤ a → (s k).natAbs ≤ 2 ^ 47) {lo hi : Rat} (hstop : ∀ h w, 390 ≤ h → 0 ≤ w → w < ((2 ^ h : Nat) : Int) → nR p h w = 1 → zp s (a + 1) (rpt h w) ≠ 0)
    (D0 : Dat) (K : ∀ (D' : Dat) (h : Nat) (w : Int), mxO M D0 D' → h ≤ 459 → 0 ≤ w → w < ((2 ^ h : Nat) : Int) → lo ≤ rpt h w → rpt h (w + 1) ≤ hi → nR p h w = 1 → wD 2 1 D' (M + 12117) (mlw h w) → wD 2 1 D' (M + 12119) (mlw h (w + 1)) → (zp s (a + 1) (rpt h (w + 1)) = 0 ∨ zp s (a + 1) (rpt h w) ≠ 0) → Wp P_X16_sign E 3 [some (aR M), none, some (aI pq), none, some (aI a), some (aI h)] [] B S D') :
    ∀ (N h : Nat) (w : Int) (D : Dat), 390 ≤ h + N → h ≤ 459 → mxO M D0 D → 0 ≤ w → w < ((2 ^ h : Nat) : Int) → lo ≤ rpt h w → rpt h (w + 1) ≤ hi → nR p h w = 1 → mB p D M → (∀ k, k ≤ a → wD 2 1 D (M + 12121 + 1 + 2 * k) (s k)) → wD 2 1 D (M + 12117) (mlw h w) → wD 2 1 D (M + 12119) (mlw h (w + 1)) → Wp P_X16_sign E 2 [some (aR M), none, some (aI pq), none, some (aI a), some (aI h)] [] B S D := by
  have hS0 := hS
  obtain ⟨hmr, hmt, r1, r2, r3, r4, -⟩ := hS
  obtain ⟨hmh, hms, -⟩ := id hmr
  obtain ⟨v1, v2, v3, v4, v5, v6⟩ := id hmt
  have M1 := hmh.1.1
  have sgz : ∀ z : Rat, sgr z = 0 → z = 0 := fun z hz => Classical.byContradiction fun q => (sgr_ne.mpr q) hz
  intro N
  induction N with
  | zero =>
    intro h w D hN0 hh hfr h0 h1 hlo hhi hn hB hr hsl hsh
    have hlt := half_lt h0 h1
    have l0 := mlw_abs (h := h) h0 (by omega)
    have l1 := mlw_abs (h := h) (w := w + 1) (by omega) (by omega)
    have hnz := hstop h w (by omega) h0 h1 hn
    refine wp_in ?_
    simp only [P_X16_sign, i_kil, i_icon, i_lcon, i_null, i_loadI, i_loadL, i_loadR, i_istore, i_lstore, i_astore, i_iinc, i_dup, i_dup2, i_pop, i_iadd, i_isub, i_imul, i_idiv, i_irem, i_ineg, i_iand, i_ior, i_ishl, i_ishr, i_lxor, i_ladd, i_lsub, i_lmul, i_ldiv, i_lrem, i_lneg, i_lshl, i_lcmp, i_i2l, i_l2i, i_i2b, i_i2s, i_ifeq, i_ifne, i_iflt, i_ifge, i_ifgt, i_ifle, i_cmpeq, i_cmpne, i_cmplt, i_cmpge, i_cmpgt, i_cmple, i_acmpeq, i_acmpne, i_ifnull, i_ifnonnull, i_getI, i_getR, i_putI, i_putZ, i_putR, i_ald, i_ldL, i_ldR, i_ast, i_stL, i_stR, i_alen, i_new, i_newa, i_iret, i_zret, i_lret, i_aret, i_vret, i_raise, i_throw, i_recv, i_objinit, i_tsw3, lget, lset, lput1, lput2, lkil, ltrim, largs, isL, takev, dropv, nthv, pushO, catv, gd, true_and, and_true, Option.some.injEq, Prod.mk.injEq, exists_eq_left', if_true, if_false, reduceCtorEq, Bool.false_eq_true, lcmp_ge, lcmp_lt, lcmp_le, lcmp_gt, lcmp_eq, true_or, or_true, not_true_eq_false, not_false_eq_true, false_implies, true_implies, List.length_cons, List.length_nil, M1, r1, v5]
    repeat (first | refine ⟨in_small (by omega) (by omega), ?_⟩ | (show (_ → _) ∧ (_ → _); first | refine ⟨by omega, fun _ => ?_⟩ | refine ⟨fun _ => ?_, by omega⟩) | refine ⟨by omega, ?_⟩ | refine ⟨⟨_, rfl, by assumption⟩, ?_⟩ | refine ⟨okT_I _, ?_⟩ | refine ⟨okT_S (by omega) (by omega), ?_⟩ | refine ⟨okT_B (by omega) (by omega), ?_⟩ | refine call0 (gd_of rfl) ?_)
    refine rootSign (s := s) hS0 ha8 hr hs47 v6 (by omega) hsh l1 (by omega) rfl fun D1 g1 => ?_
    have fr1 : mxO M D0 D1 := fun c i c1 c2 c3 c4 c5 c6 c7 => by rw [g1 c i c1 c2 c3 c4]; exact hfr c i c1 c2 c3 c4 c5 c6 c7
    have hsl1 : wD 2 1 D1 (M + 12117) (mlw h w) := hsl.congr (fun i => g1 _ i (by omega) (by omega) (by omega) (by omega)) fun i => g1 _ i (by omega) (by omega) (by omega) (by omega)
    have hsh1 : wD 2 1 D1 (M + 12119) (mlw h (w + 1)) := hsh.congr (fun i => g1 _ i (by omega) (by omega) (by omega) (by omega)) fun i => g1 _ i (by omega) (by omega) (by omega) (by omega)
    simp only [P_X16_sign, i_kil, i_icon, i_lcon, i_null, i_loadI, i_loadL, i_loadR, i_istore, i_lstore, i_astore, i_iinc, i_dup, i_dup2, i_pop, i_iadd, i_isub, i_imul, i_idiv, i_irem, i_ineg, i_iand, i_ior, i_ishl, i_ishr, i_lxor, i_ladd, i_lsub, i_lmul, i_ldiv, i_lrem, i_lneg, i_lshl, i_lcmp, i_i2l, i_l2i, i_i2b, i_i2s, i_ifeq, i_ifne, i_iflt, i_ifge, i_ifgt, i_ifle, i_cmpeq, i_cmpne, i_cmplt, i_cmpge, i_cmpgt, i_cmple, i_acmpeq, i_acmpne, i_ifnull, i_ifnonnull, i_getI, i_getR, i_putI, i_putZ, i_putR, i_ald, i_ldL, i_ldR, i_ast, i_stL, i_stR, i_alen, i_new, i_newa, i_iret, i_zret, i_lret, i_aret, i_vret, i_raise, i_throw, i_recv, i_objinit, i_tsw3, lget, lset, lput1, lput2, lkil, ltrim, largs, isL, takev, dropv, nthv, pushO, catv, gd, true_and, and_true, Option.some.injEq, Prod.mk.injEq, exists_eq_left', if_true, if_false, reduceCtorEq, Bool.false_eq_true, lcmp_ge, lcmp_lt, lcmp_le, lcmp_gt, lcmp_eq, true_or, or_true, not_true_eq_false, not_false_eq_true, false_implies, true_implies, List.length_cons, List.length_nil, M1, r1, v3]
    unfold mlw
    rw [mpt_rpt]
    refine ⟨fun q => K D1 h w fr1 hh h0 h1 hlo hhi hn hsl1 hsh1 (.inl (sgz _ q)), fun q => ?_⟩
    repeat (first | refine ⟨in_small (by omega) (by omega), ?_⟩ | (show (_ → _) ∧ (_ → _); first | refine ⟨by omega, fun _ => ?_⟩ | refine ⟨fun _ => ?_, by omega⟩) | refine ⟨by omega, ?_⟩ | refine ⟨⟨_, rfl, by assumption⟩, ?_⟩ | refine ⟨okT_I _, ?_⟩ | refine ⟨okT_S (by omega) (by omega), ?_⟩ | refine ⟨okT_B (by omega) (by omega), ?_⟩ | refine call0 (gd_of rfl) ?_)
    refine rootSign (s := s) hS0 ha8 (fun k hk => (hr k hk).congr (fun i => g1 _ i (by omega) (by omega) (by omega) (by omega)) fun i => g1 _ i (by omega) (by omega) (by omega) (by omega)) hs47 v4 (by omega) hsl1 l0 (by omega) rfl fun D2 g2 => ?_
    have fr2 : mxO M D0 D2 := fun c i c1 c2 c3 c4 c5 c6 c7 => by rw [g2 c i c1 c2 c3 c4]; exact fr1 c i c1 c2 c3 c4 c5 c6 c7
    simp only [P_X16_sign, i_kil, i_icon, i_lcon, i_null, i_loadI, i_loadL, i_loadR, i_istore, i_lstore, i_astore, i_iinc, i_dup, i_dup2, i_pop, i_iadd, i_isub, i_imul, i_idiv, i_irem, i_ineg, i_iand, i_ior, i_ishl, i_ishr, i_lxor, i_ladd, i_lsub, i_lmul, i_ldiv, i_lrem, i_lneg, i_lshl, i_lcmp, i_i2l, i_l2i, i_i2b, i_i2s, i_ifeq, i_ifne, i_iflt, i_ifge, i_ifgt, i_ifle, i_cmpeq, i_cmpne, i_cmplt, i_cmpge, i_cmpgt, i_cmple, i_acmpeq, i_acmpne, i_ifnull, i_ifnonnull, i_getI, i_getR, i_putI, i_putZ, i_putR, i_ald, i_ldL, i_ldR, i_ast, i_stL, i_stR, i_alen, i_new, i_newa, i_iret, i_zret, i_lret, i_aret, i_vret, i_raise, i_throw, i_recv, i_objinit, i_tsw3, lget, lset, lput1, lput2, lkil, ltrim, largs, isL, takev, dropv, nthv, pushO, catv, gd, true_and, and_true, Option.some.injEq, Prod.mk.injEq, exists_eq_left', if_true, if_false, reduceCtorEq, Bool.false_eq_true, lcmp_ge, lcmp_lt, lcmp_le, lcmp_gt, lcmp_eq, true_or, or_true, not_true_eq_false, not_false_eq_true, false_implies, true_implies, List.length_cons, List.length_nil, M1, v3]
    unfold mlw
    rw [mpt_rpt]
    refine ⟨fun q2 => K D2 h w fr2 hh h0 h1 hlo hhi hn (hsl1.congr (fun i => g2 _ i (by omega) (by omega) (by omega) (by omega)) fun i => g2 _ i (by omega) (by omega) (by omega) (by omega)) (hsh1.congr (fun i => g2 _ i (by omega) (by omega) (by omega) (by omega)) fun i => g2 _ i (by omega) (by omega) (by omega) (by omega)) (.inr hnz), fun q2 => absurd (sgz _ q2) hnz⟩
  | succ N ih =>
    intro h w D hN0 hh hfr h0 h1 hlo hhi hn hB hr hsl hsh
    by_cases h390 : 390 ≤ h + N
    · exact ih h w D h390 hh hfr h0 h1 hlo hhi hn hB hr hsl hsh
    have hlt := half_lt h0 h1
    have l0 := mlw_abs (h := h) h0 (by omega)
    have l1 := mlw_abs (h := h) (w := w + 1) (by omega) (by omega)
    refine wp_in ?_
    simp only [P_X16_sign, i_kil, i_icon, i_lcon, i_null, i_loadI, i_loadL, i_loadR, i_istore, i_lstore, i_astore, i_iinc, i_dup, i_dup2, i_pop, i_iadd, i_isub, i_imul, i_idiv, i_irem, i_ineg, i_iand, i_ior, i_ishl, i_ishr, i_lxor, i_ladd, i_lsub, i_lmul, i_ldiv, i_lrem, i_lneg, i_lshl, i_lcmp, i_i2l, i_l2i, i_i2b, i_i2s, i_ifeq, i_ifne, i_iflt, i_ifge, i_ifgt, i_ifle, i_cmpeq, i_cmpne, i_cmplt, i_cmpge, i_cmpgt, i_cmple, i_acmpeq, i_acmpne, i_ifnull, i_ifnonnull, i_getI, i_getR, i_putI, i_putZ, i_putR, i_ald, i_ldL, i_ldR, i_ast, i_stL, i_stR, i_alen, i_new, i_newa, i_iret, i_zret, i_lret, i_aret, i_vret, i_raise, i_throw, i_recv, i_objinit, i_tsw3, lget, lset, lput1, lput2, lkil, ltrim, largs, isL, takev, dropv, nthv, pushO, catv, gd, true_and, and_true, Option.some.injEq, Prod.mk.injEq, exists_eq_left', if_true, if_false, reduceCtorEq, Bool.false_eq_true, lcmp_ge, lcmp_lt, lcmp_le, lcmp_gt, lcmp_eq, true_or, or_true, not_true_eq_false, not_false_eq_true, false_implies, true_implies, List.length_cons, List.length_nil, M1, r1, v5]
    repeat (first | refine ⟨in_small (by omega) (by omega), ?_⟩ | (show (_ → _) ∧ (_ → _); first | refine ⟨by omega, fun _ => ?_⟩ | refine ⟨fun _ => ?_, by omega⟩) | refine ⟨by omega, ?_⟩ | refine ⟨⟨_, rfl, by assumption⟩, ?_⟩ | refine ⟨okT_I _, ?_⟩ | refine ⟨okT_S (by omega) (by omega), ?_⟩ | refine ⟨okT_B (by omega) (by omega), ?_⟩ | refine call0 (gd_of rfl) ?_)
    refine rootSign (s := s) hS0 ha8 hr hs47 v6 (by omega) hsh l1 (by omega) rfl fun D1 g1 => ?_
    have fr1 : mxO M D0 D1 := fun c i c1 c2 c3 c4 c5 c6 c7 => by rw [g1 c i c1 c2 c3 c4]; exact hfr c i c1 c2 c3 c4 c5 c6 c7
    have hsl1 : wD 2 1 D1 (M + 12117) (mlw h w) := hsl.congr (fun i => g1 _ i (by omega) (by omega) (by omega) (by omega)) fun i => g1 _ i (by omega) (by omega) (by omega) (by omega)
    have hsh1 : wD 2 1 D1 (M + 12119) (mlw h (w + 1)) := hsh.congr (fun i => g1 _ i (by omega) (by omega) (by omega) (by omega)) fun i => g1 _ i (by omega) (by omega) (by omega) (by omega)
    have hr1 : ∀ k, k ≤ a → wD 2 1 D1 (M + 12121 + 1 + 2 * k) (s k) := fun k hk => (hr k hk).congr (fun i => g1 _ i (by omega) (by omega) (by omega) (by omega)) fun i => g1 _ i (by omega) (by omega) (by omega) (by omega)
    simp only [P_X16_sign, i_kil, i_icon, i_lcon, i_null, i_loadI, i_loadL, i_loadR, i_istore, i_lstore, i_astore, i_iinc, i_dup, i_dup2, i_pop, i_iadd, i_isub, i_imul, i_idiv, i_irem, i_ineg, i_iand, i_ior, i_ishl, i_ishr, i_lxor, i_ladd, i_lsub, i_lmul, i_ldiv, i_lrem, i_lneg, i_lshl, i_lcmp, i_i2l, i_l2i, i_i2b, i_i2s, i_ifeq, i_ifne, i_iflt, i_ifge, i_ifgt, i_ifle, i_cmpeq, i_cmpne, i_cmplt, i_cmpge, i_cmpgt, i_cmple, i_acmpeq, i_acmpne, i_ifnull, i_ifnonnull, i_getI, i_getR, i_putI, i_putZ, i_putR, i_ald, i_ldL, i_ldR, i_ast, i_stL, i_stR, i_alen, i_new, i_newa, i_iret, i_zret, i_lret, i_aret, i_vret, i_raise, i_throw, i_recv, i_objinit, i_tsw3, lget, lset, lput1, lput2, lkil, ltrim, largs, isL, takev, dropv, nthv, pushO, catv, gd, true_and, and_true, Option.some.injEq, Prod.mk.injEq, exists_eq_left', if_true, if_false, reduceCtorEq, Bool.false_eq_true, lcmp_ge, lcmp_lt, lcmp_le, lcmp_gt, lcmp_eq, true_or, or_true, not_true_eq_false, not_false_eq_true, false_implies, true_implies, List.length_cons, List.length_nil, M1, r1, v3]
    unfold mlw
    rw [mpt_rpt]
    refine ⟨fun q => K D1 h w fr1 hh h0 h1 hlo hhi hn hsl1 hsh1 (.inl (sgz _ q)), fun q => ?_⟩
    repeat (first | refine ⟨in_small (by omega) (by omega), ?_⟩ | (show (_ → _) ∧ (_ → _); first | refine ⟨by omega, fun _ => ?_⟩ | refine ⟨fun _ => ?_, by omega⟩) | refine ⟨by omega, ?_⟩ | refine ⟨⟨_, rfl, by assumption⟩, ?_⟩ | refine ⟨okT_I _, ?_⟩ | refine ⟨okT_S (by omega) (by omega), ?_⟩ | refine ⟨okT_B (by omega) (by omega), ?_⟩ | refine call0 (gd_of rfl) ?_)
    refine rootSign (s := s) hS0 ha8 hr1 hs47 v4 (by omega) hsl1 l0 (by omega) rfl fun D2 g2 => ?_
    have fr2 : mxO M D0 D2 := fun c i c1 c2 c3 c4 c5 c6 c7 => by rw [g2 c i c1 c2 c3 c4]; exact fr1 c i c1 c2 c3 c4 c5 c6 c7
    have hsl2 : wD 2 1 D2 (M + 12117) (mlw h w) := hsl1.congr (fun i => g2 _ i (by omega) (by omega) (by omega) (by omega)) fun i => g2 _ i (by omega) (by omega) (by omega) (by omega)
    have hr2 : ∀ k, k ≤ a → wD 2 1 D2 (M + 12121 + 1 + 2 * k) (s k) := fun k hk => (hr1 k hk).congr (fun i => g2 _ i (by omega) (by omega) (by omega) (by omega)) fun i => g2 _ i (by omega) (by omega) (by omega) (by omega)
    have hB2 : mB p D2 M := hB.congr fun c i c1 => by rw [g2 c i (by omega) (by omega) (by omega) (by omega), g1 c i (by omega) (by omega) (by omega) (by omega)]
    simp only [P_X16_sign, i_kil, i_icon, i_lcon, i_null, i_loadI, i_loadL, i_loadR, i_istore, i_lstore, i_astore, i_iinc, i_dup, i_dup2, i_pop, i_iadd, i_isub, i_imul, i_idiv, i_irem, i_ineg, i_iand, i_ior, i_ishl, i_ishr, i_lxor, i_ladd, i_lsub, i_lmul, i_ldiv, i_lrem, i_lneg, i_lshl, i_lcmp, i_i2l, i_l2i, i_i2b, i_i2s, i_ifeq, i_ifne, i_iflt, i_ifge, i_ifgt, i_ifle, i_cmpeq, i_cmpne, i_cmplt, i_cmpge, i_cmpgt, i_cmple, i_acmpeq, i_acmpne, i_ifnull, i_ifnonnull, i_getI, i_getR, i_putI, i_putZ, i_putR, i_ald, i_ldL, i_ldR, i_ast, i_stL, i_stR, i_alen, i_new, i_newa, i_iret, i_zret, i_lret, i_aret, i_vret, i_raise, i_throw, i_recv, i_objinit, i_tsw3, lget, lset, lput1, lput2, lkil, ltrim, largs, isL, takev, dropv, nthv, pushO, catv, gd, true_and, and_true, Option.some.injEq, Prod.mk.injEq, exists_eq_left', if_true, if_false, reduceCtorEq, Bool.false_eq_true, lcmp_ge, lcmp_lt, lcmp_le, lcmp_gt, lcmp_eq, true_or, or_true, not_true_eq_false, not_false_eq_true, false_implies, true_implies, List.length_cons, List.length_nil, M1, v3]
    unfold mlw
    rw [mpt_rpt]
    refine ⟨fun q2 => K D2 h w fr2 hh h0 h1 hlo hhi hn hsl2 (hsh1.congr (fun i => g2 _ i (by omega) (by omega) (by omega) (by omega)) fun i => g2 _ i (by omega) (by omega) (by omega) (by omega)) (.inr (sgr_ne.mp q2)), fun q2 => ?_⟩
    repeat (first | refine ⟨in_small (by omega) (by omega), ?_⟩ | (show (_ → _) ∧ (_ → _); first | refine ⟨by omega, fun _ => ?_⟩ | refine ⟨fun _ => ?_, by omega⟩) | refine ⟨by omega, ?_⟩ | refine ⟨⟨_, rfl, by assumption⟩, ?_⟩ | refine ⟨okT_I _, ?_⟩ | refine ⟨okT_S (by omega) (by omega), ?_⟩ | refine ⟨okT_B (by omega) (by omega), ?_⟩ | refine call0 (gd_of rfl) ?_)
    have na := hN.1 (h + 1) (2 * w) (by omega) (by omega)
    have nb := hN.1 (h + 1) (2 * w + 1) (by omega) hlt
    have nadd := hN.2.1 h w
    refine sp_X16_halve hmr hmt v4 (by omega) (by omega) (by omega) (by omega) (by omega) (by omega) hsl2 h0 h1 (by omega) rfl hB2 fun D3 i1 hB3 i3 => ?_
    have hr3 : ∀ k, k ≤ a → wD 2 1 D3 (M + 12121 + 1 + 2 * k) (s k) := fun k hk => (hr2 k hk).congr (fun i => i1 _ i (by omega) (by omega) (by omega) (by omega) (by omega) (by omega) (by omega) (by omega) (by omega)) fun i => i1 _ i (by omega) (by omega) (by omega) (by omega) (by omega) (by omega) (by omega) (by omega) (by omega)
    have go : ∀ (u v : Int), (u = 0 ∨ u = 1) → nR p (h + 1) (2 * w + u) = 1 → wD 2 1 D3 (M + 12117) (mlw (h + 1) (2 * w + u)) → i_pop (i_iinc (i_loadR (i_loadR (i_getR (fun ls st B S D => i_recv (i_call (fun ls st B S D => Wp P_X16_sign E 2 ls st B S D) P_X16_high 2 2 i_none) 16 1 ls st B S D) 16 88) 0) 0) 5 1) [some (aR M), none, some (aI pq), none, some (aI a), some (aI h)] [.inl v] B S D3 := fun u v hu hnu hw3 => by
      have lo' : lo ≤ rpt (h + 1) (2 * w + u) := by
        have a := rpt_mono (h := h + 1) (show 2 * w ≤ 2 * w + u by omega)
        rw [rpt_half] at a
        exact Rat.le_trans hlo a
      have hi' : rpt (h + 1) (2 * w + u + 1) ≤ hi := by
        have a := rpt_mono (h := h + 1) (show 2 * w + u + 1 ≤ 2 * w + 1 + 1 by omega)
        rw [rpt_low2] at a
        exact Rat.le_trans a hhi
      simp only [P_X16_sign, i_kil, i_icon, i_lcon, i_null, i_loadI, i_loadL, i_loadR, i_istore, i_lstore, i_astore, i_iinc, i_dup, i_dup2, i_pop, i_iadd, i_isub, i_imul, i_idiv, i_irem, i_ineg, i_iand, i_ior, i_ishl, i_ishr, i_lxor, i_ladd, i_lsub, i_lmul, i_ldiv, i_lrem, i_lneg, i_lshl, i_lcmp, i_i2l, i_l2i, i_i2b, i_i2s, i_ifeq, i_ifne, i_iflt, i_ifge, i_ifgt, i_ifle, i_cmpeq, i_cmpne, i_cmplt, i_cmpge, i_cmpgt, i_cmple, i_acmpeq, i_acmpne, i_ifnull, i_ifnonnull, i_getI, i_getR, i_putI, i_putZ, i_putR, i_ald, i_ldL, i_ldR, i_ast, i_stL, i_stR, i_alen, i_new, i_newa, i_iret, i_zret, i_lret, i_aret, i_vret, i_raise, i_throw, i_recv, i_objinit, i_tsw3, lget, lset, lput1, lput2, lkil, ltrim, largs, isL, takev, dropv, nthv, pushO, catv, gd, true_and, and_true, Option.some.injEq, Prod.mk.injEq, exists_eq_left', if_true, if_false, reduceCtorEq, Bool.false_eq_true, lcmp_ge, lcmp_lt, lcmp_le, lcmp_gt, lcmp_eq, true_or, or_true, not_true_eq_false, not_false_eq_true, false_implies, true_implies, List.length_cons, List.length_nil, M1, v3]
      repeat (first | refine ⟨in_small (by omega) (by omega), ?_⟩ | (show (_ → _) ∧ (_ → _); first | refine ⟨by omega, fun _ => ?_⟩ | refine ⟨fun _ => ?_, by omega⟩) | refine ⟨by omega, ?_⟩ | refine ⟨⟨_, rfl, by assumption⟩, ?_⟩ | refine ⟨okT_I _, ?_⟩ | refine ⟨okT_S (by omega) (by omega), ?_⟩ | refine ⟨okT_B (by omega) (by omega), ?_⟩ | refine call0 (gd_of rfl) ?_)
      refine sp_X16_high hmr hmt v4 (by omega) (by omega) (by omega) hw3 (by omega) (by omega) (by omega) fun D4 j1 j2 => ?_
      simp only [P_X16_sign, i_kil, i_icon, i_lcon, i_null, i_loadI, i_loadL, i_loadR, i_istore, i_lstore, i_astore, i_iinc, i_dup, i_dup2, i_pop, i_iadd, i_isub, i_imul, i_idiv, i_irem, i_ineg, i_iand, i_ior, i_ishl, i_ishr, i_lxor, i_ladd, i_lsub, i_lmul, i_ldiv, i_lrem, i_lneg, i_lshl, i_lcmp, i_i2l, i_l2i, i_i2b, i_i2s, i_ifeq, i_ifne, i_iflt, i_ifge, i_ifgt, i_ifle, i_cmpeq, i_cmpne, i_cmplt, i_cmpge, i_cmpgt, i_cmple, i_acmpeq, i_acmpne, i_ifnull, i_ifnonnull, i_getI, i_getR, i_putI, i_putZ, i_putR, i_ald, i_ldL, i_ldR, i_ast, i_stL, i_stR, i_alen, i_new, i_newa, i_iret, i_zret, i_lret, i_aret, i_vret, i_raise, i_throw, i_recv, i_objinit, i_tsw3, lget, lset, lput1, lput2, lkil, ltrim, largs, isL, takev, dropv, nthv, pushO, catv, gd, true_and, and_true, Option.some.injEq, Prod.mk.injEq, exists_eq_left', if_true, if_false, reduceCtorEq, Bool.false_eq_true, lcmp_ge, lcmp_lt, lcmp_le, lcmp_gt, lcmp_eq, true_or, or_true, not_true_eq_false, not_false_eq_true, false_implies, true_implies, List.length_cons, List.length_nil]
      refine ih (h + 1) (2 * w + u) D4 (by omega) (by omega) (fun c i c1 c2 c3 c4 c5 c6 c7 => by rw [j1 c i c5 c6 (by omega) (by omega), i1 c i c1 c2 c3 c4 c5 c6 (by omega) (by omega) (by omega)]; exact fr2 c i c1 c2 c3 c4 c5 c6 c7) (by omega) (by omega) lo' hi' hnu (hB3.congr fun c i c1 => j1 c i (by omega) (by omega) (by omega) (by omega)) (fun k hk => (hr3 k hk).congr (fun i => j1 _ i (by omega) (by omega) (by omega) (by omega)) fun i => j1 _ i (by omega) (by omega) (by omega) (by omega)) (hw3.congr (fun i => j1 _ i (by omega) (by omega) (by omega) (by omega)) fun i => j1 _ i (by omega) (by omega) (by omega) (by omega)) j2
    by_cases hc : 0 < nR p (h + 1) (2 * w)
    · rw [if_pos hc] at i3 ⊢
      refine go 0 _ (.inl rfl) (by rw [Int.add_zero]; omega) (by rw [Int.add_zero]; exact i3)
    · rw [if_neg hc] at i3 ⊢
      exact go 1 _ (.inr rfl) (by omega) i3
end MSGN
