/-! the model's sign: from the two rows to the answer -/
-- needs: dq.msgn2
set_option maxRecDepth 100000
set_option linter.unusedVariables false
section MSG3
variable {M : Nat} {S : Stat} {s R : Nat → Int} {a nr : Nat}
set_option maxHeartbeats 4000000 in
theorem ms_chain {E : Ex} {B : Nat × Nat} {D : Dat} {h : Nat} {w : Int} (hS : sgS S M) (ha8 : a ≤ 8) (ha1 : 1 ≤ a) (s0 : s a ≠ 0) (hs47 : ∀ k, k ≤ a → (s k).natAbs ≤ 2 ^ 47) (hrn : ∀ k, k ≤ a → wD 2 1 D (M + 12121 + 1 + 2 * k) (s k)) (hnr : nr ≤ a) (hwk : ∀ k, k < nr → wD 2 1 D (M + 11242 + 2 * k) (R k)) (hR0 : 0 < nr → R (nr - 1) ≠ 0) (hRb : ∀ k, k < nr → ((R k).natAbs : Int) < 1000000000 ^ 130) (hW : 0 < nr → mhW s R a (nr - 1) ∧ ∀ F n m, chG s R a (nr - 1) F n m → mhM F n m) (h0 : 0 ≤ w) (h1 : w < ((2 ^ h : Nat) : Int)) (hh : h ≤ 459) (hsl : wD 2 1 D (M + 12117) (mlw h w)) (hsh : wD 2 1 D (M + 12119) (mlw h (w + 1)))
    (K : ∀ (D' : Dat) (F : Nat → Nat → Int) (n : Nat → Nat) (mt : Nat), (∀ c i, (c < M ∨ M + 16 < c) → (c < M + 10781 ∨ M + 10788 < c) → (c < M + 10796 ∨ M + 11277 < c) → c ≠ M + 4221 → c ≠ M + 4222 → (c < M + 11297 ∨ M + 11306 < c) → D' c i = D c i) → (∀ i, i ≠ 70 → D' M i = D M i) → 1 ≤ mt → fch (zF F n) n mt → fend (zF F n) mt → F 0 = s → n 0 = a → (mt = 1 → nr = 0) → (2 ≤ mt → 0 < nr ∧ F 1 = R ∧ n 1 = nr - 1) → E (.inl (some (.inl (1 + vch (fun i => zF F n i (rpt h w)) mt - vch (fun i => zF F n i (rpt h (w + 1))) mt)))) B S D') : Wp P_X16_sign E 7 [some (aR M), none, none, none, some (aI a), some (aI h), some (aI ((nr : Int) - 1)), some (aI 0)] [] B S D := by
  obtain ⟨hmr, hmt, r1, r2, r3, r4, -⟩ := id hS
  obtain ⟨hmh, hms, -⟩ := id hmr
  obtain ⟨hM, hWw, hK, s1, s2, s3, s4, s5⟩ := id hmh
  obtain ⟨k1, k2, k3⟩ := id hK
  obtain ⟨v1, v2, v3, v4, v5, v6⟩ := id hmt
  obtain ⟨t1, t2⟩ := id r2
  have M1 := hM.1
  obtain ⟨c0, c0'⟩ := s3 0 (by omega)
  obtain ⟨c1, c1'⟩ := s3 1 (by omega)
  obtain ⟨q0, q0'⟩ := id c0'
  obtain ⟨q1, q1'⟩ := id c1'
  have c0i : S.2.1 (M + 10795) (0 : Int) = some (M + 10796 + 37 * 0) := c0
  have c1i : S.2.1 (M + 10795) (1 : Int) = some (M + 10796 + 37 * 1) := c1
  have l0 := mlw_abs (h := h) h0 (by omega)
  have l1 := mlw_abs (h := h) (w := w + 1) (by omega) (by omega)
  have p260 : (1000000000 : Int) ^ 130 ≤ 1000000000 ^ 260 := pw_mono (by decide)
  have ls : ∀ k, k ≤ a → ((s k).natAbs : Int) < 1000000000 ^ 2 := fun k hk => nat_pw (hs47 k hk) (two_pw (by omega))
  have p2 : (1000000000 : Int) ^ 2 ≤ 1000000000 ^ 4 := pw_mono (by decide)
  have p4 : (1000000000 : Int) ^ 4 ≤ 1000000000 ^ 130 := pw_mono (by decide)
  -- the answer
  have ans : ∀ (D2 : Dat) (F : Nat → Nat → Int) (n : Nat → Nat) (mt : Nat), (∀ c i, (c < M ∨ M + 16 < c) → (c < M + 10781 ∨ M + 10788 < c) → (c < M + 10796 ∨ M + 11277 < c) → D2 c i = D c i) → (∀ i, i ≠ 70 → D2 M i = D M i) → mhD D2 M F n mt → mhM F n mt → mt ≤ 11 → 1 ≤ mt → fch (zF F n) n mt → fend (zF F n) mt → F 0 = s → n 0 = a → (mt = 1 → nr = 0) → (2 ≤ mt → 0 < nr ∧ F 1 = R ∧ n 1 = nr - 1) → i_icon (i_loadR (i_loadR (i_getR (i_icon (i_loadI (i_isub (fun ls st B S D => i_recv (i_call (i_iadd (i_loadR (i_loadR (i_getR (i_icon (i_loadI (i_isub (fun ls st B S D => i_recv (i_call (i_isub (i_iret E)) P_X16_changes 3 3 i_none) 16 2 ls st B S D)) 5) 7) 16 89) 0) 0)) P_X16_changes 3 3 i_none) 16 2 ls st B S D)) 5) 7) 16 88) 0) 0) 1 [some (aR M), none, none, none, some (aI a), some (aI h), some (aI ((nr : Int) - 1)), some (aI (nr : Int))] [] B S D2 := by
    intro D2 F n mt fr frM hD hMm hmt11 hmt1 hc he e0 en0 hz1 hz2
    have fr' : ∀ c i, (M + 12117 ≤ c ∧ c ≤ M + 12120) → D2 c i = D c i := fun c i w => fr c i (by omega) (by omega) (by omega)
    have b1 := (vch_le (F := fun i => zF F n i (rpt h w)) (m := mt))
    have b2 := (vch_le (F := fun i => zF F n i (rpt h (w + 1))) (m := mt))
    simp only [P_X16_sign, i_kil, i_icon, i_lcon, i_null, i_loadI, i_loadL, i_loadR, i_istore, i_lstore, i_astore, i_iinc, i_dup, i_dup2, i_pop, i_iadd, i_isub, i_imul, i_idiv, i_irem, i_ineg, i_iand, i_ior, i_ishl, i_ishr, i_lxor, i_ladd, i_lsub, i_lmul, i_ldiv, i_lrem, i_lneg, i_lshl, i_lcmp, i_i2l, i_l2i, i_i2b, i_i2s, i_ifeq, i_ifne, i_iflt, i_ifge, i_ifgt, i_ifle, i_cmpeq, i_cmpne, i_cmplt, i_cmpge, i_cmpgt, i_cmple, i_acmpeq, i_acmpne, i_ifnull, i_ifnonnull, i_getI, i_getR, i_putI, i_putZ, i_putR, i_ald, i_ldL, i_ldR, i_ast, i_stL, i_stR, i_alen, i_new, i_newa, i_iret, i_zret, i_lret, i_aret, i_vret, i_raise, i_throw, i_recv, i_objinit, i_tsw3, lget, lset, lput1, lput2, lkil, ltrim, largs, isL, takev, dropv, nthv, pushO, catv, gd, true_and, and_true, Option.some.injEq, Prod.mk.injEq, exists_eq_left', if_true, if_false, reduceCtorEq, Bool.false_eq_true, lcmp_ge, lcmp_lt, lcmp_le, lcmp_gt, lcmp_eq, true_or, or_true, not_true_eq_false, not_false_eq_true, false_implies, true_implies, List.length_cons, List.length_nil, M1, v3]
    repeat (first | refine ⟨in_small (by omega) (by omega), ?_⟩ | (show (_ → _) ∧ (_ → _); first | refine ⟨by omega, fun _ => ?_⟩ | refine ⟨fun _ => ?_, by omega⟩) | refine ⟨by omega, ?_⟩ | refine ⟨⟨_, rfl, by assumption⟩, ?_⟩ | refine ⟨okT_I _, ?_⟩ | refine ⟨okT_S (by omega) (by omega), ?_⟩ | refine ⟨okT_B (by omega) (by omega), ?_⟩ | refine call0 (gd_of rfl) ?_)
    refine sp_X16_changes hmh hms hD hMm hmt11 v4 (by omega) (by omega) (by omega) (by omega) (by omega) (hsl.congr (fun i => fr' _ i (by omega)) fun i => fr' _ i (by omega)) l0 (by omega) rfl fun D3 g1 => ?_
    have hD3 : mhD D3 M F n mt := hD.congr (by omega) fun c i c1 => g1 c i (by omega) (by omega) (by omega) (by omega)
    unfold mlw
    rw [mpt_rpt]
    have K3 := fun D4 => K D4 F n mt
    generalize hx : vch (fun i => zF F n i (rpt h w)) mt = X at *
    simp only [P_X16_sign, i_kil, i_icon, i_lcon, i_null, i_loadI, i_loadL, i_loadR, i_istore, i_lstore, i_astore, i_iinc, i_dup, i_dup2, i_pop, i_iadd, i_isub, i_imul, i_idiv, i_irem, i_ineg, i_iand, i_ior, i_ishl, i_ishr, i_lxor, i_ladd, i_lsub, i_lmul, i_ldiv, i_lrem, i_lneg, i_lshl, i_lcmp, i_i2l, i_l2i, i_i2b, i_i2s, i_ifeq, i_ifne, i_iflt, i_ifge, i_ifgt, i_ifle, i_cmpeq, i_cmpne, i_cmplt, i_cmpge, i_cmpgt, i_cmple, i_acmpeq, i_acmpne, i_ifnull, i_ifnonnull, i_getI, i_getR, i_putI, i_putZ, i_putR, i_ald, i_ldL, i_ldR, i_ast, i_stL, i_stR, i_alen, i_new, i_newa, i_iret, i_zret, i_lret, i_aret, i_vret, i_raise, i_throw, i_recv, i_objinit, i_tsw3, lget, lset, lput1, lput2, lkil, ltrim, largs, isL, takev, dropv, nthv, pushO, catv, gd, true_and, and_true, Option.some.injEq, Prod.mk.injEq, exists_eq_left', if_true, if_false, reduceCtorEq, Bool.false_eq_true, lcmp_ge, lcmp_lt, lcmp_le, lcmp_gt, lcmp_eq, true_or, or_true, not_true_eq_false, not_false_eq_true, false_implies, true_implies, List.length_cons, List.length_nil, M1, v5]
    repeat (first | refine ⟨in_small (by omega) (by omega), ?_⟩ | (show (_ → _) ∧ (_ → _); first | refine ⟨by omega, fun _ => ?_⟩ | refine ⟨fun _ => ?_, by omega⟩) | refine ⟨by omega, ?_⟩ | refine ⟨⟨_, rfl, by assumption⟩, ?_⟩ | refine ⟨okT_I _, ?_⟩ | refine ⟨okT_S (by omega) (by omega), ?_⟩ | refine ⟨okT_B (by omega) (by omega), ?_⟩ | refine call0 (gd_of rfl) ?_)
    refine sp_X16_changes hmh hms hD3 hMm hmt11 v6 (by omega) (by omega) (by omega) (by omega) (by omega) (hsh.congr (fun i => by rw [g1 _ i (by omega) (by omega) (by omega) (by omega)]; exact fr' _ i (by omega)) fun i => by rw [g1 _ i (by omega) (by omega) (by omega) (by omega)]; exact fr' _ i (by omega)) l1 (by omega) rfl fun D4 g2 => ?_
    unfold mlw
    rw [mpt_rpt]
    have K4 := K3 D4 (fun c i c1 c2 c3 c4 c5 c6 => by rw [g2 c i (by omega) c4 c5 c6, g1 c i (by omega) c4 c5 c6]; exact fr c i c1 c2 c3) (fun i hi => by rw [g2 _ i (by omega) (by omega) (by omega) (by omega), g1 _ i (by omega) (by omega) (by omega) (by omega)]; exact frM i hi) hmt1 hc he e0 en0 hz1 hz2
    generalize vch (fun i => zF F n i (rpt h (w + 1))) mt = Y at *
    simp only [P_X16_sign, i_kil, i_icon, i_lcon, i_null, i_loadI, i_loadL, i_loadR, i_istore, i_lstore, i_astore, i_iinc, i_dup, i_dup2, i_pop, i_iadd, i_isub, i_imul, i_idiv, i_irem, i_ineg, i_iand, i_ior, i_ishl, i_ishr, i_lxor, i_ladd, i_lsub, i_lmul, i_ldiv, i_lrem, i_lneg, i_lshl, i_lcmp, i_i2l, i_l2i, i_i2b, i_i2s, i_ifeq, i_ifne, i_iflt, i_ifge, i_ifgt, i_ifle, i_cmpeq, i_cmpne, i_cmplt, i_cmpge, i_cmpgt, i_cmple, i_acmpeq, i_acmpne, i_ifnull, i_ifnonnull, i_getI, i_getR, i_putI, i_putZ, i_putR, i_ald, i_ldL, i_ldR, i_ast, i_stL, i_stR, i_alen, i_new, i_newa, i_iret, i_zret, i_lret, i_aret, i_vret, i_raise, i_throw, i_recv, i_objinit, i_tsw3, lget, lset, lput1, lput2, lkil, ltrim, largs, isL, takev, dropv, nthv, pushO, catv, gd, true_and, and_true, Option.some.injEq, Prod.mk.injEq, exists_eq_left', if_true, if_false, reduceCtorEq, Bool.false_eq_true, lcmp_ge, lcmp_lt, lcmp_le, lcmp_gt, lcmp_eq, true_or, or_true, not_true_eq_false, not_false_eq_true, false_implies, true_implies, List.length_cons, List.length_nil]
    exact ⟨in_small (by omega) (by omega), K4⟩
  have second : ∀ (L j : Nat) (D1 : Dat), j + L = nr → (∀ c i, (c < M + 10796 ∨ M + 10796 + 74 < c) → D1 c i = D c i) → (∀ k, k ≤ a → wD 2 1 D1 (mcw M 0 k) (s k)) → (∀ k, k < j → wD 2 1 D1 (mcw M 1 k) (R k)) → Wp P_X16_sign E 8 [some (aR M), none, none, none, some (aI a), some (aI h), some (aI ((nr : Int) - 1)), some (aI j)] [] B S D1 := by
    intro L
    induction L with
    | zero =>
      intro j D1 hj hfr hr0 hr1
      have : j = nr := by omega
      subst this
      have u : ∀ c i, c ≠ M + 11240 → pmu (pmu D1 (M + 11240) 0 a) (M + 11240) 1 ((j : Int) - 1) c i = D1 c i := fun c i c1 => by
        simp only [pmu]; rw [if_neg (by omega), if_neg (by omega)]
      have d0 : pmu (pmu D1 (M + 11240) 0 a) (M + 11240) 1 ((j : Int) - 1) (M + 11240) 0 = a := by simp only [pmu]; rw [if_neg (by omega), if_pos (by simp)]
      have d1 : pmu (pmu D1 (M + 11240) 0 a) (M + 11240) 1 ((j : Int) - 1) (M + 11240) 1 = (j : Int) - 1 := by simp only [pmu]; rw [if_pos (by simp)]
      refine wp_in ?_
      simp only [P_X16_sign, i_kil, i_icon, i_lcon, i_null, i_loadI, i_loadL, i_loadR, i_istore, i_lstore, i_astore, i_iinc, i_dup, i_dup2, i_pop, i_iadd, i_isub, i_imul, i_idiv, i_irem, i_ineg, i_iand, i_ior, i_ishl, i_ishr, i_lxor, i_ladd, i_lsub, i_lmul, i_ldiv, i_lrem, i_lneg, i_lshl, i_lcmp, i_i2l, i_l2i, i_i2b, i_i2s, i_ifeq, i_ifne, i_iflt, i_ifge, i_ifgt, i_ifle, i_cmpeq, i_cmpne, i_cmplt, i_cmpge, i_cmpgt, i_cmple, i_acmpeq, i_acmpne, i_ifnull, i_ifnonnull, i_getI, i_getR, i_putI, i_putZ, i_putR, i_ald, i_ldL, i_ldR, i_ast, i_stL, i_stR, i_alen, i_new, i_newa, i_iret, i_zret, i_lret, i_aret, i_vret, i_raise, i_throw, i_recv, i_objinit, i_tsw3, lget, lset, lput1, lput2, lkil, ltrim, largs, isL, takev, dropv, nthv, pushO, catv, gd, true_and, and_true, Option.some.injEq, Prod.mk.injEq, exists_eq_left', if_true, if_false, reduceCtorEq, Bool.false_eq_true, lcmp_ge, lcmp_lt, lcmp_le, lcmp_gt, lcmp_eq, true_or, or_true, not_true_eq_false, not_false_eq_true, false_implies, true_implies, List.length_cons, List.length_nil, M1, s4, s5]
      refine ⟨fun _ => ?_, fun w => by omega⟩
      repeat (first | refine ⟨in_small (by omega) (by omega), ?_⟩ | (show (_ → _) ∧ (_ → _); first | refine ⟨by omega, fun _ => ?_⟩ | refine ⟨fun _ => ?_, by omega⟩) | refine ⟨by omega, ?_⟩ | refine ⟨⟨_, rfl, by assumption⟩, ?_⟩ | refine ⟨okT_I _, ?_⟩ | refine ⟨okT_S (by omega) (by omega), ?_⟩ | refine ⟨okT_B (by omega) (by omega), ?_⟩ | refine call0 (gd_of rfl) ?_)
      rcases Nat.eq_zero_or_pos j with hz | hz
      · subst hz
        refine sp_X16_goOn1 hmh d1 fun D2 g1 g2 => ?_
        have ex : ∀ i, i < 1 → i = 0 := fun i hi => by omega
        refine ans D2 (fun _ => s) (fun _ => a) 1 (fun c i c1 c2 c3 => by rw [g1 c i (by omega), u c i (by omega)]; exact hfr c i (by omega)) (fun i hi => by rw [g1 _ i (by omega), u _ i (by omega)]; exact hfr _ i (by omega)) ⟨g2, fun r hr => ?_⟩ (fun i hi => ⟨47, hs47, show 4 + 47 + a * 467 < 29 * 140 by omega, by omega⟩) (by omega) (Nat.le_refl _) ⟨fun i hi => zp_ex s0, fun i a1 a2 => by omega⟩ (fun q => by omega) rfl rfl (fun _ => rfl) fun q => by omega
        have : r = 0 := by omega
        subst this
        exact ⟨by rw [g1 _ _ (by omega)]; exact d0, show a < 9 by omega, s0, fun k (hk : k ≤ a) => (hr0 k hk).congr (fun i => by rw [g1 _ i (by unfold mcw; omega), u _ i (by unfold mcw; omega)]) fun i => by rw [g1 _ i (by unfold mcw; omega), u _ i (by unfold mcw; omega)]⟩
      · obtain ⟨w1, w2⟩ := hW hz
        have ej : (j : Int) - 1 = ((j - 1 : Nat) : Int) := by omega
        refine sp_X16_goOn (f0 := s) (f1 := R) (n0 := a) (n1 := j - 1) hmh (by omega) (by omega) (by omega) w1 d0 (by rw [d1]; exact ej) (fun k hk => (hr0 k hk).congr (fun i => u _ i (by unfold mcw; omega)) fun i => u _ i (by unfold mcw; omega)) (fun k hk => (hr1 k (by omega)).congr (fun i => u _ i (by unfold mcw; omega)) fun i => u _ i (by unfold mcw; omega)) s0 (hR0 hz) fun D2 F n m g1 g2 g3 g4 => ?_
        exact ans D2 F n m (fun c i c1 c2 c3 => by rw [g1.1 c i c1 c2 c3, u c i (by omega)]; exact hfr c i (by omega)) (fun i hi => by rw [g1.2 i hi, u _ i (by omega)]; exact hfr _ i (by omega)) g2 (w2 F n m g4) (by have := g4.2.1; omega) (by have := g4.1; omega) g4.2.2.2.2.2.2.1 g4.2.2.2.2.2.2.2.1 g4.2.2.1 g4.2.2.2.2.1 (fun q => by have := g4.1; omega) fun _ => ⟨hz, g4.2.2.2.1, g4.2.2.2.2.2.1⟩
    | succ L ih =>
      intro j D1 hj hfr hr0 hr1
      obtain ⟨x1, x2⟩ := q1' j (by omega)
      obtain ⟨y1, y2⟩ := k3 j (by omega)
      have x3 := x2.1
      have hx : wD 2 1 D1 (M + 11242 + 2 * j) (R j) := (hwk j (by omega)).congr (fun i => hfr _ i (by omega)) fun i => hfr _ i (by omega)
      have lR := hRb j (by omega)
      refine wp_in ?_
      simp only [P_X16_sign, i_kil, i_icon, i_lcon, i_null, i_loadI, i_loadL, i_loadR, i_istore, i_lstore, i_astore, i_iinc, i_dup, i_dup2, i_pop, i_iadd, i_isub, i_imul, i_idiv, i_irem, i_ineg, i_iand, i_ior, i_ishl, i_ishr, i_lxor, i_ladd, i_lsub, i_lmul, i_ldiv, i_lrem, i_lneg, i_lshl, i_lcmp, i_i2l, i_l2i, i_i2b, i_i2s, i_ifeq, i_ifne, i_iflt, i_ifge, i_ifgt, i_ifle, i_cmpeq, i_cmpne, i_cmplt, i_cmpge, i_cmpgt, i_cmple, i_acmpeq, i_acmpne, i_ifnull, i_ifnonnull, i_getI, i_getR, i_putI, i_putZ, i_putR, i_ald, i_ldL, i_ldR, i_ast, i_stL, i_stR, i_alen, i_new, i_newa, i_iret, i_zret, i_lret, i_aret, i_vret, i_raise, i_throw, i_recv, i_objinit, i_tsw3, lget, lset, lput1, lput2, lkil, ltrim, largs, isL, takev, dropv, nthv, pushO, catv, gd, true_and, and_true, Option.some.injEq, Prod.mk.injEq, exists_eq_left', if_true, if_false, reduceCtorEq, Bool.false_eq_true, lcmp_ge, lcmp_lt, lcmp_le, lcmp_gt, lcmp_eq, true_or, or_true, not_true_eq_false, not_false_eq_true, false_implies, true_implies, List.length_cons, List.length_nil, M1, s1, s2, c1i, q1, x1, k1, k2, y1]
      refine ⟨fun w => by omega, fun _ => ?_⟩
      repeat (first | refine ⟨in_small (by omega) (by omega), ?_⟩ | (show (_ → _) ∧ (_ → _); first | refine ⟨by omega, fun _ => ?_⟩ | refine ⟨fun _ => ?_, by omega⟩) | refine ⟨by omega, ?_⟩ | refine ⟨⟨_, rfl, by assumption⟩, ?_⟩ | refine ⟨okT_I _, ?_⟩ | refine ⟨okT_S (by omega) (by omega), ?_⟩ | refine ⟨okT_B (by omega) (by omega), ?_⟩ | refine call0 (gd_of rfl) ?_)
      refine sp_X17_copy x2 y2 hx lR (by omega) (by omega) fun D2 g1 g2 => ?_
      simp only [P_X16_sign, i_kil, i_icon, i_lcon, i_null, i_loadI, i_loadL, i_loadR, i_istore, i_lstore, i_astore, i_iinc, i_dup, i_dup2, i_pop, i_iadd, i_isub, i_imul, i_idiv, i_irem, i_ineg, i_iand, i_ior, i_ishl, i_ishr, i_lxor, i_ladd, i_lsub, i_lmul, i_ldiv, i_lrem, i_lneg, i_lshl, i_lcmp, i_i2l, i_l2i, i_i2b, i_i2s, i_ifeq, i_ifne, i_iflt, i_ifge, i_ifgt, i_ifle, i_cmpeq, i_cmpne, i_cmplt, i_cmpge, i_cmpgt, i_cmple, i_acmpeq, i_acmpne, i_ifnull, i_ifnonnull, i_getI, i_getR, i_putI, i_putZ, i_putR, i_ald, i_ldL, i_ldR, i_ast, i_stL, i_stR, i_alen, i_new, i_newa, i_iret, i_zret, i_lret, i_aret, i_vret, i_raise, i_throw, i_recv, i_objinit, i_tsw3, lget, lset, lput1, lput2, lkil, ltrim, largs, isL, takev, dropv, nthv, pushO, catv, gd, true_and, and_true, Option.some.injEq, Prod.mk.injEq, exists_eq_left', if_true, if_false, reduceCtorEq, Bool.false_eq_true, lcmp_ge, lcmp_lt, lcmp_le, lcmp_gt, lcmp_eq, true_or, or_true, not_true_eq_false, not_false_eq_true, false_implies, true_implies, List.length_cons, List.length_nil]
      repeat (first | refine ⟨in_small (by omega) (by omega), ?_⟩ | (show (_ → _) ∧ (_ → _); first | refine ⟨by omega, fun _ => ?_⟩ | refine ⟨fun _ => ?_, by omega⟩) | refine ⟨by omega, ?_⟩ | refine ⟨⟨_, rfl, by assumption⟩, ?_⟩ | refine ⟨okT_I _, ?_⟩ | refine ⟨okT_S (by omega) (by omega), ?_⟩ | refine ⟨okT_B (by omega) (by omega), ?_⟩ | refine call0 (gd_of rfl) ?_)
      refine ih (j + 1) D2 (by omega) (fun c i c1 => by rw [g1 c i (by omega) (by omega)]; exact hfr c i c1) (fun k hk => (hr0 k hk).congr (fun i => g1 _ i (by unfold mcw; omega) (by unfold mcw; omega)) fun i => g1 _ i (by unfold mcw; omega) (by unfold mcw; omega)) fun k hk => ?_
      by_cases w : k = j
      · rw [w]; exact g2
      · exact (hr1 k (by omega)).congr (fun i => g1 _ i (by unfold mcw; omega) (by unfold mcw; omega)) fun i => g1 _ i (by unfold mcw; omega) (by unfold mcw; omega)
  have first : ∀ (L j : Nat) (D1 : Dat), j + L = a + 1 → (∀ c i, (c < M + 10796 ∨ M + 10796 + 74 < c) → D1 c i = D c i) → (∀ k, k < j → wD 2 1 D1 (mcw M 0 k) (s k)) → Wp P_X16_sign E 7 [some (aR M), none, none, none, some (aI a), some (aI h), some (aI ((nr : Int) - 1)), some (aI j)] [] B S D1 := by
    intro L
    induction L with
    | zero =>
      intro j D1 hj hfr hr0
      refine wp_in ?_
      simp only [P_X16_sign, i_kil, i_icon, i_lcon, i_null, i_loadI, i_loadL, i_loadR, i_istore, i_lstore, i_astore, i_iinc, i_dup, i_dup2, i_pop, i_iadd, i_isub, i_imul, i_idiv, i_irem, i_ineg, i_iand, i_ior, i_ishl, i_ishr, i_lxor, i_ladd, i_lsub, i_lmul, i_ldiv, i_lrem, i_lneg, i_lshl, i_lcmp, i_i2l, i_l2i, i_i2b, i_i2s, i_ifeq, i_ifne, i_iflt, i_ifge, i_ifgt, i_ifle, i_cmpeq, i_cmpne, i_cmplt, i_cmpge, i_cmpgt, i_cmple, i_acmpeq, i_acmpne, i_ifnull, i_ifnonnull, i_getI, i_getR, i_putI, i_putZ, i_putR, i_ald, i_ldL, i_ldR, i_ast, i_stL, i_stR, i_alen, i_new, i_newa, i_iret, i_zret, i_lret, i_aret, i_vret, i_raise, i_throw, i_recv, i_objinit, i_tsw3, lget, lset, lput1, lput2, lkil, ltrim, largs, isL, takev, dropv, nthv, pushO, catv, gd, true_and, and_true, Option.some.injEq, Prod.mk.injEq, exists_eq_left', if_true, if_false, reduceCtorEq, Bool.false_eq_true, lcmp_ge, lcmp_lt, lcmp_le, lcmp_gt, lcmp_eq, true_or, or_true, not_true_eq_false, not_false_eq_true, false_implies, true_implies, List.length_cons, List.length_nil]
      refine ⟨fun _ => ?_, fun w => by omega⟩
      exact second nr 0 D1 (by omega) hfr (fun k hk => hr0 k (by omega)) fun k hk => by omega
    | succ L ih =>
      intro j D1 hj hfr hr0
      obtain ⟨x1, x2⟩ := q0' j (by omega)
      obtain ⟨y1, y2⟩ := t2 j (by omega)
      have x3 := x2.1
      have hx : wD 2 1 D1 (M + 12121 + 1 + 2 * j) (s j) := (hrn j (by omega)).congr (fun i => hfr _ i (by omega)) fun i => hfr _ i (by omega)
      have lj := ls j (by omega)
      refine wp_in ?_
      simp only [P_X16_sign, i_kil, i_icon, i_lcon, i_null, i_loadI, i_loadL, i_loadR, i_istore, i_lstore, i_astore, i_iinc, i_dup, i_dup2, i_pop, i_iadd, i_isub, i_imul, i_idiv, i_irem, i_ineg, i_iand, i_ior, i_ishl, i_ishr, i_lxor, i_ladd, i_lsub, i_lmul, i_ldiv, i_lrem, i_lneg, i_lshl, i_lcmp, i_i2l, i_l2i, i_i2b, i_i2s, i_ifeq, i_ifne, i_iflt, i_ifge, i_ifgt, i_ifle, i_cmpeq, i_cmpne, i_cmplt, i_cmpge, i_cmpgt, i_cmple, i_acmpeq, i_acmpne, i_ifnull, i_ifnonnull, i_getI, i_getR, i_putI, i_putZ, i_putR, i_ald, i_ldL, i_ldR, i_ast, i_stL, i_stR, i_alen, i_new, i_newa, i_iret, i_zret, i_lret, i_aret, i_vret, i_raise, i_throw, i_recv, i_objinit, i_tsw3, lget, lset, lput1, lput2, lkil, ltrim, largs, isL, takev, dropv, nthv, pushO, catv, gd, true_and, and_true, Option.some.injEq, Prod.mk.injEq, exists_eq_left', if_true, if_false, reduceCtorEq, Bool.false_eq_true, lcmp_ge, lcmp_lt, lcmp_le, lcmp_gt, lcmp_eq, true_or, or_true, not_true_eq_false, not_false_eq_true, false_implies, true_implies, List.length_cons, List.length_nil, M1, s1, s2, c0i, q0, x1, r1, t1, y1]
      refine ⟨fun w => by omega, fun _ => ?_⟩
      repeat (first | refine ⟨in_small (by omega) (by omega), ?_⟩ | (show (_ → _) ∧ (_ → _); first | refine ⟨by omega, fun _ => ?_⟩ | refine ⟨fun _ => ?_, by omega⟩) | refine ⟨by omega, ?_⟩ | refine ⟨⟨_, rfl, by assumption⟩, ?_⟩ | refine ⟨okT_I _, ?_⟩ | refine ⟨okT_S (by omega) (by omega), ?_⟩ | refine ⟨okT_B (by omega) (by omega), ?_⟩ | refine call0 (gd_of rfl) ?_)
      refine sp_X17_copy x2 y2 hx (by omega) (by omega) (by omega) fun D2 g1 g2 => ?_
      simp only [P_X16_sign, i_kil, i_icon, i_lcon, i_null, i_loadI, i_loadL, i_loadR, i_istore, i_lstore, i_astore, i_iinc, i_dup, i_dup2, i_pop, i_iadd, i_isub, i_imul, i_idiv, i_irem, i_ineg, i_iand, i_ior, i_ishl, i_ishr, i_lxor, i_ladd, i_lsub, i_lmul, i_ldiv, i_lrem, i_lneg, i_lshl, i_lcmp, i_i2l, i_l2i, i_i2b, i_i2s, i_ifeq, i_ifne, i_iflt, i_ifge, i_ifgt, i_ifle, i_cmpeq, i_cmpne, i_cmplt, i_cmpge, i_cmpgt, i_cmple, i_acmpeq, i_acmpne, i_ifnull, i_ifnonnull, i_getI, i_getR, i_putI, i_putZ, i_putR, i_ald, i_ldL, i_ldR, i_ast, i_stL, i_stR, i_alen, i_new, i_newa, i_iret, i_zret, i_lret, i_aret, i_vret, i_raise, i_throw, i_recv, i_objinit, i_tsw3, lget, lset, lput1, lput2, lkil, ltrim, largs, isL, takev, dropv, nthv, pushO, catv, gd, true_and, and_true, Option.some.injEq, Prod.mk.injEq, exists_eq_left', if_true, if_false, reduceCtorEq, Bool.false_eq_true, lcmp_ge, lcmp_lt, lcmp_le, lcmp_gt, lcmp_eq, true_or, or_true, not_true_eq_false, not_false_eq_true, false_implies, true_implies, List.length_cons, List.length_nil]
      repeat (first | refine ⟨in_small (by omega) (by omega), ?_⟩ | (show (_ → _) ∧ (_ → _); first | refine ⟨by omega, fun _ => ?_⟩ | refine ⟨fun _ => ?_, by omega⟩) | refine ⟨by omega, ?_⟩ | refine ⟨⟨_, rfl, by assumption⟩, ?_⟩ | refine ⟨okT_I _, ?_⟩ | refine ⟨okT_S (by omega) (by omega), ?_⟩ | refine ⟨okT_B (by omega) (by omega), ?_⟩ | refine call0 (gd_of rfl) ?_)
      refine ih (j + 1) D2 (by omega) (fun c i c1 => by rw [g1 c i (by omega) (by omega)]; exact hfr c i c1) fun k hk => ?_
      by_cases w : k = j
      · rw [w]; exact g2
      · exact (hr0 k (by omega)).congr (fun i => g1 _ i (by unfold mcw; omega) (by unfold mcw; omega)) fun i => g1 _ i (by unfold mcw; omega) (by unfold mcw; omega)
  exact first (a + 1) 0 D (by omega) (fun _ _ _ => rfl) fun k hk => by omega
end MSG3
