/-! the model's search for roots -/
-- needs: dj.mksimp
set_option maxRecDepth 100000
set_option linter.unusedVariables false
def mrS (S : Stat) (M : Nat) : Prop := mhS S M ∧ msS S M ∧ plS S M ∧ S.2.1 M 67 = some (M + 10793) ∧ wS 17 S (M + 10793) 260 ∧ S.2.1 M 85 = some (M + 11308) ∧ nmS S (M + 11308) (M + 11309) 400 20 ∧ S.2.1 M 86 = some (M + 12109) ∧ S.1 (M + 12109) = some (100, 400) ∧ S.2.1 M 73 = some (M + 11278) ∧ nmS S (M + 11278) (M + 11279) 8 130 ∧ S.2.1 M 74 = some (M + 11295) ∧ S.1 (M + 11295) = some (100, 8) ∧ S.2.1 M 75 = some (M + 11296) ∧ S.1 (M + 11296) = some (104, 9)
/-- the low end of a span in the model's units -/
def mlw (h : Nat) (w : Int) : Int := 2 * w - ((2 ^ h : Nat) : Int)
theorem mlw_abs {h : Nat} {w : Int} (h0 : 0 ≤ w) (h1 : w ≤ ((2 ^ h : Nat) : Int)) : (mlw h w).natAbs ≤ 2 ^ h := by unfold mlw; omega
theorem mlw_next (h : Nat) (w : Int) : mlw h w + 1 * 2 = mlw h (w + 1) := by unfold mlw; omega
theorem mlw_low (h : Nat) (w : Int) : mlw h w + 1 * mlw h w = mlw (h + 1) (2 * w) := by unfold mlw; rw [Nat.pow_succ]; omega
def mrtL (D : Dat) (M : Nat) (L : List (Nat × Int)) : Prop := D M 72 = (L.length : Int) ∧ L.length ≤ 8 ∧ ∀ (k : Nat) (x : Nat × Int), L[k]? = some x → wD 2 1 D (M + 11279 + 2 * k) (mlw x.1 x.2) ∧ D (M + 11295) k = x.1
/-- what the search changes, the stack from t on -/
def mrO (M t : Nat) (D D' : Dat) : Prop := ∀ c i, c ≠ M + 1 → c ≠ M + 4221 → c ≠ M + 4222 → (c < M + 11297 ∨ M + 11306 < c) → c ≠ M + 10793 → c ≠ M + 10794 → (c < M + 11279 ∨ M + 11295 < c) → (c < M + 11309 + 2 * t ∨ M + 12109 < c) → (c ≠ M ∨ i ≠ 72) → D' c i = D c i
def mrO2 (M t : Nat) (D D' : Dat) : Prop := mrO M t D D' ∧ ∀ i : Int, i < t → D' (M + 12109) i = D (M + 12109) i
theorem mrO2.tr {M t t2 : Nat} {D D1 D2 : Dat} (h : mrO2 M t D D1) (k : mrO2 M t2 D1 D2) (ht : t ≤ t2) : mrO2 M t D D2 := ⟨fun c i c1 c2 c3 c4 c5 c6 c7 c8 c9 => by rw [k.1 c i c1 c2 c3 c4 c5 c6 c7 (by omega) c9]; exact h.1 c i c1 c2 c3 c4 c5 c6 c7 c8 c9, fun i hi => by rw [k.2 i (by omega)]; exact h.2 i hi⟩
section MROOTS
variable {M : Nat} {S : Stat}
theorem mrtL.congr {D D' : Dat} {L : List (Nat × Int)} (h : mrtL D M L) (e : ∀ c i, (c = M ∧ i = 72) ∨ (M + 11279 ≤ c ∧ c ≤ M + 11295) → D' c i = D c i) : mrtL D' M L := by
  obtain ⟨h1, h2, h3⟩ := h
  refine ⟨by rw [e _ _ (by omega)]; exact h1, h2, fun k x hx => ?_⟩
  have hk := (List.getElem?_eq_some_iff.mp hx).1
  obtain ⟨a, b⟩ := h3 k x hx
  exact ⟨a.congr (fun i => e _ i (by omega)) fun i => e _ i (by omega), by rw [e _ _ (by omega)]; exact b⟩
theorem mlw_pw {h : Nat} {z : Int} (hz : z.natAbs ≤ 2 ^ h) (hh : h ≤ 460) : (z.natAbs : Int) < 1000000000 ^ 17 := nat_pw hz (two_pw (by omega))
set_option maxHeartbeats 4000000 in
theorem mroots_loop {E : Ex} {B : Nat × Nat} (hS : mrS S M) {p : pf} (hN : gdN (nR p)) : ∀ (fu h : Nat) (w : Int) (t : Nat) (D : Dat) (L : List (Nat × Int)), h + fu = 390 → 1 ≤ fu → t ≤ h → 0 ≤ w → w < ((2 ^ h : Nat) : Int) → wD 2 1 D (M + 11309 + 2 * t) (mlw h w) → D (M + 12109) t = h → mB p D M → mrtL D M L → (L.length : Int) + nR p h w ≤ 8 →
    (∀ D' : Dat, mrO2 M t D D' → mB p D' M → mrtL D' M (L ++ lv (nR p) fu h w) → Wp P_X16_roots E 2 [some (aR M), none, none, some (aI t)] [] B S D') → Wp P_X16_roots E 2 [some (aR M), none, none, some (aI ((t + 1 : Nat) : Int))] [] B S D := by
  obtain ⟨hmh, hms, hpl, s1, s2, s3, s4, s5, s6, s7, s8, s9, s10, s11, s12⟩ := hS
  have M1 := hmh.1.1
  obtain ⟨a1, a2⟩ := id s4
  obtain ⟨b1, b2⟩ := id s8
  have te1 := s2.1
  intro fu
  induction fu with
  | zero => intro h w t D L _ hf; omega
  | succ fu ih =>
    intro h w t D L hfu _ hth h0 h1 hlow hdep hB hL h8 K
    have hh := half_lt h0 h1
    have hge := hN.1 h w h0 h1
    obtain ⟨x1, x2⟩ := a2 t (by omega)
    have x3 := x2.1
    have et : ((t + 1 : Nat) : Int) + -1 = (t : Int) := by omega
    have la := mlw_abs (h := h) h0 (by omega)
    have la1 := mlw_abs (h := h) (w := w + 1) (by omega) (by omega)
    have lp := mlw_pw la (by omega)
    have lp1 := mlw_pw la1 (by omega)
    have p20 : (1000000000 : Int) ^ 17 ≤ 1000000000 ^ 20 := pw_mono (by decide)
    have p260 : (1000000000 : Int) ^ 20 ≤ 1000000000 ^ 260 := pw_mono (by decide)
    have p18 : 1000000000 * (1000000000 : Int) ^ 17 = 1000000000 ^ 18 := (pw_succ 17).symm
    have p182 : (1000000000 : Int) ^ 18 ≤ 1000000000 ^ 20 := pw_mono (by decide)
    have pp := pw_pos 17
    -- behind what is recorded
    have third : ∀ D2 : Dat, mrO2 M t D D2 → mB p D2 M → mrtL D2 M (L ++ (if nR p h w = 1 then [(h, w)] else [])) → wD 2 1 D2 (M + 11309 + 2 * t) (mlw h w) → Wp P_X16_roots E 3 [some (aR M), none, none, some (aI t), some (aR (M + 11309 + 2 * t)), some (aI h), some (aI (nR p h w))] [] B S D2 := fun D2 f2 hB2 hL2 hl2 => by
      refine wp_in ?_
      simp only [P_X16_roots, i_kil, i_icon, i_lcon, i_null, i_loadI, i_loadL, i_loadR, i_istore, i_lstore, i_astore, i_iinc, i_dup, i_dup2, i_pop, i_iadd, i_isub, i_imul, i_idiv, i_irem, i_ineg, i_iand, i_ior, i_ishl, i_ishr, i_lxor, i_ladd, i_lsub, i_lmul, i_ldiv, i_lrem, i_lneg, i_lshl, i_lcmp, i_i2l, i_l2i, i_i2b, i_i2s, i_ifeq, i_ifne, i_iflt, i_ifge, i_ifgt, i_ifle, i_cmpeq, i_cmpne, i_cmplt, i_cmpge, i_cmpgt, i_cmple, i_acmpeq, i_acmpne, i_ifnull, i_ifnonnull, i_getI, i_getR, i_putI, i_putZ, i_putR, i_ald, i_ldL, i_ldR, i_ast, i_stL, i_stR, i_alen, i_new, i_newa, i_iret, i_zret, i_lret, i_aret, i_vret, i_raise, i_throw, i_recv, i_objinit, i_tsw3, lget, lset, lput1, lput2, lkil, ltrim, largs, isL, takev, dropv, nthv, pushO, catv, gd, true_and, and_true, Option.some.injEq, Prod.mk.injEq, exists_eq_left', if_true, if_false, reduceCtorEq, Bool.false_eq_true, lcmp_ge, lcmp_lt, lcmp_le, lcmp_gt, lcmp_eq, true_or, or_true, not_true_eq_false, not_false_eq_true, false_implies, true_implies, List.length_cons, List.length_nil, M1, s1, te1]
      refine ⟨fun q => ?_, fun q => ?_⟩
      · have hfu1 : 1 ≤ fu := by
          rcases Nat.eq_zero_or_pos fu with z | z
          · have := hN.2.2.2 h w (by omega) h0 h1; omega
          · exact z
        obtain ⟨y1, y2⟩ := a2 (t + 1) (by omega)
        have y3 := y2.1
        have y1' : S.2.1 (M + 11308) ((t : Int) + 1) = some (M + 11309 + 2 * (t + 1)) := y1
        have hadd := hN.2.1 h w
        have na := hN.1 (h + 1) (2 * w) (by omega) (by omega)
        have nb := hN.1 (h + 1) (2 * w + 1) (by omega) hh
        have len := lv_len hN fu (h + 1) (2 * w) (by omega) (by omega)
        have e : lv (nR p) (fu + 1) h w = lv (nR p) fu (h + 1) (2 * w) ++ lv (nR p) fu (h + 1) (2 * w + 1) := by simp only [lv]; rw [if_pos (by omega)]
        rw [if_neg (by omega), List.append_nil] at hL2
        have lc0 := mlw_pw (mlw_abs (h := h + 1) (w := 2 * w) (by omega) (by omega)) (by omega)
        have lc1 := mlw_pw (mlw_abs (h := h + 1) (w := 2 * w + 1) (by omega) (by omega)) (by omega)
        repeat (first | refine ⟨in_small (by omega) (by omega), ?_⟩ | (show (_ → _) ∧ (_ → _); first | refine ⟨by omega, fun _ => ?_⟩ | refine ⟨fun _ => ?_, by omega⟩) | refine ⟨by omega, ?_⟩ | refine ⟨⟨_, rfl, by assumption⟩, ?_⟩ | refine ⟨okT_I _, ?_⟩ | refine ⟨okT_S (by omega) (by omega), ?_⟩ | refine ⟨okT_B (by omega) (by omega), ?_⟩ | refine call0 (gd_of rfl) ?_)
        refine sp_X16_add s2 x2 x2 hl2 hl2 (.inl rfl) (by omega) (by omega) (by omega) (by omega) (by omega) (by omega) fun D3 i1 i2 => ?_
        rw [mlw_low] at i2
        simp only [P_X16_roots, i_kil, i_icon, i_lcon, i_null, i_loadI, i_loadL, i_loadR, i_istore, i_lstore, i_astore, i_iinc, i_dup, i_dup2, i_pop, i_iadd, i_isub, i_imul, i_idiv, i_irem, i_ineg, i_iand, i_ior, i_ishl, i_ishr, i_lxor, i_ladd, i_lsub, i_lmul, i_ldiv, i_lrem, i_lneg, i_lshl, i_lcmp, i_i2l, i_l2i, i_i2b, i_i2s, i_ifeq, i_ifne, i_iflt, i_ifge, i_ifgt, i_ifle, i_cmpeq, i_cmpne, i_cmplt, i_cmpge, i_cmpgt, i_cmple, i_acmpeq, i_acmpne, i_ifnull, i_ifnonnull, i_getI, i_getR, i_putI, i_putZ, i_putR, i_ald, i_ldL, i_ldR, i_ast, i_stL, i_stR, i_alen, i_new, i_newa, i_iret, i_zret, i_lret, i_aret, i_vret, i_raise, i_throw, i_recv, i_objinit, i_tsw3, lget, lset, lput1, lput2, lkil, ltrim, largs, isL, takev, dropv, nthv, pushO, catv, gd, true_and, and_true, Option.some.injEq, Prod.mk.injEq, exists_eq_left', if_true, if_false, reduceCtorEq, Bool.false_eq_true, lcmp_ge, lcmp_lt, lcmp_le, lcmp_gt, lcmp_eq, true_or, or_true, not_true_eq_false, not_false_eq_true, false_implies, true_implies, List.length_cons, List.length_nil, M1, s1, s3, a1, y1']
        repeat (first | refine ⟨in_small (by omega) (by omega), ?_⟩ | (show (_ → _) ∧ (_ → _); first | refine ⟨by omega, fun _ => ?_⟩ | refine ⟨fun _ => ?_, by omega⟩) | refine ⟨by omega, ?_⟩ | refine ⟨⟨_, rfl, by assumption⟩, ?_⟩ | refine ⟨okT_I _, ?_⟩ | refine ⟨okT_S (by omega) (by omega), ?_⟩ | refine ⟨okT_B (by omega) (by omega), ?_⟩ | refine call0 (gd_of rfl) ?_)
        refine sp_X17_copy y2 s2 i2 (by omega) (by omega) (by omega) fun D4 j1 j2 => ?_
        simp only [P_X16_roots, i_kil, i_icon, i_lcon, i_null, i_loadI, i_loadL, i_loadR, i_istore, i_lstore, i_astore, i_iinc, i_dup, i_dup2, i_pop, i_iadd, i_isub, i_imul, i_idiv, i_irem, i_ineg, i_iand, i_ior, i_ishl, i_ishr, i_lxor, i_ladd, i_lsub, i_lmul, i_ldiv, i_lrem, i_lneg, i_lshl, i_lcmp, i_i2l, i_l2i, i_i2b, i_i2s, i_ifeq, i_ifne, i_iflt, i_ifge, i_ifgt, i_ifle, i_cmpeq, i_cmpne, i_cmplt, i_cmpge, i_cmpgt, i_cmple, i_acmpeq, i_acmpne, i_ifnull, i_ifnonnull, i_getI, i_getR, i_putI, i_putZ, i_putR, i_ald, i_ldL, i_ldR, i_ast, i_stL, i_stR, i_alen, i_new, i_newa, i_iret, i_zret, i_lret, i_aret, i_vret, i_raise, i_throw, i_recv, i_objinit, i_tsw3, lget, lset, lput1, lput2, lkil, ltrim, largs, isL, takev, dropv, nthv, pushO, catv, gd, true_and, and_true, Option.some.injEq, Prod.mk.injEq, exists_eq_left', if_true, if_false, reduceCtorEq, Bool.false_eq_true, lcmp_ge, lcmp_lt, lcmp_le, lcmp_gt, lcmp_eq, true_or, or_true, not_true_eq_false, not_false_eq_true, false_implies, true_implies, List.length_cons, List.length_nil, M1, s1]
        repeat (first | refine ⟨in_small (by omega) (by omega), ?_⟩ | (show (_ → _) ∧ (_ → _); first | refine ⟨by omega, fun _ => ?_⟩ | refine ⟨fun _ => ?_, by omega⟩) | refine ⟨by omega, ?_⟩ | refine ⟨⟨_, rfl, by assumption⟩, ?_⟩ | refine ⟨okT_I _, ?_⟩ | refine ⟨okT_S (by omega) (by omega), ?_⟩ | refine ⟨okT_B (by omega) (by omega), ?_⟩ | refine call0 (gd_of rfl) ?_)
        refine sp_X17_set s2 (by omega) (by omega) (by omega) fun D5 k1 k2 => ?_
        have j2' : wD 2 1 D5 (M + 11309 + 2 * (t + 1)) (mlw (h + 1) (2 * w)) := j2.congr (fun i => k1 _ i (by omega) (by omega)) fun i => k1 _ i (by omega) (by omega)
        simp only [P_X16_roots, i_kil, i_icon, i_lcon, i_null, i_loadI, i_loadL, i_loadR, i_istore, i_lstore, i_astore, i_iinc, i_dup, i_dup2, i_pop, i_iadd, i_isub, i_imul, i_idiv, i_irem, i_ineg, i_iand, i_ior, i_ishl, i_ishr, i_lxor, i_ladd, i_lsub, i_lmul, i_ldiv, i_lrem, i_lneg, i_lshl, i_lcmp, i_i2l, i_l2i, i_i2b, i_i2s, i_ifeq, i_ifne, i_iflt, i_ifge, i_ifgt, i_ifle, i_cmpeq, i_cmpne, i_cmplt, i_cmpge, i_cmpgt, i_cmple, i_acmpeq, i_acmpne, i_ifnull, i_ifnonnull, i_getI, i_getR, i_putI, i_putZ, i_putR, i_ald, i_ldL, i_ldR, i_ast, i_stL, i_stR, i_alen, i_new, i_newa, i_iret, i_zret, i_lret, i_aret, i_vret, i_raise, i_throw, i_recv, i_objinit, i_tsw3, lget, lset, lput1, lput2, lkil, ltrim, largs, isL, takev, dropv, nthv, pushO, catv, gd, true_and, and_true, Option.some.injEq, Prod.mk.injEq, exists_eq_left', if_true, if_false, reduceCtorEq, Bool.false_eq_true, lcmp_ge, lcmp_lt, lcmp_le, lcmp_gt, lcmp_eq, true_or, or_true, not_true_eq_false, not_false_eq_true, false_implies, true_implies, List.length_cons, List.length_nil, M1, s1, s3, a1, x1, y1']
        repeat (first | refine ⟨in_small (by omega) (by omega), ?_⟩ | (show (_ → _) ∧ (_ → _); first | refine ⟨by omega, fun _ => ?_⟩ | refine ⟨fun _ => ?_, by omega⟩) | refine ⟨by omega, ?_⟩ | refine ⟨⟨_, rfl, by assumption⟩, ?_⟩ | refine ⟨okT_I _, ?_⟩ | refine ⟨okT_S (by omega) (by omega), ?_⟩ | refine ⟨okT_B (by omega) (by omega), ?_⟩ | refine call0 (gd_of rfl) ?_)
        refine sp_X16_add x2 y2 s2 j2' k2 (.inl rfl) (by omega) (by omega) (by omega) (by omega) (by omega) (by omega) fun D6 l1 l2 => ?_
        rw [mlw_next] at l2
        simp only [P_X16_roots, i_kil, i_icon, i_lcon, i_null, i_loadI, i_loadL, i_loadR, i_istore, i_lstore, i_astore, i_iinc, i_dup, i_dup2, i_pop, i_iadd, i_isub, i_imul, i_idiv, i_irem, i_ineg, i_iand, i_ior, i_ishl, i_ishr, i_lxor, i_ladd, i_lsub, i_lmul, i_ldiv, i_lrem, i_lneg, i_lshl, i_lcmp, i_i2l, i_l2i, i_i2b, i_i2s, i_ifeq, i_ifne, i_iflt, i_ifge, i_ifgt, i_ifle, i_cmpeq, i_cmpne, i_cmplt, i_cmpge, i_cmpgt, i_cmple, i_acmpeq, i_acmpne, i_ifnull, i_ifnonnull, i_getI, i_getR, i_putI, i_putZ, i_putR, i_ald, i_ldL, i_ldR, i_ast, i_stL, i_stR, i_alen, i_new, i_newa, i_iret, i_zret, i_lret, i_aret, i_vret, i_raise, i_throw, i_recv, i_objinit, i_tsw3, lget, lset, lput1, lput2, lkil, ltrim, largs, isL, takev, dropv, nthv, pushO, catv, gd, true_and, and_true, Option.some.injEq, Prod.mk.injEq, exists_eq_left', if_true, if_false, reduceCtorEq, Bool.false_eq_true, lcmp_ge, lcmp_lt, lcmp_le, lcmp_gt, lcmp_eq, true_or, or_true, not_true_eq_false, not_false_eq_true, false_implies, true_implies, List.length_cons, List.length_nil, M1, s5, s6]
        repeat (first | refine ⟨in_small (by omega) (by omega), ?_⟩ | (show (_ → _) ∧ (_ → _); first | refine ⟨by omega, fun _ => ?_⟩ | refine ⟨fun _ => ?_, by omega⟩) | refine ⟨by omega, ?_⟩ | refine ⟨⟨_, rfl, by assumption⟩, ?_⟩ | refine ⟨okT_I _, ?_⟩ | refine ⟨okT_S (by omega) (by omega), ?_⟩ | refine ⟨okT_B (by omega) (by omega), ?_⟩ | refine call0 (gd_of rfl) ?_)
        have fr : ∀ c i, c ≠ M + 10793 → c ≠ M + 10794 → (c < M + 11309 + 2 * t ∨ M + 11309 + 2 * t + 3 < c) → D6 c i = D2 c i := fun c i c1 c2 c3 => by rw [l1 c i (by omega) (by omega), k1 c i c1 c2, j1 c i (by omega) (by omega), i1 c i c1 c2]
        have fr7 : ∀ (c : Nat) (i : Int), c ≠ M + 10793 → c ≠ M + 10794 → (c < M + 11309 + 2 * t ∨ M + 11309 + 2 * t + 3 < c) → (c ≠ M + 12109 ∨ i < (t : Int)) → pmu (pmu D6 (M + 12109) t ((h : Int) + 1)) (M + 12109) ((t : Int) + 1) ((h : Int) + 1) c i = D2 c i := fun c i c1 c2 c3 c4 => by
          simp only [pmu]; rw [if_neg (by omega), if_neg (by omega)]; exact fr c i c1 c2 c3
        have f7 : mrO2 M t D (pmu (pmu D6 (M + 12109) t ((h : Int) + 1)) (M + 12109) ((t : Int) + 1) ((h : Int) + 1)) := ⟨fun c i c1 c2 c3 c4 c5 c6 c7 c8 c9 => by rw [fr7 c i c5 c6 (by omega) (by omega)]; exact f2.1 c i c1 c2 c3 c4 c5 c6 c7 c8 c9, fun i hi => by rw [fr7 _ i (by omega) (by omega) (by omega) (by omega)]; exact f2.2 i hi⟩
        have hB7 : mB p (pmu (pmu D6 (M + 12109) t ((h : Int) + 1)) (M + 12109) ((t : Int) + 1) ((h : Int) + 1)) M := hB2.congr fun c i c1 => fr7 c i (by omega) (by omega) (by omega) (by omega)
        have hL7 : mrtL (pmu (pmu D6 (M + 12109) t ((h : Int) + 1)) (M + 12109) ((t : Int) + 1) ((h : Int) + 1)) M L := hL2.congr fun c i c1 => fr7 c i (by omega) (by omega) (by omega) (by omega)
        have low7 : wD 2 1 (pmu (pmu D6 (M + 12109) t ((h : Int) + 1)) (M + 12109) ((t : Int) + 1) ((h : Int) + 1)) (M + 11309 + 2 * (t + 1)) (mlw (h + 1) (2 * w)) := j2'.congr (fun i => by simp only [pmu]; rw [if_neg (by omega), if_neg (by omega), l1 _ i (by omega) (by omega)]) fun i => by simp only [pmu]; rw [if_neg (by omega), if_neg (by omega), l1 _ i (by omega) (by omega)]
        have up7 : wD 2 1 (pmu (pmu D6 (M + 12109) t ((h : Int) + 1)) (M + 12109) ((t : Int) + 1) ((h : Int) + 1)) (M + 11309 + 2 * t) (mlw (h + 1) (2 * w + 1)) := l2.congr (fun i => by simp only [pmu]; rw [if_neg (by omega), if_neg (by omega)]) fun i => by simp only [pmu]; rw [if_neg (by omega), if_neg (by omega)]
        have et2 : (t : Int) + 2 = ((t + 1 + 1 : Nat) : Int) := by omega
        rw [et2]
        refine ih (h + 1) (2 * w) (t + 1) _ L (by omega) hfu1 (by omega) (by omega) (by omega) low7 (by simp only [pmu]; rw [if_pos (by simp)]; omega) hB7 hL7 (by omega) fun D8 m1 m2 m3 => ?_
        have up8 : wD 2 1 D8 (M + 11309 + 2 * t) (mlw (h + 1) (2 * w + 1)) := up7.congr (fun i => m1.1 _ i (by omega) (by omega) (by omega) (by omega) (by omega) (by omega) (by omega) (by omega) (by omega)) fun i => m1.1 _ i (by omega) (by omega) (by omega) (by omega) (by omega) (by omega) (by omega) (by omega) (by omega)
        have dep8 : D8 (M + 12109) t = ((h + 1 : Nat) : Int) := by
          rw [m1.2 _ (by omega)]
          simp only [pmu]; rw [if_neg (by omega), if_pos (by simp)]; omega
        refine ih (h + 1) (2 * w + 1) t D8 _ (by omega) hfu1 (by omega) (by omega) hh up8 dep8 m2 m3 (by simp only [List.length_append]; omega) fun D9 n1 n2 n3 => ?_
        rw [List.append_assoc, ← e] at n3
        exact K D9 ((f7.tr m1 (by omega)).tr n1 (Nat.le_refl _)) n2 n3
      · refine K D2 f2 hB2 ?_
        have e : lv (nR p) (fu + 1) h w = (if nR p h w = 1 then [(h, w)] else []) := by simp only [lv]; rw [if_neg (by omega)]
        rw [e]; exact hL2
    refine wp_in ?_
    simp only [P_X16_roots, i_kil, i_icon, i_lcon, i_null, i_loadI, i_loadL, i_loadR, i_istore, i_lstore, i_astore, i_iinc, i_dup, i_dup2, i_pop, i_iadd, i_isub, i_imul, i_idiv, i_irem, i_ineg, i_iand, i_ior, i_ishl, i_ishr, i_lxor, i_ladd, i_lsub, i_lmul, i_ldiv, i_lrem, i_lneg, i_lshl, i_lcmp, i_i2l, i_l2i, i_i2b, i_i2s, i_ifeq, i_ifne, i_iflt, i_ifge, i_ifgt, i_ifle, i_cmpeq, i_cmpne, i_cmplt, i_cmpge, i_cmpgt, i_cmple, i_acmpeq, i_acmpne, i_ifnull, i_ifnonnull, i_getI, i_getR, i_putI, i_putZ, i_putR, i_ald, i_ldL, i_ldR, i_ast, i_stL, i_stR, i_alen, i_new, i_newa, i_iret, i_zret, i_lret, i_aret, i_vret, i_raise, i_throw, i_recv, i_objinit, i_tsw3, lget, lset, lput1, lput2, lkil, ltrim, largs, isL, takev, dropv, nthv, pushO, catv, gd, true_and, and_true, Option.some.injEq, Prod.mk.injEq, exists_eq_left', if_true, if_false, reduceCtorEq, Bool.false_eq_true, lcmp_ge, lcmp_lt, lcmp_le, lcmp_gt, lcmp_eq, true_or, or_true, not_true_eq_false, not_false_eq_true, false_implies, true_implies, List.length_cons, List.length_nil, M1, s1, s3, s5, s6, a1, x1, hdep, et, te1]
    refine ⟨fun q => by omega, fun _ => ?_⟩
    repeat (first | refine ⟨in_small (by omega) (by omega), ?_⟩ | (show (_ → _) ∧ (_ → _); first | refine ⟨by omega, fun _ => ?_⟩ | refine ⟨fun _ => ?_, by omega⟩) | refine ⟨by omega, ?_⟩ | refine ⟨⟨_, rfl, by assumption⟩, ?_⟩ | refine ⟨okT_I _, ?_⟩ | refine ⟨okT_S (by omega) (by omega), ?_⟩ | refine ⟨okT_B (by omega) (by omega), ?_⟩ | refine call0 (gd_of rfl) ?_)
    refine sp_X17_set s2 (by omega) (by omega) (by omega) fun D1 g1 g2 => ?_
    have hl1 : wD 2 1 D1 (M + 11309 + 2 * t) (mlw h w) := hlow.congr (fun i => g1 _ i (by omega) (by omega)) fun i => g1 _ i (by omega) (by omega)
    simp only [P_X16_roots, i_kil, i_icon, i_lcon, i_null, i_loadI, i_loadL, i_loadR, i_istore, i_lstore, i_astore, i_iinc, i_dup, i_dup2, i_pop, i_iadd, i_isub, i_imul, i_idiv, i_irem, i_ineg, i_iand, i_ior, i_ishl, i_ishr, i_lxor, i_ladd, i_lsub, i_lmul, i_ldiv, i_lrem, i_lneg, i_lshl, i_lcmp, i_i2l, i_l2i, i_i2b, i_i2s, i_ifeq, i_ifne, i_iflt, i_ifge, i_ifgt, i_ifle, i_cmpeq, i_cmpne, i_cmplt, i_cmpge, i_cmpgt, i_cmple, i_acmpeq, i_acmpne, i_ifnull, i_ifnonnull, i_getI, i_getR, i_putI, i_putZ, i_putR, i_ald, i_ldL, i_ldR, i_ast, i_stL, i_stR, i_alen, i_new, i_newa, i_iret, i_zret, i_lret, i_aret, i_vret, i_raise, i_throw, i_recv, i_objinit, i_tsw3, lget, lset, lput1, lput2, lkil, ltrim, largs, isL, takev, dropv, nthv, pushO, catv, gd, true_and, and_true, Option.some.injEq, Prod.mk.injEq, exists_eq_left', if_true, if_false, reduceCtorEq, Bool.false_eq_true, lcmp_ge, lcmp_lt, lcmp_le, lcmp_gt, lcmp_eq, true_or, or_true, not_true_eq_false, not_false_eq_true, false_implies, true_implies, List.length_cons, List.length_nil, M1, s1]
    repeat (first | refine ⟨in_small (by omega) (by omega), ?_⟩ | (show (_ → _) ∧ (_ → _); first | refine ⟨by omega, fun _ => ?_⟩ | refine ⟨fun _ => ?_, by omega⟩) | refine ⟨by omega, ?_⟩ | refine ⟨⟨_, rfl, by assumption⟩, ?_⟩ | refine ⟨okT_I _, ?_⟩ | refine ⟨okT_S (by omega) (by omega), ?_⟩ | refine ⟨okT_B (by omega) (by omega), ?_⟩ | refine call0 (gd_of rfl) ?_)
    refine sp_X16_add s2 x2 s2 hl1 g2 (.inl rfl) (by omega) (by omega) (by omega) (by omega) (by omega) (by omega) fun D2 i1 i2 => ?_
    rw [mlw_next] at i2
    have fr2 : ∀ c i, c ≠ M + 10793 → c ≠ M + 10794 → D2 c i = D c i := fun c i c1 c2 => by rw [i1 c i c1 c2, g1 c i c1 c2]
    have hl2 : wD 2 1 D2 (M + 11309 + 2 * t) (mlw h w) := hl1.congr (fun i => i1 _ i (by omega) (by omega)) fun i => i1 _ i (by omega) (by omega)
    have hB2 : mB p D2 M := hB.congr fun c i c1 => fr2 c i (by omega) (by omega)
    simp only [P_X16_roots, i_kil, i_icon, i_lcon, i_null, i_loadI, i_loadL, i_loadR, i_istore, i_lstore, i_astore, i_iinc, i_dup, i_dup2, i_pop, i_iadd, i_isub, i_imul, i_idiv, i_irem, i_ineg, i_iand, i_ior, i_ishl, i_ishr, i_lxor, i_ladd, i_lsub, i_lmul, i_ldiv, i_lrem, i_lneg, i_lshl, i_lcmp, i_i2l, i_l2i, i_i2b, i_i2s, i_ifeq, i_ifne, i_iflt, i_ifge, i_ifgt, i_ifle, i_cmpeq, i_cmpne, i_cmplt, i_cmpge, i_cmpgt, i_cmple, i_acmpeq, i_acmpne, i_ifnull, i_ifnonnull, i_getI, i_getR, i_putI, i_putZ, i_putR, i_ald, i_ldL, i_ldR, i_ast, i_stL, i_stR, i_alen, i_new, i_newa, i_iret, i_zret, i_lret, i_aret, i_vret, i_raise, i_throw, i_recv, i_objinit, i_tsw3, lget, lset, lput1, lput2, lkil, ltrim, largs, isL, takev, dropv, nthv, pushO, catv, gd, true_and, and_true, Option.some.injEq, Prod.mk.injEq, exists_eq_left', if_true, if_false, reduceCtorEq, Bool.false_eq_true, lcmp_ge, lcmp_lt, lcmp_le, lcmp_gt, lcmp_eq, true_or, or_true, not_true_eq_false, not_false_eq_true, false_implies, true_implies, List.length_cons, List.length_nil, M1, s1]
    repeat (first | refine ⟨in_small (by omega) (by omega), ?_⟩ | (show (_ → _) ∧ (_ → _); first | refine ⟨by omega, fun _ => ?_⟩ | refine ⟨fun _ => ?_, by omega⟩) | refine ⟨by omega, ?_⟩ | refine ⟨⟨_, rfl, by assumption⟩, ?_⟩ | refine ⟨okT_I _, ?_⟩ | refine ⟨okT_S (by omega) (by omega), ?_⟩ | refine ⟨okT_B (by omega) (by omega), ?_⟩ | refine call0 (gd_of rfl) ?_)
    refine changes_p (h := h) hmh hms hB2 x2 (by omega) (by omega) (by omega) (by omega) (by omega) hl2 la (by omega) rfl fun D3 j1 hB3 => ?_
    simp only [P_X16_roots, i_kil, i_icon, i_lcon, i_null, i_loadI, i_loadL, i_loadR, i_istore, i_lstore, i_astore, i_iinc, i_dup, i_dup2, i_pop, i_iadd, i_isub, i_imul, i_idiv, i_irem, i_ineg, i_iand, i_ior, i_ishl, i_ishr, i_lxor, i_ladd, i_lsub, i_lmul, i_ldiv, i_lrem, i_lneg, i_lshl, i_lcmp, i_i2l, i_l2i, i_i2b, i_i2s, i_ifeq, i_ifne, i_iflt, i_ifge, i_ifgt, i_ifle, i_cmpeq, i_cmpne, i_cmplt, i_cmpge, i_cmpgt, i_cmple, i_acmpeq, i_acmpne, i_ifnull, i_ifnonnull, i_getI, i_getR, i_putI, i_putZ, i_putR, i_ald, i_ldL, i_ldR, i_ast, i_stL, i_stR, i_alen, i_new, i_newa, i_iret, i_zret, i_lret, i_aret, i_vret, i_raise, i_throw, i_recv, i_objinit, i_tsw3, lget, lset, lput1, lput2, lkil, ltrim, largs, isL, takev, dropv, nthv, pushO, catv, gd, true_and, and_true, Option.some.injEq, Prod.mk.injEq, exists_eq_left', if_true, if_false, reduceCtorEq, Bool.false_eq_true, lcmp_ge, lcmp_lt, lcmp_le, lcmp_gt, lcmp_eq, true_or, or_true, not_true_eq_false, not_false_eq_true, false_implies, true_implies, List.length_cons, List.length_nil, M1, s1]
    repeat (first | refine ⟨in_small (by omega) (by omega), ?_⟩ | (show (_ → _) ∧ (_ → _); first | refine ⟨by omega, fun _ => ?_⟩ | refine ⟨fun _ => ?_, by omega⟩) | refine ⟨by omega, ?_⟩ | refine ⟨⟨_, rfl, by assumption⟩, ?_⟩ | refine ⟨okT_I _, ?_⟩ | refine ⟨okT_S (by omega) (by omega), ?_⟩ | refine ⟨okT_B (by omega) (by omega), ?_⟩ | refine call0 (gd_of rfl) ?_)
    refine changes_p (h := h) hmh hms hB3 s2 (by omega) (by omega) (by omega) (by omega) (by omega) (i2.congr (fun i => j1 _ i (by omega) (by omega) (by omega) (by omega)) fun i => j1 _ i (by omega) (by omega) (by omega) (by omega)) la1 (by omega) rfl fun D4 k1 hB4 => ?_
    unfold mlw
    rw [mpt_rpt, mpt_rpt]
    have eN : vP p (rpt h w) - vP p (rpt h (w + 1)) = nR p h w := rfl
    have fr4 : ∀ c i, c ≠ M + 1 → c ≠ M + 4221 → c ≠ M + 4222 → (c < M + 11297 ∨ M + 11306 < c) → c ≠ M + 10793 → c ≠ M + 10794 → D4 c i = D c i := fun c i c1 c2 c3 c4 c5 c6 => by rw [k1 c i c1 c2 c3 c4, j1 c i c1 c2 c3 c4, fr2 c i c5 c6]
    have f4 : mrO2 M t D D4 := ⟨fun c i c1 c2 c3 c4 c5 c6 c7 c8 c9 => fr4 c i c1 c2 c3 c4 c5 c6, fun i hi => fr4 _ i (by omega) (by omega) (by omega) (by omega) (by omega) (by omega)⟩
    have hl4 : wD 2 1 D4 (M + 11309 + 2 * t) (mlw h w) := hlow.congr (fun i => fr4 _ i (by omega) (by omega) (by omega) (by omega) (by omega) (by omega)) fun i => fr4 _ i (by omega) (by omega) (by omega) (by omega) (by omega) (by omega)
    have hL4 : mrtL D4 M L := hL.congr fun c i c1 => fr4 c i (by omega) (by omega) (by omega) (by omega) (by omega) (by omega)
    have hvb : nR p h w ≤ 1000 := by omega
    have hinN : inI (nR p h w) := in_small (by omega) (by omega)
    simp only [P_X16_roots, i_kil, i_icon, i_lcon, i_null, i_loadI, i_loadL, i_loadR, i_istore, i_lstore, i_astore, i_iinc, i_dup, i_dup2, i_pop, i_iadd, i_isub, i_imul, i_idiv, i_irem, i_ineg, i_iand, i_ior, i_ishl, i_ishr, i_lxor, i_ladd, i_lsub, i_lmul, i_ldiv, i_lrem, i_lneg, i_lshl, i_lcmp, i_i2l, i_l2i, i_i2b, i_i2s, i_ifeq, i_ifne, i_iflt, i_ifge, i_ifgt, i_ifle, i_cmpeq, i_cmpne, i_cmplt, i_cmpge, i_cmpgt, i_cmple, i_acmpeq, i_acmpne, i_ifnull, i_ifnonnull, i_getI, i_getR, i_putI, i_putZ, i_putR, i_ald, i_ldL, i_ldR, i_ast, i_stL, i_stR, i_alen, i_new, i_newa, i_iret, i_zret, i_lret, i_aret, i_vret, i_raise, i_throw, i_recv, i_objinit, i_tsw3, lget, lset, lput1, lput2, lkil, ltrim, largs, isL, takev, dropv, nthv, pushO, catv, gd, true_and, and_true, Option.some.injEq, Prod.mk.injEq, exists_eq_left', if_true, if_false, reduceCtorEq, Bool.false_eq_true, lcmp_ge, lcmp_lt, lcmp_le, lcmp_gt, lcmp_eq, true_or, or_true, not_true_eq_false, not_false_eq_true, false_implies, true_implies, List.length_cons, List.length_nil, M1, eN]
    refine ⟨hinN, fun q => ?_, fun q => ?_⟩
    · refine third D4 f4 hB4 ?_ hl4
      rw [if_neg q, List.append_nil]; exact hL4
    · obtain ⟨l1, l2, l3⟩ := hL4
      have hlen : L.length < 8 := by omega
      obtain ⟨y1, y2⟩ := b2 L.length hlen
      have y3 := y2.1
      simp only [P_X16_roots, i_kil, i_icon, i_lcon, i_null, i_loadI, i_loadL, i_loadR, i_istore, i_lstore, i_astore, i_iinc, i_dup, i_dup2, i_pop, i_iadd, i_isub, i_imul, i_idiv, i_irem, i_ineg, i_iand, i_ior, i_ishl, i_ishr, i_lxor, i_ladd, i_lsub, i_lmul, i_ldiv, i_lrem, i_lneg, i_lshl, i_lcmp, i_i2l, i_l2i, i_i2b, i_i2s, i_ifeq, i_ifne, i_iflt, i_ifge, i_ifgt, i_ifle, i_cmpeq, i_cmpne, i_cmplt, i_cmpge, i_cmpgt, i_cmple, i_acmpeq, i_acmpne, i_ifnull, i_ifnonnull, i_getI, i_getR, i_putI, i_putZ, i_putR, i_ald, i_ldL, i_ldR, i_ast, i_stL, i_stR, i_alen, i_new, i_newa, i_iret, i_zret, i_lret, i_aret, i_vret, i_raise, i_throw, i_recv, i_objinit, i_tsw3, lget, lset, lput1, lput2, lkil, ltrim, largs, isL, takev, dropv, nthv, pushO, catv, gd, true_and, and_true, Option.some.injEq, Prod.mk.injEq, exists_eq_left', if_true, if_false, reduceCtorEq, Bool.false_eq_true, lcmp_ge, lcmp_lt, lcmp_le, lcmp_gt, lcmp_eq, true_or, or_true, not_true_eq_false, not_false_eq_true, false_implies, true_implies, List.length_cons, List.length_nil, M1, s7, b1, l1, y1]
      repeat (first | refine ⟨in_small (by omega) (by omega), ?_⟩ | (show (_ → _) ∧ (_ → _); first | refine ⟨by omega, fun _ => ?_⟩ | refine ⟨fun _ => ?_, by omega⟩) | refine ⟨by omega, ?_⟩ | refine ⟨⟨_, rfl, by assumption⟩, ?_⟩ | refine ⟨okT_I _, ?_⟩ | refine ⟨okT_S (by omega) (by omega), ?_⟩ | refine ⟨okT_B (by omega) (by omega), ?_⟩ | refine call0 (gd_of rfl) ?_)
      refine sp_X17_copy y2 x2 hl4 (Int.lt_of_lt_of_le lp (pw_mono (by decide))) (by omega) (by omega) fun D5 m1 m2 => ?_
      have l5 : D5 M 72 = (L.length : Int) := by rw [m1 _ _ (by omega) (by omega)]; exact l1
      have l5' : pmu D5 (M + 11295) (L.length : Int) h M 72 = (L.length : Int) := by simp only [pmu]; rw [if_neg (by omega)]; exact l5
      simp only [P_X16_roots, i_kil, i_icon, i_lcon, i_null, i_loadI, i_loadL, i_loadR, i_istore, i_lstore, i_astore, i_iinc, i_dup, i_dup2, i_pop, i_iadd, i_isub, i_imul, i_idiv, i_irem, i_ineg, i_iand, i_ior, i_ishl, i_ishr, i_lxor, i_ladd, i_lsub, i_lmul, i_ldiv, i_lrem, i_lneg, i_lshl, i_lcmp, i_i2l, i_l2i, i_i2b, i_i2s, i_ifeq, i_ifne, i_iflt, i_ifge, i_ifgt, i_ifle, i_cmpeq, i_cmpne, i_cmplt, i_cmpge, i_cmpgt, i_cmple, i_acmpeq, i_acmpne, i_ifnull, i_ifnonnull, i_getI, i_getR, i_putI, i_putZ, i_putR, i_ald, i_ldL, i_ldR, i_ast, i_stL, i_stR, i_alen, i_new, i_newa, i_iret, i_zret, i_lret, i_aret, i_vret, i_raise, i_throw, i_recv, i_objinit, i_tsw3, lget, lset, lput1, lput2, lkil, ltrim, largs, isL, takev, dropv, nthv, pushO, catv, gd, true_and, and_true, Option.some.injEq, Prod.mk.injEq, exists_eq_left', if_true, if_false, reduceCtorEq, Bool.false_eq_true, lcmp_ge, lcmp_lt, lcmp_le, lcmp_gt, lcmp_eq, true_or, or_true, not_true_eq_false, not_false_eq_true, false_implies, true_implies, List.length_cons, List.length_nil, M1, s9, s10, l5, l5']
      repeat (first | refine ⟨in_small (by omega) (by omega), ?_⟩ | (show (_ → _) ∧ (_ → _); first | refine ⟨by omega, fun _ => ?_⟩ | refine ⟨fun _ => ?_, by omega⟩) | refine ⟨by omega, ?_⟩ | refine ⟨⟨_, rfl, by assumption⟩, ?_⟩ | refine ⟨okT_I _, ?_⟩ | refine ⟨okT_S (by omega) (by omega), ?_⟩ | refine ⟨okT_B (by omega) (by omega), ?_⟩ | refine call0 (gd_of rfl) ?_)
      have fr5 : ∀ c i, (c < M + 11279 ∨ M + 11295 < c) → (c ≠ M ∨ i ≠ 72) → pmu (pmu D5 (M + 11295) (L.length : Int) h) M 72 ((L.length : Int) + 1) c i = D4 c i := fun c i c1 c2 => by
        simp only [pmu]; rw [if_neg (by omega), if_neg (by omega)]; exact m1 c i (by omega) (by omega)
      refine third _ ⟨fun c i c1 c2 c3 c4 c5 c6 c7 c8 c9 => by rw [fr5 c i c7 c9]; exact f4.1 c i c1 c2 c3 c4 c5 c6 c7 c8 c9, fun i hi => by rw [fr5 _ i (by omega) (by omega)]; exact f4.2 i hi⟩ (hB4.congr fun c i c1 => fr5 c i (by omega) (by omega)) ?_ (hl4.congr (fun i => fr5 _ i (by omega) (by omega)) fun i => fr5 _ i (by omega) (by omega))
      rw [if_pos q]
      refine ⟨by simp only [pmu, and_self, if_true, List.length_append, List.length_cons, List.length_nil]; omega, by simp only [List.length_append, List.length_cons, List.length_nil]; omega, fun k x hx => ?_⟩
      have hk := (List.getElem?_eq_some_iff.mp hx).1
      simp only [List.length_append, List.length_cons, List.length_nil] at hk
      rcases Nat.lt_or_ge k L.length with z | z
      · rw [List.getElem?_append_left z] at hx
        obtain ⟨u1, u2⟩ := l3 k x hx
        refine ⟨u1.congr (fun i => ?_) fun i => ?_, ?_⟩
        · simp only [pmu]; rw [if_neg (by omega), if_neg (by omega)]; exact m1 _ i (by omega) (by omega)
        · simp only [pmu]; rw [if_neg (by omega), if_neg (by omega)]; exact m1 _ i (by omega) (by omega)
        · simp only [pmu]; rw [if_neg (by omega), if_neg (by omega), m1 _ _ (by omega) (by omega)]; exact u2
      · have ek : k = L.length := by omega
        subst ek
        rw [List.getElem?_append_right (Nat.le_refl _), Nat.sub_self] at hx
        simp only [List.getElem?_cons_zero, Option.some.injEq] at hx
        subst hx
        refine ⟨m2.congr (fun i => ?_) fun i => ?_, ?_⟩
        · simp only [pmu]; rw [if_neg (by omega), if_neg (by omega)]
        · simp only [pmu]; rw [if_neg (by omega), if_neg (by omega)]
        · simp only [pmu]; rw [if_neg (by omega), if_pos (by simp)]
end MROOTS
