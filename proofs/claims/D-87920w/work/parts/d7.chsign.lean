/-! chains of the component: signs at a place, changes -/
-- needs: d6.chbegin
set_option maxRecDepth 100000
set_option linter.unusedVariables false
/-- from the top down: what stands after j steps -/
def hev (c : Nat → Int) (a X : Int) (d : Nat) : Nat → Int
  | 0 => c d
  | j + 1 => hev c a X d j * a + c (d - (j + 1)) * X ^ (j + 1)
theorem hev_ps {c : Nat → Int} {a X : Int} {d : Nat} (hX : X ≠ 0) : ∀ j, j ≤ d → ((hev c a X d j : Int) : Rat) = (X : Rat) ^ j * ps (fun i => zq c (d - j + i)) (j + 1) ((a : Rat) / (X : Rat)) := by
  have hXr : (X : Rat) ≠ 0 := fun w => hX (Rat.intCast_inj.mp (w.trans Rat.intCast_zero.symm))
  intro j
  induction j with
  | zero => intro _; simp only [hev, ps, Rat.pow_zero]; show ((c d : Int) : Rat) = 1 * (0 + ((c (d - 0 + 0) : Int) : Rat) * 1); rw [show d - 0 + 0 = d by omega]; grind
  | succ j ih =>
    intro hj
    rw [ps_left]
    have e1 : ps (fun k => (fun i => zq c (d - (j + 1) + i)) (k + 1)) (j + 1) ((a : Rat) / (X : Rat)) = ps (fun i => zq c (d - j + i)) (j + 1) ((a : Rat) / (X : Rat)) := ps_congr (fun k _ => by
      show ((c (d - (j + 1) + (k + 1)) : Int) : Rat) = ((c (d - j + k) : Int) : Rat)
      rw [show d - (j + 1) + (k + 1) = d - j + k by omega]) _
    rw [e1]
    simp only [hev]
    rw [Rat.intCast_add, Rat.intCast_mul, Rat.intCast_mul, ih (by omega), Rat.intCast_pow]
    generalize ps (fun i => zq c (d - j + i)) (j + 1) ((a : Rat) / (X : Rat)) = P
    show _ = (X : Rat) ^ (j + 1) * (((c (d - (j + 1) + 0) : Int) : Rat) + _)
    rw [show d - (j + 1) + 0 = d - (j + 1) by omega, Rat.pow_succ]
    have e2 : (X : Rat) * ((a : Rat) / (X : Rat)) = (a : Rat) := by
      rw [Rat.div_def]
      have := Rat.mul_inv_cancel _ hXr
      have : (X : Rat) * ((a : Rat) * (X : Rat)⁻¹) = (a : Rat) * ((X : Rat) * (X : Rat)⁻¹) := by grind
      rw [this, Rat.mul_inv_cancel _ hXr]; grind
    have e3 : (X : Rat) ^ j * (X : Rat) * ((a : Rat) / (X : Rat) * P) = (X : Rat) ^ j * P * ((X : Rat) * ((a : Rat) / (X : Rat))) := by grind
    have e4 : (X : Rat) ^ j * (X : Rat) * (((c (d - (j + 1)) : Int) : Rat) + (a : Rat) / (X : Rat) * P) = ((c (d - (j + 1)) : Int) : Rat) * ((X : Rat) ^ j * (X : Rat)) + (X : Rat) ^ j * (X : Rat) * ((a : Rat) / (X : Rat) * P) := by grind
    rw [e4, e3, e2]; grind
theorem sgr_int (z : Int) : sgr (z : Rat) = Int.sign z := by
  rcases Int.lt_trichotomy z 0 with h | h | h
  · have : (z : Rat) < ((0 : Int) : Rat) := Rat.intCast_lt_intCast.mpr h
    rw [sgr_neg this, Int.sign_eq_neg_one_of_neg h]
  · rw [h]; decide
  · have : ((0 : Int) : Rat) < (z : Rat) := Rat.intCast_lt_intCast.mpr h
    rw [sgr_pos this, Int.sign_eq_one_of_pos h]
theorem hev_sgr {c : Nat → Int} {a X : Int} {d : Nat} (hX : 0 < X) : Int.sign (hev c a X d d) = sgr (zp c (d + 1) ((a : Rat) / (X : Rat))) := by
  rw [← sgr_int, hev_ps (by omega) d (Nat.le_refl _)]
  have h0 : (0 : Rat) < (X : Rat) ^ d := Rat.pow_pos (Rat.intCast_pos.mpr hX)
  rw [sgr_scale h0]
  congr 1
  exact ps_congr (fun k _ => by rw [Nat.sub_self, Nat.zero_add]) _
theorem hev_abs {c : Nat → Int} {a X : Int} {d C A : Nat} (hc : ∀ k, k ≤ d → (c k).natAbs ≤ C) (ha : a.natAbs ≤ A) (hX : X.natAbs ≤ A) : ∀ j, j ≤ d → (hev c a X d j).natAbs ≤ (j + 1) * (C * A ^ j) := by
  intro j
  induction j with
  | zero => intro _; simp only [hev, Nat.pow_zero, Nat.mul_one, Nat.zero_add, Nat.one_mul]; exact hc d (Nat.le_refl _)
  | succ j ih =>
    intro hj
    have h1 := ih (by omega)
    simp only [hev]
    have h2 : (hev c a X d j * a).natAbs ≤ (j + 1) * (C * A ^ j) * A := by rw [Int.natAbs_mul]; exact Nat.mul_le_mul h1 ha
    have h3 : (c (d - (j + 1)) * X ^ (j + 1)).natAbs ≤ C * A ^ (j + 1) := by rw [Int.natAbs_mul, Int.natAbs_pow]; exact Nat.mul_le_mul (hc _ (by omega)) (Nat.pow_le_pow_left hX _)
    have h4 : (j + 1) * (C * A ^ j) * A = (j + 1) * (C * A ^ (j + 1)) := by rw [Nat.mul_assoc, Nat.mul_assoc, ← Nat.pow_succ]
    have h5 : (j + 1 + 1) * (C * A ^ (j + 1)) = (j + 1) * (C * A ^ (j + 1)) + C * A ^ (j + 1) := by rw [Nat.succ_mul]
    rw [h4] at h2
    rw [h5]
    generalize (j + 1) * (C * A ^ (j + 1)) = U at *
    generalize C * A ^ (j + 1) = V at *
    omega
theorem hev_two {j d c b : Nat} (hj : j ≤ d) (hd : d ≤ 8) : (j + 1) * (2 ^ c * (2 ^ (b + 7)) ^ j) ≤ 2 ^ (4 + c + j * (b + 7)) := by
  have e : 2 ^ (4 + c + j * (b + 7)) = 2 ^ 4 * (2 ^ c * (2 ^ (b + 7)) ^ j) := by rw [← Nat.pow_mul, ← Nat.pow_add, ← Nat.pow_add, Nat.mul_comm (b + 7) j]; congr 1; omega
  rw [e]
  exact Nat.mul_le_mul_right _ (by have : (2 : Nat) ^ 4 = 16 := by decide
                                   omega)
/-- the words of a row's number and of a power, together -/
theorem sg_words {d b : Nat} (hd : d ≤ 8) (hb : b ≤ 460) : szC d / 29 + 1 + (d * b / 29 + 1) ≤ 160 ∧ 4 + szC d + d * (b + 7) < 29 * 140 := by
  have h : d * b ≤ d * 460 := Nat.mul_le_mul_left _ hb
  have h2 : d * (b + 7) = d * b + d * 7 := Nat.mul_add _ _ _
  unfold szC
  have : d = 0 ∨ d = 1 ∨ d = 2 ∨ d = 3 ∨ d = 4 ∨ d = 5 ∨ d = 6 ∨ d = 7 ∨ d = 8 := by omega
  rw [h2]
  generalize d * b = u at *
  rcases this with rfl | rfl | rfl | rfl | rfl | rfl | rfl | rfl | rfl <;> omega
section SIGN
variable {b o : Nat}
def sgO (b : Nat) (D D' : Dat) : Prop := ∀ c i, (c < b + 14 ∨ b + 21 < c) → D' c i = D c i
set_option maxHeartbeats 4000000 in
theorem sp_X8_signAt {E : Ex} {B : Nat × Nat} {S : Stat} {D : Dat} {r d A bits : Nat} {f : Nat → Int} {av : Int} (hS : chS S b o) (hr : r < 10) (hd : d ≤ 8) (hdr : D (b + 12) r = d) (hf : chR D b r d f) (hc : ∀ k, k ≤ d → (f k).natAbs ≤ 2 ^ szC d) (hA : wS 3 S A 160) (hAb : A + 1 < b ∨ b + 219 < A) (ha : wD 1 2 D A av) (hab : av.natAbs ≤ 2 ^ (bits + 7)) (hbits : bits ≤ 460)
    (K : ∀ D' : Dat, sgO b D D' → E (.inl (some (.inl (sgr (zp f (d + 1) ((av : Rat) / (((2 ^ bits : Nat) : Int) : Rat))))))) B S D') : Wp P_X8_signAt E 0 [some (aR b), some (aI r), some (aR A), some (aI bits)] [] B S D := by
  have hS0 := hS
  obtain ⟨ho, s1, s2, s3, s4, s5, s6, s7, s8, s9, s10, s11, s12, s13, s14, s15, s16, s17, s18, s19, s20⟩ := hS
  have ho1 := ho.1
  obtain ⟨r1, r2⟩ := s5 r hr
  obtain ⟨t1, t2⟩ := s6 r d hr (by omega)
  have w4 := s13.1
  have w5 := s15.1
  obtain ⟨k1, k2⟩ := sg_words hd hbits
  have hX : (0 : Int) < ((2 ^ bits : Nat) : Int) := by have := Nat.two_pow_pos bits; omega
  have hXA : (((2 ^ bits : Nat) : Int)).natAbs ≤ 2 ^ (bits + 7) := by rw [Int.natAbs_natCast]; exact pw_le2 (by omega)
  have hv : ∀ j, j ≤ d → ((hev f av ((2 ^ bits : Nat) : Int) d j).natAbs : Int) < 1000000000 ^ 140 := fun j hj => by
    have h1 := hev_abs hc hab hXA j hj
    have h2 := hev_two (c := szC d) (b := bits) hj hd
    have h3 : j * (bits + 7) ≤ d * (bits + 7) := Nat.mul_le_mul_right _ hj
    exact nat_pw (Nat.le_trans h1 (Nat.le_trans h2 (pw_le2 (show 4 + szC d + j * (bits + 7) ≤ 4 + szC d + d * (bits + 7) by omega)))) (two_pw k2)
  have hvq : ∀ j, j < d → ((hev f av ((2 ^ bits : Nat) : Int) d j).natAbs : Int) < 1000000000 ^ ((4 + szC d + j * (bits + 7)) / 29 + 1) := fun j hj => by
    have h1 := hev_abs hc hab hXA j (by omega)
    have h2 := hev_two (c := szC d) (b := bits) (show j ≤ d by omega) hd
    exact nat_pw (Nat.le_trans h1 h2) (two_pw (by omega))
  have hcw : ∀ k, k ≤ d → ((f k).natAbs : Int) < 1000000000 ^ (szC d / 29 + 1) := fun k hk => nat_pw (hc k hk) (two_pw (by omega))
  have haw : (av.natAbs : Int) < 1000000000 ^ 17 := nat_pw hab (two_pw (by omega))
  have hxw : ∀ j i, j ≤ d → i ≤ bits → (j = d → i = 0) → (((((2 ^ bits : Nat) : Int) ^ j * ((2 ^ i : Nat) : Int)).natAbs : Nat) : Int) < 1000000000 ^ (d * bits / 29 + 1) := fun j i hj hi hjd => by
    rw [Int.natAbs_mul, Int.natAbs_pow, Int.natAbs_natCast, Int.natAbs_natCast, ← Nat.pow_mul, ← Nat.pow_add]
    refine two_pw ?_
    have : bits * j + i ≤ d * bits := by
      rw [Nat.mul_comm]
      rcases Nat.lt_or_ge j d with w | w
      · have := Nat.mul_le_mul_right bits (show j + 1 ≤ d by omega)
        rw [Nat.succ_mul] at this; omega
      · have e : j = d := by omega
        have := hjd e
        rw [e]; omega
    omega
  have lo : ∀ (D1 : Dat), sgO b D D1 → wD 1 2 D1 A av := fun D1 h => ha.congr (fun i => h _ i (by omega)) fun i => h _ i (by omega)
  have lf : ∀ (D1 : Dat) (k : Nat), k ≤ d → sgO b D D1 → wD 1 2 D1 (cw b r k) (f k) := fun D1 k hk h => (hf k hk).congr (fun i => h _ i (by unfold cw; omega)) fun i => h _ i (by unfold cw; omega)
  -- the outer loop: j steps are done
  have outer : ∀ (L j : Nat) (D1 : Dat), j + L = d → sgO b D D1 → wD 1 2 D1 (b + 16) (hev f av ((2 ^ bits : Nat) : Int) d j) → wD 1 2 D1 (b + 14) (((2 ^ bits : Nat) : Int) ^ j) → Wp P_X8_signAt E 1 [some (aR b), none, some (aR A), some (aI bits), some (aR (b + 2 + r)), some (aI ((L : Int) - 1))] [] B S D1 := by
    intro L
    induction L with
    | zero =>
      intro j D1 hj hfr hy hx
      have : j = d := by omega
      subst this
      have hs := hy.sg
      rw [hev_sgr hX] at hs
      refine wp_in ?_
      simp only [P_X8_signAt, i_kil, i_icon, i_lcon, i_null, i_loadI, i_loadL, i_loadR, i_istore, i_lstore, i_astore, i_iinc, i_dup, i_dup2, i_pop, i_iadd, i_isub, i_imul, i_idiv, i_irem, i_ineg, i_iand, i_ior, i_ishl, i_ishr, i_lxor, i_ladd, i_lsub, i_lmul, i_ldiv, i_lrem, i_lneg, i_lshl, i_lcmp, i_i2l, i_l2i, i_i2b, i_i2s, i_ifeq, i_ifne, i_iflt, i_ifge, i_ifgt, i_ifle, i_cmpeq, i_cmpne, i_cmplt, i_cmpge, i_cmpgt, i_cmple, i_acmpeq, i_acmpne, i_ifnull, i_ifnonnull, i_getI, i_getR, i_putI, i_putZ, i_putR, i_ald, i_ldL, i_ldR, i_ast, i_stL, i_stR, i_alen, i_new, i_newa, i_iret, i_zret, i_lret, i_aret, i_vret, i_raise, i_throw, i_recv, i_objinit, i_tsw3, lget, lset, lput1, lput2, lkil, ltrim, largs, isL, takev, dropv, nthv, pushO, catv, gd, true_and, and_true, Option.some.injEq, Prod.mk.injEq, exists_eq_left', if_true, if_false, reduceCtorEq, Bool.false_eq_true, lcmp_ge, lcmp_lt, lcmp_le, lcmp_gt, lcmp_eq, true_or, or_true, not_true_eq_false, not_false_eq_true, false_implies, true_implies, List.length_cons, List.length_nil, s1, s14, w5, hs]
      refine ⟨fun _ => K D1 hfr, fun w => absurd w (by decide)⟩
    | succ L ih =>
      intro j D1 hj hfr hy hx
      have eL : ((L + 1 : Nat) : Int) - 1 = (L : Int) := by omega
      rw [eL]
      refine wp_in ?_
      simp only [P_X8_signAt, i_kil, i_icon, i_lcon, i_null, i_loadI, i_loadL, i_loadR, i_istore, i_lstore, i_astore, i_iinc, i_dup, i_dup2, i_pop, i_iadd, i_isub, i_imul, i_idiv, i_irem, i_ineg, i_iand, i_ior, i_ishl, i_ishr, i_lxor, i_ladd, i_lsub, i_lmul, i_ldiv, i_lrem, i_lneg, i_lshl, i_lcmp, i_i2l, i_l2i, i_i2b, i_i2s, i_ifeq, i_ifne, i_iflt, i_ifge, i_ifgt, i_ifle, i_cmpeq, i_cmpne, i_cmplt, i_cmpge, i_cmpgt, i_cmple, i_acmpeq, i_acmpne, i_ifnull, i_ifnonnull, i_getI, i_getR, i_putI, i_putZ, i_putR, i_ald, i_ldL, i_ldR, i_ast, i_stL, i_stR, i_alen, i_new, i_newa, i_iret, i_zret, i_lret, i_aret, i_vret, i_raise, i_throw, i_recv, i_objinit, i_tsw3, lget, lset, lput1, lput2, lkil, ltrim, largs, isL, takev, dropv, nthv, pushO, catv, gd, true_and, and_true, Option.some.injEq, Prod.mk.injEq, exists_eq_left', if_true, if_false, reduceCtorEq, Bool.false_eq_true, lcmp_ge, lcmp_lt, lcmp_le, lcmp_gt, lcmp_eq, true_or, or_true, not_true_eq_false, not_false_eq_true, false_implies, true_implies, List.length_cons, List.length_nil, s1, s2, s12, s14, s16]
      repeat (first | refine ⟨in_small (by omega) (by omega), ?_⟩ | (show (_ → _) ∧ (_ → _); first | refine ⟨by omega, fun _ => ?_⟩ | refine ⟨fun _ => ?_, by omega⟩) | refine ⟨by omega, ?_⟩ | refine ⟨⟨_, rfl, by assumption⟩, ?_⟩ | refine ⟨okT_I _, ?_⟩ | refine ⟨okT_S (by omega) (by omega), ?_⟩ | refine ⟨okT_B (by omega) (by omega), ?_⟩ | refine call0 (gd_of rfl) ?_)
      have pz : (4 + szC d + j * (bits + 7)) / 29 + 1 + 17 ≤ 160 := by
        have h3 : (j + 1) * (bits + 7) ≤ d * (bits + 7) := Nat.mul_le_mul_right _ (by omega)
        rw [Nat.succ_mul] at h3
        generalize j * (bits + 7) = U at *
        generalize d * (bits + 7) = V at *
        omega
      refine sp_X2_times (p := (4 + szC d + j * (bits + 7)) / 29 + 1) (q := 17) s17 s15 hA (by omega) (by omega) hy (lo D1 hfr) (hvq j (by omega)) haw (by omega) (by decide) pz (by decide) (by decide) (by decide) fun D2 g1 g2 => ?_
      simp only [P_X8_signAt, i_kil, i_icon, i_lcon, i_null, i_loadI, i_loadL, i_loadR, i_istore, i_lstore, i_astore, i_iinc, i_dup, i_dup2, i_pop, i_iadd, i_isub, i_imul, i_idiv, i_irem, i_ineg, i_iand, i_ior, i_ishl, i_ishr, i_lxor, i_ladd, i_lsub, i_lmul, i_ldiv, i_lrem, i_lneg, i_lshl, i_lcmp, i_i2l, i_l2i, i_i2b, i_i2s, i_ifeq, i_ifne, i_iflt, i_ifge, i_ifgt, i_ifle, i_cmpeq, i_cmpne, i_cmplt, i_cmpge, i_cmpgt, i_cmple, i_acmpeq, i_acmpne, i_ifnull, i_ifnonnull, i_getI, i_getR, i_putI, i_putZ, i_putR, i_ald, i_ldL, i_ldR, i_ast, i_stL, i_stR, i_alen, i_new, i_newa, i_iret, i_zret, i_lret, i_aret, i_vret, i_raise, i_throw, i_recv, i_objinit, i_tsw3, lget, lset, lput1, lput2, lkil, ltrim, largs, isL, takev, dropv, nthv, pushO, catv, gd, true_and, and_true, Option.some.injEq, Prod.mk.injEq, exists_eq_left', if_true, if_false, reduceCtorEq, Bool.false_eq_true, lcmp_ge, lcmp_lt, lcmp_le, lcmp_gt, lcmp_eq, true_or, or_true, not_true_eq_false, not_false_eq_true, false_implies, true_implies, List.length_cons, List.length_nil]
      repeat (first | refine ⟨in_small (by omega) (by omega), ?_⟩ | (show (_ → _) ∧ (_ → _); first | refine ⟨by omega, fun _ => ?_⟩ | refine ⟨fun _ => ?_, by omega⟩) | refine ⟨by omega, ?_⟩ | refine ⟨⟨_, rfl, by assumption⟩, ?_⟩ | refine ⟨okT_I _, ?_⟩ | refine ⟨okT_S (by omega) (by omega), ?_⟩ | refine ⟨okT_B (by omega) (by omega), ?_⟩ | refine call0 (gd_of rfl) ?_)
      have fr2 : sgO b D D2 := fun c i c1 => by rw [g1 c i (by omega) (by omega)]; exact hfr c i c1
      have inner : ∀ (L2 i : Nat) (D3 : Dat), i + L2 = bits → sgO b D D3 → wD 1 2 D3 (b + 18) (hev f av ((2 ^ bits : Nat) : Int) d j * av) → wD 1 2 D3 (b + 14) (((2 ^ bits : Nat) : Int) ^ j * ((2 ^ i : Nat) : Int)) → Wp P_X8_signAt E 2 [some (aR b), none, some (aR A), some (aI bits), some (aR (b + 2 + r)), some (aI L), some (aI i)] [] B S D3 := by
        intro L2
        induction L2 with
        | zero =>
          intro i D3 hi hfr3 hz hx3
          have : i = bits := by omega
          subst this
          have eX : ((2 ^ i : Nat) : Int) ^ j * ((2 ^ i : Nat) : Int) = ((2 ^ i : Nat) : Int) ^ (j + 1) := by rw [Int.pow_succ]
          obtain ⟨u1, u2⟩ := s6 r L hr (by omega)
          refine wp_in ?_
          simp only [P_X8_signAt, i_kil, i_icon, i_lcon, i_null, i_loadI, i_loadL, i_loadR, i_istore, i_lstore, i_astore, i_iinc, i_dup, i_dup2, i_pop, i_iadd, i_isub, i_imul, i_idiv, i_irem, i_ineg, i_iand, i_ior, i_ishl, i_ishr, i_lxor, i_ladd, i_lsub, i_lmul, i_ldiv, i_lrem, i_lneg, i_lshl, i_lcmp, i_i2l, i_l2i, i_i2b, i_i2s, i_ifeq, i_ifne, i_iflt, i_ifge, i_ifgt, i_ifle, i_cmpeq, i_cmpne, i_cmplt, i_cmpge, i_cmpgt, i_cmple, i_acmpeq, i_acmpne, i_ifnull, i_ifnonnull, i_getI, i_getR, i_putI, i_putZ, i_putR, i_ald, i_ldL, i_ldR, i_ast, i_stL, i_stR, i_alen, i_new, i_newa, i_iret, i_zret, i_lret, i_aret, i_vret, i_raise, i_throw, i_recv, i_objinit, i_tsw3, lget, lset, lput1, lput2, lkil, ltrim, largs, isL, takev, dropv, nthv, pushO, catv, gd, true_and, and_true, Option.some.injEq, Prod.mk.injEq, exists_eq_left', if_true, if_false, reduceCtorEq, Bool.false_eq_true, lcmp_ge, lcmp_lt, lcmp_le, lcmp_gt, lcmp_eq, true_or, or_true, not_true_eq_false, not_false_eq_true, false_implies, true_implies, List.length_cons, List.length_nil, s1, s2, s12, s14, s16, s18, r2, u1]
          repeat (first | refine ⟨in_small (by omega) (by omega), ?_⟩ | (show (_ → _) ∧ (_ → _); first | refine ⟨by omega, fun _ => ?_⟩ | refine ⟨fun _ => ?_, by omega⟩) | refine ⟨by omega, ?_⟩ | refine ⟨⟨_, rfl, by assumption⟩, ?_⟩ | refine ⟨okT_I _, ?_⟩ | refine ⟨okT_S (by omega) (by omega), ?_⟩ | refine ⟨okT_B (by omega) (by omega), ?_⟩ | refine call0 (gd_of rfl) ?_)
          have hx4 := hxw j i (by omega) (Nat.le_refl _) (fun w => by omega)
          refine sp_X2_times (p := szC d / 29 + 1) (q := d * i / 29 + 1) s19 u2 s13 (by unfold cw; omega) (by omega) (lf D3 L (by omega) hfr3) hx3 (hcw L (by omega)) hx4 (by omega) (by omega) k1 (by decide) (by decide) (by decide) fun D4 i1 i2 => ?_
          simp only [P_X8_signAt, i_kil, i_icon, i_lcon, i_null, i_loadI, i_loadL, i_loadR, i_istore, i_lstore, i_astore, i_iinc, i_dup, i_dup2, i_pop, i_iadd, i_isub, i_imul, i_idiv, i_irem, i_ineg, i_iand, i_ior, i_ishl, i_ishr, i_lxor, i_ladd, i_lsub, i_lmul, i_ldiv, i_lrem, i_lneg, i_lshl, i_lcmp, i_i2l, i_l2i, i_i2b, i_i2s, i_ifeq, i_ifne, i_iflt, i_ifge, i_ifgt, i_ifle, i_cmpeq, i_cmpne, i_cmplt, i_cmpge, i_cmpgt, i_cmple, i_acmpeq, i_acmpne, i_ifnull, i_ifnonnull, i_getI, i_getR, i_putI, i_putZ, i_putR, i_ald, i_ldL, i_ldR, i_ast, i_stL, i_stR, i_alen, i_new, i_newa, i_iret, i_zret, i_lret, i_aret, i_vret, i_raise, i_throw, i_recv, i_objinit, i_tsw3, lget, lset, lput1, lput2, lkil, ltrim, largs, isL, takev, dropv, nthv, pushO, catv, gd, true_and, and_true, Option.some.injEq, Prod.mk.injEq, exists_eq_left', if_true, if_false, reduceCtorEq, Bool.false_eq_true, lcmp_ge, lcmp_lt, lcmp_le, lcmp_gt, lcmp_eq, true_or, or_true, not_true_eq_false, not_false_eq_true, false_implies, true_implies, List.length_cons, List.length_nil, s1, s2, s12, s14, s16, s18]
          repeat (first | refine ⟨in_small (by omega) (by omega), ?_⟩ | (show (_ → _) ∧ (_ → _); first | refine ⟨by omega, fun _ => ?_⟩ | refine ⟨fun _ => ?_, by omega⟩) | refine ⟨by omega, ?_⟩ | refine ⟨⟨_, rfl, by assumption⟩, ?_⟩ | refine ⟨okT_I _, ?_⟩ | refine ⟨okT_S (by omega) (by omega), ?_⟩ | refine ⟨okT_B (by omega) (by omega), ?_⟩ | refine call0 (gd_of rfl) ?_)
          rw [eX] at i2 hx3
          have hz4 : wD 1 2 D4 (b + 18) (hev f av ((2 ^ i : Nat) : Int) d j * av) := hz.congr (fun i' => i1 _ i' (by omega) (by omega)) fun i' => i1 _ i' (by omega) (by omega)
          have b1 : (hev f av ((2 ^ i : Nat) : Int) d j * av).natAbs + (f L * ((2 ^ i : Nat) : Int) ^ (j + 1)).natAbs ≤ (j + 1 + 1) * (2 ^ szC d * (2 ^ (i + 7)) ^ (j + 1)) := by
            have h1 := hev_abs hc hab hXA j (by omega)
            have h2 : (hev f av ((2 ^ i : Nat) : Int) d j * av).natAbs ≤ (j + 1) * (2 ^ szC d * (2 ^ (i + 7)) ^ j) * 2 ^ (i + 7) := by rw [Int.natAbs_mul]; exact Nat.mul_le_mul h1 hab
            have h3 : (f L * ((2 ^ i : Nat) : Int) ^ (j + 1)).natAbs ≤ 2 ^ szC d * (2 ^ (i + 7)) ^ (j + 1) := by rw [Int.natAbs_mul, Int.natAbs_pow]; exact Nat.mul_le_mul (hc _ (by omega)) (Nat.pow_le_pow_left hXA _)
            have h4 : (j + 1) * (2 ^ szC d * (2 ^ (i + 7)) ^ j) * 2 ^ (i + 7) = (j + 1) * (2 ^ szC d * (2 ^ (i + 7)) ^ (j + 1)) := by rw [Nat.mul_assoc, Nat.mul_assoc, ← Nat.pow_succ]
            rw [h4] at h2
            have h5 : (j + 1 + 1) * (2 ^ szC d * (2 ^ (i + 7)) ^ (j + 1)) = (j + 1) * (2 ^ szC d * (2 ^ (i + 7)) ^ (j + 1)) + 2 ^ szC d * (2 ^ (i + 7)) ^ (j + 1) := by rw [Nat.succ_mul]
            rw [h5]
            exact Nat.add_le_add h2 h3
          have b2 := Nat.le_trans b1 (hev_two (c := szC d) (b := i) (show j + 1 ≤ d by omega) hd)
          have b3 : ((2 ^ (4 + szC d + (j + 1) * (i + 7)) : Nat) : Int) < 1000000000 ^ 160 := by
            have h3 : (j + 1) * (i + 7) ≤ d * (i + 7) := Nat.mul_le_mul_right _ (by omega)
            refine Int.lt_of_lt_of_le (two_pw (p := 140) ?_) (pw_mono (by decide))
            omega
          generalize 2 ^ (4 + szC d + (j + 1) * (i + 7)) = W at *
          refine sp_X2_add ho1 s15 s17 s19 hz4 i2 (.inl rfl) (by omega) (by omega) (by omega) (by decide) (by decide) (by decide) fun D5 j1 j2 => ?_
          simp only [P_X8_signAt, i_kil, i_icon, i_lcon, i_null, i_loadI, i_loadL, i_loadR, i_istore, i_lstore, i_astore, i_iinc, i_dup, i_dup2, i_pop, i_iadd, i_isub, i_imul, i_idiv, i_irem, i_ineg, i_iand, i_ior, i_ishl, i_ishr, i_lxor, i_ladd, i_lsub, i_lmul, i_ldiv, i_lrem, i_lneg, i_lshl, i_lcmp, i_i2l, i_l2i, i_i2b, i_i2s, i_ifeq, i_ifne, i_iflt, i_ifge, i_ifgt, i_ifle, i_cmpeq, i_cmpne, i_cmplt, i_cmpge, i_cmpgt, i_cmple, i_acmpeq, i_acmpne, i_ifnull, i_ifnonnull, i_getI, i_getR, i_putI, i_putZ, i_putR, i_ald, i_ldL, i_ldR, i_ast, i_stL, i_stR, i_alen, i_new, i_newa, i_iret, i_zret, i_lret, i_aret, i_vret, i_raise, i_throw, i_recv, i_objinit, i_tsw3, lget, lset, lput1, lput2, lkil, ltrim, largs, isL, takev, dropv, nthv, pushO, catv, gd, true_and, and_true, Option.some.injEq, Prod.mk.injEq, exists_eq_left', if_true, if_false, reduceCtorEq, Bool.false_eq_true, lcmp_ge, lcmp_lt, lcmp_le, lcmp_gt, lcmp_eq, true_or, or_true, not_true_eq_false, not_false_eq_true, false_implies, true_implies, List.length_cons, List.length_nil]
          repeat (first | refine ⟨in_small (by omega) (by omega), ?_⟩ | (show (_ → _) ∧ (_ → _); first | refine ⟨by omega, fun _ => ?_⟩ | refine ⟨fun _ => ?_, by omega⟩) | refine ⟨by omega, ?_⟩ | refine ⟨⟨_, rfl, by assumption⟩, ?_⟩ | refine ⟨okT_I _, ?_⟩ | refine ⟨okT_S (by omega) (by omega), ?_⟩ | refine ⟨okT_B (by omega) (by omega), ?_⟩ | refine call0 (gd_of rfl) ?_)
          refine ih (j + 1) D5 (by omega) (fun c i' c1 => ?_) ?_ (hx3.congr (fun i' => by rw [j1 _ i' (by omega) (by omega), i1 _ i' (by omega) (by omega)]) fun i' => by rw [j1 _ i' (by omega) (by omega), i1 _ i' (by omega) (by omega)])
          · rw [j1 c i' (by omega) (by omega), i1 c i' (by omega) (by omega)]; exact hfr3 c i' c1
          · have e : hev f av ((2 ^ i : Nat) : Int) d (j + 1) = hev f av ((2 ^ i : Nat) : Int) d j * av + 1 * (f L * ((2 ^ i : Nat) : Int) ^ (j + 1)) := by
              simp only [hev]
              rw [show d - (j + 1) = L by omega, Int.one_mul]
            rw [e]; exact j2
        | succ L2 ih2 =>
          intro i D3 hi hfr3 hz hx3
          have hx4 := hxw j (i + 1) (by omega) (by omega) (fun w => by omega)
          have eX : 2 * (((2 ^ bits : Nat) : Int) ^ j * ((2 ^ i : Nat) : Int)) + 0 = ((2 ^ bits : Nat) : Int) ^ j * ((2 ^ (i + 1) : Nat) : Int) := by
            rw [Nat.pow_succ, Int.natCast_mul]
            generalize ((2 ^ bits : Nat) : Int) ^ j = U
            generalize ((2 ^ i : Nat) : Int) = V
            have : U * (V * ((2 : Nat) : Int)) = 2 * (U * V) := by
              rw [← Int.mul_assoc, Int.mul_comm]; rfl
            rw [this]; omega
          have h0 : (0 : Int) ≤ ((2 ^ bits : Nat) : Int) ^ j * ((2 ^ i : Nat) : Int) := Int.mul_nonneg (Int.pow_nonneg (Int.natCast_nonneg _)) (Int.natCast_nonneg _)
          have h00 : (0 : Int) ≤ ((2 ^ bits : Nat) : Int) ^ j * ((2 ^ (i + 1) : Nat) : Int) := Int.mul_nonneg (Int.pow_nonneg (Int.natCast_nonneg _)) (Int.natCast_nonneg _)
          refine wp_in ?_
          simp only [P_X8_signAt, i_kil, i_icon, i_lcon, i_null, i_loadI, i_loadL, i_loadR, i_istore, i_lstore, i_astore, i_iinc, i_dup, i_dup2, i_pop, i_iadd, i_isub, i_imul, i_idiv, i_irem, i_ineg, i_iand, i_ior, i_ishl, i_ishr, i_lxor, i_ladd, i_lsub, i_lmul, i_ldiv, i_lrem, i_lneg, i_lshl, i_lcmp, i_i2l, i_l2i, i_i2b, i_i2s, i_ifeq, i_ifne, i_iflt, i_ifge, i_ifgt, i_ifle, i_cmpeq, i_cmpne, i_cmplt, i_cmpge, i_cmpgt, i_cmple, i_acmpeq, i_acmpne, i_ifnull, i_ifnonnull, i_getI, i_getR, i_putI, i_putZ, i_putR, i_ald, i_ldL, i_ldR, i_ast, i_stL, i_stR, i_alen, i_new, i_newa, i_iret, i_zret, i_lret, i_aret, i_vret, i_raise, i_throw, i_recv, i_objinit, i_tsw3, lget, lset, lput1, lput2, lkil, ltrim, largs, isL, takev, dropv, nthv, pushO, catv, gd, true_and, and_true, Option.some.injEq, Prod.mk.injEq, exists_eq_left', if_true, if_false, reduceCtorEq, Bool.false_eq_true, lcmp_ge, lcmp_lt, lcmp_le, lcmp_gt, lcmp_eq, true_or, or_true, not_true_eq_false, not_false_eq_true, false_implies, true_implies, List.length_cons, List.length_nil, s1, s12, w4]
          repeat (first | refine ⟨in_small (by omega) (by omega), ?_⟩ | (show (_ → _) ∧ (_ → _); first | refine ⟨by omega, fun _ => ?_⟩ | refine ⟨fun _ => ?_, by omega⟩) | refine ⟨by omega, ?_⟩ | refine ⟨⟨_, rfl, by assumption⟩, ?_⟩ | refine ⟨okT_I _, ?_⟩ | refine ⟨okT_S (by omega) (by omega), ?_⟩ | refine ⟨okT_B (by omega) (by omega), ?_⟩ | refine call0 (gd_of rfl) ?_)
          refine sp_X3_twice s13 hx3 h0 (.inl rfl) ?_ (by decide) fun D4 i1 i2 => ?_
          · rw [eX]
            have h5 : (1000000000 : Int) ^ (d * bits / 29 + 1) ≤ 1000000000 ^ 160 := pw_mono (by omega)
            generalize ((2 ^ bits : Nat) : Int) ^ j * ((2 ^ (i + 1) : Nat) : Int) = W at *
            omega
          rw [eX] at i2
          simp only [P_X8_signAt, i_kil, i_icon, i_lcon, i_null, i_loadI, i_loadL, i_loadR, i_istore, i_lstore, i_astore, i_iinc, i_dup, i_dup2, i_pop, i_iadd, i_isub, i_imul, i_idiv, i_irem, i_ineg, i_iand, i_ior, i_ishl, i_ishr, i_lxor, i_ladd, i_lsub, i_lmul, i_ldiv, i_lrem, i_lneg, i_lshl, i_lcmp, i_i2l, i_l2i, i_i2b, i_i2s, i_ifeq, i_ifne, i_iflt, i_ifge, i_ifgt, i_ifle, i_cmpeq, i_cmpne, i_cmplt, i_cmpge, i_cmpgt, i_cmple, i_acmpeq, i_acmpne, i_ifnull, i_ifnonnull, i_getI, i_getR, i_putI, i_putZ, i_putR, i_ald, i_ldL, i_ldR, i_ast, i_stL, i_stR, i_alen, i_new, i_newa, i_iret, i_zret, i_lret, i_aret, i_vret, i_raise, i_throw, i_recv, i_objinit, i_tsw3, lget, lset, lput1, lput2, lkil, ltrim, largs, isL, takev, dropv, nthv, pushO, catv, gd, true_and, and_true, Option.some.injEq, Prod.mk.injEq, exists_eq_left', if_true, if_false, reduceCtorEq, Bool.false_eq_true, lcmp_ge, lcmp_lt, lcmp_le, lcmp_gt, lcmp_eq, true_or, or_true, not_true_eq_false, not_false_eq_true, false_implies, true_implies, List.length_cons, List.length_nil]
          repeat (first | refine ⟨in_small (by omega) (by omega), ?_⟩ | (show (_ → _) ∧ (_ → _); first | refine ⟨by omega, fun _ => ?_⟩ | refine ⟨fun _ => ?_, by omega⟩) | refine ⟨by omega, ?_⟩ | refine ⟨⟨_, rfl, by assumption⟩, ?_⟩ | refine ⟨okT_I _, ?_⟩ | refine ⟨okT_S (by omega) (by omega), ?_⟩ | refine ⟨okT_B (by omega) (by omega), ?_⟩ | refine call0 (gd_of rfl) ?_)
          refine ih2 (i + 1) D4 (by omega) (fun c i' c1 => ?_) (hz.congr (fun i' => i1 _ i' (by omega) (by omega)) fun i' => i1 _ i' (by omega) (by omega)) i2
          rw [i1 c i' (by omega) (by omega)]; exact hfr3 c i' c1
      refine inner bits 0 D2 (by omega) fr2 g2 ?_
      have e : ((2 ^ bits : Nat) : Int) ^ j * ((2 ^ 0 : Nat) : Int) = ((2 ^ bits : Nat) : Int) ^ j := by rw [Nat.pow_zero]; omega
      rw [e]
      exact hx.congr (fun i' => g1 _ i' (by omega) (by omega)) fun i' => g1 _ i' (by omega) (by omega)
  have hfw := hcw d (Nat.le_refl _)
  have hfw2 : ((f d).natAbs : Int) < 1000000000 ^ 160 := Int.lt_of_lt_of_le hfw (pw_mono (by omega))
  refine wp_in ?_
  simp only [P_X8_signAt, i_kil, i_icon, i_lcon, i_null, i_loadI, i_loadL, i_loadR, i_istore, i_lstore, i_astore, i_iinc, i_dup, i_dup2, i_pop, i_iadd, i_isub, i_imul, i_idiv, i_irem, i_ineg, i_iand, i_ior, i_ishl, i_ishr, i_lxor, i_ladd, i_lsub, i_lmul, i_ldiv, i_lrem, i_lneg, i_lshl, i_lcmp, i_i2l, i_l2i, i_i2b, i_i2s, i_ifeq, i_ifne, i_iflt, i_ifge, i_ifgt, i_ifle, i_cmpeq, i_cmpne, i_cmplt, i_cmpge, i_cmpgt, i_cmple, i_acmpeq, i_acmpne, i_ifnull, i_ifnonnull, i_getI, i_getR, i_putI, i_putZ, i_putR, i_ald, i_ldL, i_ldR, i_ast, i_stL, i_stR, i_alen, i_new, i_newa, i_iret, i_zret, i_lret, i_aret, i_vret, i_raise, i_throw, i_recv, i_objinit, i_tsw3, lget, lset, lput1, lput2, lkil, ltrim, largs, isL, takev, dropv, nthv, pushO, catv, gd, true_and, and_true, Option.some.injEq, Prod.mk.injEq, exists_eq_left', if_true, if_false, reduceCtorEq, Bool.false_eq_true, lcmp_ge, lcmp_lt, lcmp_le, lcmp_gt, lcmp_eq, true_or, or_true, not_true_eq_false, not_false_eq_true, false_implies, true_implies, List.length_cons, List.length_nil, s1, s3, s4, s7, s8, s12, s14, r1, r2, hdr, t1]
  repeat (first | refine ⟨in_small (by omega) (by omega), ?_⟩ | (show (_ → _) ∧ (_ → _); first | refine ⟨by omega, fun _ => ?_⟩ | refine ⟨fun _ => ?_, by omega⟩) | refine ⟨by omega, ?_⟩ | refine ⟨⟨_, rfl, by assumption⟩, ?_⟩ | refine ⟨okT_I _, ?_⟩ | refine ⟨okT_S (by omega) (by omega), ?_⟩ | refine ⟨okT_B (by omega) (by omega), ?_⟩ | refine call0 (gd_of rfl) ?_)
  refine sp_X3_be s15 t2 (by unfold cw; omega) (hf d (Nat.le_refl _)) hfw2 hfw2 (by decide) fun D1 g1 g2 => ?_
  simp only [P_X8_signAt, i_kil, i_icon, i_lcon, i_null, i_loadI, i_loadL, i_loadR, i_istore, i_lstore, i_astore, i_iinc, i_dup, i_dup2, i_pop, i_iadd, i_isub, i_imul, i_idiv, i_irem, i_ineg, i_iand, i_ior, i_ishl, i_ishr, i_lxor, i_ladd, i_lsub, i_lmul, i_ldiv, i_lrem, i_lneg, i_lshl, i_lcmp, i_i2l, i_l2i, i_i2b, i_i2s, i_ifeq, i_ifne, i_iflt, i_ifge, i_ifgt, i_ifle, i_cmpeq, i_cmpne, i_cmplt, i_cmpge, i_cmpgt, i_cmple, i_acmpeq, i_acmpne, i_ifnull, i_ifnonnull, i_getI, i_getR, i_putI, i_putZ, i_putR, i_ald, i_ldL, i_ldR, i_ast, i_stL, i_stR, i_alen, i_new, i_newa, i_iret, i_zret, i_lret, i_aret, i_vret, i_raise, i_throw, i_recv, i_objinit, i_tsw3, lget, lset, lput1, lput2, lkil, ltrim, largs, isL, takev, dropv, nthv, pushO, catv, gd, true_and, and_true, Option.some.injEq, Prod.mk.injEq, exists_eq_left', if_true, if_false, reduceCtorEq, Bool.false_eq_true, lcmp_ge, lcmp_lt, lcmp_le, lcmp_gt, lcmp_eq, true_or, or_true, not_true_eq_false, not_false_eq_true, false_implies, true_implies, List.length_cons, List.length_nil, s1, s12, w4]
  repeat (first | refine ⟨in_small (by omega) (by omega), ?_⟩ | (show (_ → _) ∧ (_ → _); first | refine ⟨by omega, fun _ => ?_⟩ | refine ⟨fun _ => ?_, by omega⟩) | refine ⟨by omega, ?_⟩ | refine ⟨⟨_, rfl, by assumption⟩, ?_⟩ | refine ⟨okT_I _, ?_⟩ | refine ⟨okT_S (by omega) (by omega), ?_⟩ | refine ⟨okT_B (by omega) (by omega), ?_⟩ | refine call0 (gd_of rfl) ?_)
  refine sp_X3_set s13 (by decide) (by decide) (by omega) fun D2 i1 i2 => ?_
  have hdr2 : D2 (b + 12) r = d := by rw [i1 _ _ (by omega) (by omega), g1 _ _ (by omega) (by omega)]; exact hdr
  simp only [P_X8_signAt, i_kil, i_icon, i_lcon, i_null, i_loadI, i_loadL, i_loadR, i_istore, i_lstore, i_astore, i_iinc, i_dup, i_dup2, i_pop, i_iadd, i_isub, i_imul, i_idiv, i_irem, i_ineg, i_iand, i_ior, i_ishl, i_ishr, i_lxor, i_ladd, i_lsub, i_lmul, i_ldiv, i_lrem, i_lneg, i_lshl, i_lcmp, i_i2l, i_l2i, i_i2b, i_i2s, i_ifeq, i_ifne, i_iflt, i_ifge, i_ifgt, i_ifle, i_cmpeq, i_cmpne, i_cmplt, i_cmpge, i_cmpgt, i_cmple, i_acmpeq, i_acmpne, i_ifnull, i_ifnonnull, i_getI, i_getR, i_putI, i_putZ, i_putR, i_ald, i_ldL, i_ldR, i_ast, i_stL, i_stR, i_alen, i_new, i_newa, i_iret, i_zret, i_lret, i_aret, i_vret, i_raise, i_throw, i_recv, i_objinit, i_tsw3, lget, lset, lput1, lput2, lkil, ltrim, largs, isL, takev, dropv, nthv, pushO, catv, gd, true_and, and_true, Option.some.injEq, Prod.mk.injEq, exists_eq_left', if_true, if_false, reduceCtorEq, Bool.false_eq_true, lcmp_ge, lcmp_lt, lcmp_le, lcmp_gt, lcmp_eq, true_or, or_true, not_true_eq_false, not_false_eq_true, false_implies, true_implies, List.length_cons, List.length_nil, s1, s7, s8, hdr2]
  repeat (first | refine ⟨in_small (by omega) (by omega), ?_⟩ | (show (_ → _) ∧ (_ → _); first | refine ⟨by omega, fun _ => ?_⟩ | refine ⟨fun _ => ?_, by omega⟩) | refine ⟨by omega, ?_⟩ | refine ⟨⟨_, rfl, by assumption⟩, ?_⟩ | refine ⟨okT_I _, ?_⟩ | refine ⟨okT_S (by omega) (by omega), ?_⟩ | refine ⟨okT_B (by omega) (by omega), ?_⟩ | refine call0 (gd_of rfl) ?_)
  refine outer d 0 D2 (by omega) (fun c i c1 => ?_) (g2.congr (fun i => i1 _ i (by omega) (by omega)) fun i => i1 _ i (by omega) (by omega)) i2
  rw [i1 c i (by omega) (by omega), g1 c i (by omega) (by omega)]
/-- signs along the chain -/
theorem sp_X8_changes {E : Ex} {B : Nat × Nat} {S : Stat} {D : Dat} {A bits m : Nat} {F : Nat → Nat → Int} {n : Nat → Nat} {av : Int} (hS : chS S b o) (hD : chD D b F n m) (hM : chM F n m) (hm : m ≤ 10) (hA : wS 3 S A 160) (hAb : A + 1 < b ∨ b + 219 < A) (ha : wD 1 2 D A av) (hab : av.natAbs ≤ 2 ^ (bits + 7)) (hbits : bits ≤ 460)
    (K : ∀ D' : Dat, sgO b D D' → E (.inl (some (.inl (vch (fun i => zF F n i ((av : Rat) / (((2 ^ bits : Nat) : Int) : Rat))) m)))) B S D') : Wp P_X8_changes E 0 [some (aR b), some (aR A), some (aI bits)] [] B S D := by
  have s1 := hS.2.1
  have h8 := hD.1
  have cnt : ∀ j, 0 ≤ (vst (fun i => zF F n i ((av : Rat) / (((2 ^ bits : Nat) : Int) : Rat))) j).2 ∧ (vst (fun i => zF F n i ((av : Rat) / (((2 ^ bits : Nat) : Int) : Rat))) j).2 ≤ j := by
    intro j
    induction j with
    | zero => simp [vst]
    | succ j ih =>
      simp only [vst]
      split
      · omega
      · simp only; split <;> omega
  have loop : ∀ (L j : Nat) (D1 : Dat), j + L = m → sgO b D D1 → Wp P_X8_changes E 1 [some (aR b), some (aR A), some (aI bits), some (aI (vst (fun i => zF F n i ((av : Rat) / (((2 ^ bits : Nat) : Int) : Rat))) j).2), some (aI (vst (fun i => zF F n i ((av : Rat) / (((2 ^ bits : Nat) : Int) : Rat))) j).1), some (aI j)] [] B S D1 := by
    intro L
    induction L with
    | zero =>
      intro j D1 hj hfr
      have : j = m := by omega
      subst this
      have h8' : D1 b 8 = j := by rw [hfr _ _ (by omega)]; exact h8
      refine wp_in ?_
      simp only [P_X8_changes, i_kil, i_icon, i_lcon, i_null, i_loadI, i_loadL, i_loadR, i_istore, i_lstore, i_astore, i_iinc, i_dup, i_dup2, i_pop, i_iadd, i_isub, i_imul, i_idiv, i_irem, i_ineg, i_iand, i_ior, i_ishl, i_ishr, i_lxor, i_ladd, i_lsub, i_lmul, i_ldiv, i_lrem, i_lneg, i_lshl, i_lcmp, i_i2l, i_l2i, i_i2b, i_i2s, i_ifeq, i_ifne, i_iflt, i_ifge, i_ifgt, i_ifle, i_cmpeq, i_cmpne, i_cmplt, i_cmpge, i_cmpgt, i_cmple, i_acmpeq, i_acmpne, i_ifnull, i_ifnonnull, i_getI, i_getR, i_putI, i_putZ, i_putR, i_ald, i_ldL, i_ldR, i_ast, i_stL, i_stR, i_alen, i_new, i_newa, i_iret, i_zret, i_lret, i_aret, i_vret, i_raise, i_throw, i_recv, i_objinit, i_tsw3, lget, lset, lput1, lput2, lkil, ltrim, largs, isL, takev, dropv, nthv, pushO, catv, gd, true_and, and_true, Option.some.injEq, Prod.mk.injEq, exists_eq_left', if_true, if_false, reduceCtorEq, Bool.false_eq_true, lcmp_ge, lcmp_lt, lcmp_le, lcmp_gt, lcmp_eq, true_or, or_true, not_true_eq_false, not_false_eq_true, false_implies, true_implies, List.length_cons, List.length_nil, s1, h8']
      refine ⟨fun _ => K D1 hfr, fun w => by omega⟩
    | succ L ih =>
      intro j D1 hj hfr
      have h8' : D1 b 8 = m := by rw [hfr _ _ (by omega)]; exact h8
      obtain ⟨x1, x2, x3, x4⟩ := hD.2 j (by omega)
      have c1 := cnt j
      have c2 := vst_fst (fun i => zF F n i ((av : Rat) / (((2 ^ bits : Nat) : Int) : Rat))) j
      have step := show vst (fun i => zF F n i ((av : Rat) / (((2 ^ bits : Nat) : Int) : Rat))) (j + 1) = (if sgr (zF F n j ((av : Rat) / (((2 ^ bits : Nat) : Int) : Rat))) = 0 then vst (fun i => zF F n i ((av : Rat) / (((2 ^ bits : Nat) : Int) : Rat))) j else (sgr (zF F n j ((av : Rat) / (((2 ^ bits : Nat) : Int) : Rat))), (vst (fun i => zF F n i ((av : Rat) / (((2 ^ bits : Nat) : Int) : Rat))) j).2 + if (vst (fun i => zF F n i ((av : Rat) / (((2 ^ bits : Nat) : Int) : Rat))) j).1 = -sgr (zF F n j ((av : Rat) / (((2 ^ bits : Nat) : Int) : Rat))) then 1 else 0)) from rfl
      have hsc := sgr_cases (zF F n j ((av : Rat) / (((2 ^ bits : Nat) : Int) : Rat)))
      refine wp_in ?_
      simp only [P_X8_changes, i_kil, i_icon, i_lcon, i_null, i_loadI, i_loadL, i_loadR, i_istore, i_lstore, i_astore, i_iinc, i_dup, i_dup2, i_pop, i_iadd, i_isub, i_imul, i_idiv, i_irem, i_ineg, i_iand, i_ior, i_ishl, i_ishr, i_lxor, i_ladd, i_lsub, i_lmul, i_ldiv, i_lrem, i_lneg, i_lshl, i_lcmp, i_i2l, i_l2i, i_i2b, i_i2s, i_ifeq, i_ifne, i_iflt, i_ifge, i_ifgt, i_ifle, i_cmpeq, i_cmpne, i_cmplt, i_cmpge, i_cmpgt, i_cmple, i_acmpeq, i_acmpne, i_ifnull, i_ifnonnull, i_getI, i_getR, i_putI, i_putZ, i_putR, i_ald, i_ldL, i_ldR, i_ast, i_stL, i_stR, i_alen, i_new, i_newa, i_iret, i_zret, i_lret, i_aret, i_vret, i_raise, i_throw, i_recv, i_objinit, i_tsw3, lget, lset, lput1, lput2, lkil, ltrim, largs, isL, takev, dropv, nthv, pushO, catv, gd, true_and, and_true, Option.some.injEq, Prod.mk.injEq, exists_eq_left', if_true, if_false, reduceCtorEq, Bool.false_eq_true, lcmp_ge, lcmp_lt, lcmp_le, lcmp_gt, lcmp_eq, true_or, or_true, not_true_eq_false, not_false_eq_true, false_implies, true_implies, List.length_cons, List.length_nil, s1, h8']
      repeat (first | refine ⟨in_small (by omega) (by omega), ?_⟩ | (show (_ → _) ∧ (_ → _); first | refine ⟨by omega, fun _ => ?_⟩ | refine ⟨fun _ => ?_, by omega⟩) | refine ⟨by omega, ?_⟩ | refine ⟨⟨_, rfl, by assumption⟩, ?_⟩ | refine ⟨okT_I _, ?_⟩ | refine ⟨okT_S (by omega) (by omega), ?_⟩ | refine ⟨okT_B (by omega) (by omega), ?_⟩ | refine call0 (gd_of rfl) ?_)
      refine sp_X8_signAt (f := F j) (d := n j) (av := av) hS (by omega) (by omega) (by rw [hfr _ _ (by omega)]; exact x1) (fun k hk => (x4 k hk).congr (fun i => hfr _ i (by unfold cw; omega)) fun i => hfr _ i (by unfold cw; omega)) (hM j (by omega)) hA hAb (ha.congr (fun i => hfr _ i (by omega)) fun i => hfr _ i (by omega)) hab hbits fun D2 g1 => ?_
      rw [show sgr (zp (F j) (n j + 1) ((av : Rat) / (((2 ^ bits : Nat) : Int) : Rat))) = sgr (zF F n j ((av : Rat) / (((2 ^ bits : Nat) : Int) : Rat))) from rfl]
      have g2 : sgO b D D2 := fun c i c1 => by rw [g1 c i c1]; exact hfr c i c1
      have hih := ih (j + 1) D2 (by omega) g2
      rw [step] at hih
      generalize vst (fun i => zF F n i ((av : Rat) / (((2 ^ bits : Nat) : Int) : Rat))) j = V at *
      generalize sgr (zF F n j ((av : Rat) / (((2 ^ bits : Nat) : Int) : Rat))) = s at *
      simp only [P_X8_changes, i_kil, i_icon, i_lcon, i_null, i_loadI, i_loadL, i_loadR, i_istore, i_lstore, i_astore, i_iinc, i_dup, i_dup2, i_pop, i_iadd, i_isub, i_imul, i_idiv, i_irem, i_ineg, i_iand, i_ior, i_ishl, i_ishr, i_lxor, i_ladd, i_lsub, i_lmul, i_ldiv, i_lrem, i_lneg, i_lshl, i_lcmp, i_i2l, i_l2i, i_i2b, i_i2s, i_ifeq, i_ifne, i_iflt, i_ifge, i_ifgt, i_ifle, i_cmpeq, i_cmpne, i_cmplt, i_cmpge, i_cmpgt, i_cmple, i_acmpeq, i_acmpne, i_ifnull, i_ifnonnull, i_getI, i_getR, i_putI, i_putZ, i_putR, i_ald, i_ldL, i_ldR, i_ast, i_stL, i_stR, i_alen, i_new, i_newa, i_iret, i_zret, i_lret, i_aret, i_vret, i_raise, i_throw, i_recv, i_objinit, i_tsw3, lget, lset, lput1, lput2, lkil, ltrim, largs, isL, takev, dropv, nthv, pushO, catv, gd, true_and, and_true, Option.some.injEq, Prod.mk.injEq, exists_eq_left', if_true, if_false, reduceCtorEq, Bool.false_eq_true, lcmp_ge, lcmp_lt, lcmp_le, lcmp_gt, lcmp_eq, true_or, or_true, not_true_eq_false, not_false_eq_true, false_implies, true_implies, List.length_cons, List.length_nil]
      refine ⟨fun w => ?_, fun w => ?_⟩
      · rw [if_neg w] at hih
        refine ⟨in_small (by omega) (by omega), fun w2 => ?_, fun w2 => ?_⟩
        · rw [if_neg w2] at hih
          refine wp_in ?_
          simp only [P_X8_changes, i_kil, i_icon, i_lcon, i_null, i_loadI, i_loadL, i_loadR, i_istore, i_lstore, i_astore, i_iinc, i_dup, i_dup2, i_pop, i_iadd, i_isub, i_imul, i_idiv, i_irem, i_ineg, i_iand, i_ior, i_ishl, i_ishr, i_lxor, i_ladd, i_lsub, i_lmul, i_ldiv, i_lrem, i_lneg, i_lshl, i_lcmp, i_i2l, i_l2i, i_i2b, i_i2s, i_ifeq, i_ifne, i_iflt, i_ifge, i_ifgt, i_ifle, i_cmpeq, i_cmpne, i_cmplt, i_cmpge, i_cmpgt, i_cmple, i_acmpeq, i_acmpne, i_ifnull, i_ifnonnull, i_getI, i_getR, i_putI, i_putZ, i_putR, i_ald, i_ldL, i_ldR, i_ast, i_stL, i_stR, i_alen, i_new, i_newa, i_iret, i_zret, i_lret, i_aret, i_vret, i_raise, i_throw, i_recv, i_objinit, i_tsw3, lget, lset, lput1, lput2, lkil, ltrim, largs, isL, takev, dropv, nthv, pushO, catv, gd, true_and, and_true, Option.some.injEq, Prod.mk.injEq, exists_eq_left', if_true, if_false, reduceCtorEq, Bool.false_eq_true, lcmp_ge, lcmp_lt, lcmp_le, lcmp_gt, lcmp_eq, true_or, or_true, not_true_eq_false, not_false_eq_true, false_implies, true_implies, List.length_cons, List.length_nil]
          refine wp_in ?_
          simp only [P_X8_changes, i_kil, i_icon, i_lcon, i_null, i_loadI, i_loadL, i_loadR, i_istore, i_lstore, i_astore, i_iinc, i_dup, i_dup2, i_pop, i_iadd, i_isub, i_imul, i_idiv, i_irem, i_ineg, i_iand, i_ior, i_ishl, i_ishr, i_lxor, i_ladd, i_lsub, i_lmul, i_ldiv, i_lrem, i_lneg, i_lshl, i_lcmp, i_i2l, i_l2i, i_i2b, i_i2s, i_ifeq, i_ifne, i_iflt, i_ifge, i_ifgt, i_ifle, i_cmpeq, i_cmpne, i_cmplt, i_cmpge, i_cmpgt, i_cmple, i_acmpeq, i_acmpne, i_ifnull, i_ifnonnull, i_getI, i_getR, i_putI, i_putZ, i_putR, i_ald, i_ldL, i_ldR, i_ast, i_stL, i_stR, i_alen, i_new, i_newa, i_iret, i_zret, i_lret, i_aret, i_vret, i_raise, i_throw, i_recv, i_objinit, i_tsw3, lget, lset, lput1, lput2, lkil, ltrim, largs, isL, takev, dropv, nthv, pushO, catv, gd, true_and, and_true, Option.some.injEq, Prod.mk.injEq, exists_eq_left', if_true, if_false, reduceCtorEq, Bool.false_eq_true, lcmp_ge, lcmp_lt, lcmp_le, lcmp_gt, lcmp_eq, true_or, or_true, not_true_eq_false, not_false_eq_true, false_implies, true_implies, List.length_cons, List.length_nil]
          refine ⟨in_small (by omega) (by omega), ?_⟩
          rw [Int.add_zero] at hih
          exact hih
        · rw [if_pos w2] at hih
          refine ⟨in_small (by omega) (by omega), ?_⟩
          refine wp_in ?_
          simp only [P_X8_changes, i_kil, i_icon, i_lcon, i_null, i_loadI, i_loadL, i_loadR, i_istore, i_lstore, i_astore, i_iinc, i_dup, i_dup2, i_pop, i_iadd, i_isub, i_imul, i_idiv, i_irem, i_ineg, i_iand, i_ior, i_ishl, i_ishr, i_lxor, i_ladd, i_lsub, i_lmul, i_ldiv, i_lrem, i_lneg, i_lshl, i_lcmp, i_i2l, i_l2i, i_i2b, i_i2s, i_ifeq, i_ifne, i_iflt, i_ifge, i_ifgt, i_ifle, i_cmpeq, i_cmpne, i_cmplt, i_cmpge, i_cmpgt, i_cmple, i_acmpeq, i_acmpne, i_ifnull, i_ifnonnull, i_getI, i_getR, i_putI, i_putZ, i_putR, i_ald, i_ldL, i_ldR, i_ast, i_stL, i_stR, i_alen, i_new, i_newa, i_iret, i_zret, i_lret, i_aret, i_vret, i_raise, i_throw, i_recv, i_objinit, i_tsw3, lget, lset, lput1, lput2, lkil, ltrim, largs, isL, takev, dropv, nthv, pushO, catv, gd, true_and, and_true, Option.some.injEq, Prod.mk.injEq, exists_eq_left', if_true, if_false, reduceCtorEq, Bool.false_eq_true, lcmp_ge, lcmp_lt, lcmp_le, lcmp_gt, lcmp_eq, true_or, or_true, not_true_eq_false, not_false_eq_true, false_implies, true_implies, List.length_cons, List.length_nil]
          refine wp_in ?_
          simp only [P_X8_changes, i_kil, i_icon, i_lcon, i_null, i_loadI, i_loadL, i_loadR, i_istore, i_lstore, i_astore, i_iinc, i_dup, i_dup2, i_pop, i_iadd, i_isub, i_imul, i_idiv, i_irem, i_ineg, i_iand, i_ior, i_ishl, i_ishr, i_lxor, i_ladd, i_lsub, i_lmul, i_ldiv, i_lrem, i_lneg, i_lshl, i_lcmp, i_i2l, i_l2i, i_i2b, i_i2s, i_ifeq, i_ifne, i_iflt, i_ifge, i_ifgt, i_ifle, i_cmpeq, i_cmpne, i_cmplt, i_cmpge, i_cmpgt, i_cmple, i_acmpeq, i_acmpne, i_ifnull, i_ifnonnull, i_getI, i_getR, i_putI, i_putZ, i_putR, i_ald, i_ldL, i_ldR, i_ast, i_stL, i_stR, i_alen, i_new, i_newa, i_iret, i_zret, i_lret, i_aret, i_vret, i_raise, i_throw, i_recv, i_objinit, i_tsw3, lget, lset, lput1, lput2, lkil, ltrim, largs, isL, takev, dropv, nthv, pushO, catv, gd, true_and, and_true, Option.some.injEq, Prod.mk.injEq, exists_eq_left', if_true, if_false, reduceCtorEq, Bool.false_eq_true, lcmp_ge, lcmp_lt, lcmp_le, lcmp_gt, lcmp_eq, true_or, or_true, not_true_eq_false, not_false_eq_true, false_implies, true_implies, List.length_cons, List.length_nil]
          refine ⟨in_small (by omega) (by omega), ?_⟩
          exact hih
      · rw [if_pos w] at hih
        refine wp_in ?_
        simp only [P_X8_changes, i_kil, i_icon, i_lcon, i_null, i_loadI, i_loadL, i_loadR, i_istore, i_lstore, i_astore, i_iinc, i_dup, i_dup2, i_pop, i_iadd, i_isub, i_imul, i_idiv, i_irem, i_ineg, i_iand, i_ior, i_ishl, i_ishr, i_lxor, i_ladd, i_lsub, i_lmul, i_ldiv, i_lrem, i_lneg, i_lshl, i_lcmp, i_i2l, i_l2i, i_i2b, i_i2s, i_ifeq, i_ifne, i_iflt, i_ifge, i_ifgt, i_ifle, i_cmpeq, i_cmpne, i_cmplt, i_cmpge, i_cmpgt, i_cmple, i_acmpeq, i_acmpne, i_ifnull, i_ifnonnull, i_getI, i_getR, i_putI, i_putZ, i_putR, i_ald, i_ldL, i_ldR, i_ast, i_stL, i_stR, i_alen, i_new, i_newa, i_iret, i_zret, i_lret, i_aret, i_vret, i_raise, i_throw, i_recv, i_objinit, i_tsw3, lget, lset, lput1, lput2, lkil, ltrim, largs, isL, takev, dropv, nthv, pushO, catv, gd, true_and, and_true, Option.some.injEq, Prod.mk.injEq, exists_eq_left', if_true, if_false, reduceCtorEq, Bool.false_eq_true, lcmp_ge, lcmp_lt, lcmp_le, lcmp_gt, lcmp_eq, true_or, or_true, not_true_eq_false, not_false_eq_true, false_implies, true_implies, List.length_cons, List.length_nil]
        refine ⟨in_small (by omega) (by omega), ?_⟩
        exact hih
  refine wp_in ?_
  simp only [P_X8_changes, i_kil, i_icon, i_lcon, i_null, i_loadI, i_loadL, i_loadR, i_istore, i_lstore, i_astore, i_iinc, i_dup, i_dup2, i_pop, i_iadd, i_isub, i_imul, i_idiv, i_irem, i_ineg, i_iand, i_ior, i_ishl, i_ishr, i_lxor, i_ladd, i_lsub, i_lmul, i_ldiv, i_lrem, i_lneg, i_lshl, i_lcmp, i_i2l, i_l2i, i_i2b, i_i2s, i_ifeq, i_ifne, i_iflt, i_ifge, i_ifgt, i_ifle, i_cmpeq, i_cmpne, i_cmplt, i_cmpge, i_cmpgt, i_cmple, i_acmpeq, i_acmpne, i_ifnull, i_ifnonnull, i_getI, i_getR, i_putI, i_putZ, i_putR, i_ald, i_ldL, i_ldR, i_ast, i_stL, i_stR, i_alen, i_new, i_newa, i_iret, i_zret, i_lret, i_aret, i_vret, i_raise, i_throw, i_recv, i_objinit, i_tsw3, lget, lset, lput1, lput2, lkil, ltrim, largs, isL, takev, dropv, nthv, pushO, catv, gd, true_and, and_true, Option.some.injEq, Prod.mk.injEq, exists_eq_left', if_true, if_false, reduceCtorEq, Bool.false_eq_true, lcmp_ge, lcmp_lt, lcmp_le, lcmp_gt, lcmp_eq, true_or, or_true, not_true_eq_false, not_false_eq_true, false_implies, true_implies, List.length_cons, List.length_nil]
  exact loop m 0 D (by omega) (fun _ _ _ => rfl)
end SIGN
