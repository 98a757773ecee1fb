/-! chains of the component: what two have in common -/
-- needs: d8.chcomm
set_option maxRecDepth 100000
set_option linter.unusedVariables false
section COMM2
variable {b o : Nat}
set_option maxHeartbeats 4000000 in
theorem sp_X8_common {E : Ex} {B : Nat × Nat} {S : Stat} {D : Dat} {N1 N2 da db : Nat} {fa fb : Nat → Int} (hS : chS S b o) (hN1 : S.1 N1 = some (100, 9)) (hN1b : N1 < b ∨ b + 219 < N1) (hN2 : S.1 N2 = some (100, 9)) (hN2b : N2 < b ∨ b + 219 < N2) (hda : da ≤ 8) (hdb : db ≤ 8) (hfa : ∀ k : Nat, k ≤ da → D N1 k = fa k) (hfb : ∀ k : Nat, k ≤ db → D N2 k = fb k) (hba : ∀ k, k ≤ da → (fa k).natAbs ≤ 99) (hbb : ∀ k, k ≤ db → (fb k).natAbs ≤ 99) (ha0 : fa da ≠ 0) (hb0 : fb db ≠ 0)
    (K : ∀ D' : Dat, chF b o D D' → chC (zp fa (da + 1)) (zp fb (db + 1)) D' b → E (.inl none) B S D') : Wp P_X8_common E 0 [some (aR b), some (aR N1), some (aI da), some (aR N2), some (aI db)] [] B S D := by
  have hS0 := hS
  obtain ⟨ho, s1, s2, s3, s4, s5, s6, s7, s8, s9, s10, s11, s12, s13, s14, s15, s16, s17, s18, s19, s20⟩ := hS
  have z65 := z2_65
  have l65 := lt_65
  have l10 := lt_10
  have z68 : 99 ≤ 2 ^ 68 := Nat.le_trans z65 (pw_le2 (by decide))
  obtain ⟨r0, r0'⟩ := s5 0 (by omega)
  obtain ⟨r1, r1'⟩ := s5 1 (by omega)
  have r0i : S.2.1 (b + 1) (0 : Int) = some (b + 2 + 0) := r0
  have r1i : S.2.1 (b + 1) (1 : Int) = some (b + 2 + 1) := r1
  -- what is in common, and its own chain
  have tail : ∀ (D1 : Dat) (F : Nat → Nat → Int) (n : Nat → Nat) (m : Nat), chF b o D D1 → chD D1 b F n m → chG fa (brow fb db) da db F n m → Wp P_X8_common E 2 [some (aR b), none, none, none, none, some (aI (n (m - 1))), some (aI 0)] [] B S D1 := by
    intro D1 F n m hF1 hD1 hG
    have hm := hG.1
    have hm10 := hG.2.1
    obtain ⟨d1, d2, d3, d4⟩ := hD1.2 (m - 1) (by omega)
    have d8 := hD1.1
    have em : (m : Int) - 1 = ((m - 1 : Nat) : Int) := by omega
    obtain ⟨rm, rm'⟩ := s5 (m - 1) (by omega)
    have hpr : zprim (F (m - 1)) (n (m - 1) + 1) := by
      rcases Nat.lt_or_ge 2 m with w | w
      · exact hG.2.2.2.2.2.2.2.2 (m - 1) (by omega) (by omega)
      · have : m = 2 := by omega
        subst this
        show zprim (F 1) (n 1 + 1)
        rw [hG.2.2.2.1, hG.2.2.2.2.2.1]
        exact brow_prim hb0
    obtain ⟨⟨U, V, hU, hV, eUV⟩, ⟨u1, hu1, e1⟩, u2, hu2, e2⟩ := hG.2.2.2.2.2.2.1.last hG.2.2.2.2.2.2.2.1 hm
    have eF0 : zF F n 0 = zp fa (da + 1) := by unfold zF; rw [hG.2.2.1, hG.2.2.2.2.1]
    have eF1 : zF F n 1 = zp (brow fb db) (db + 1) := by unfold zF; rw [hG.2.2.2.1, hG.2.2.2.2.2.1]
    rw [eF0] at e1 eUV
    rw [eF1] at e2 eUV
    have g1 : (0 : Rat) < (((gcn fb (db + 1) : Nat) : Int) : Rat) := Rat.intCast_pos.mpr (by have := gcn_pos (db + 1) db (by omega) hb0; omega)
    obtain ⟨i1, i2⟩ := pos_inv g1
    have com : ∃ c1 c2 U V : pf, PP c1 ∧ PP c2 ∧ PP U ∧ PP V ∧ (∀ z, zp fa (da + 1) z = c1 z * zF F n (m - 1) z) ∧ (∀ z, zp fb (db + 1) z = c2 z * zF F n (m - 1) z) ∧ ∀ z, zF F n (m - 1) z = U z * zp fa (da + 1) z + V z * zp fb (db + 1) z := by
      refine ⟨u1, fun z => (((gcn fb (db + 1) : Nat) : Int) : Rat) * u2 z, U, fun z => (((gcn fb (db + 1) : Nat) : Int) : Rat)⁻¹ * V z, hu1, hu2.smul _, hU, hV.smul _, e1, fun z => ?_, fun z => ?_⟩
      · rw [← brow_zp (f := fb) (d := db) z, e2 z]; grind
      · rw [eUV z, ← brow_zp (f := fb) (d := db) z]; grind
    -- its numbers are small
    have bG : ∀ k, k ≤ n (m - 1) → (F (m - 1) k).natAbs ≤ 2 ^ 65 := by
      obtain ⟨-, q, q1, q2, q3, q4⟩ := quo_ex hpr d3 ha0 ⟨u1, hu1, e1⟩
      refine fac_bd hda (by omega) ha0 hba fun t => ?_
      obtain ⟨z, hz⟩ := zp_int q t (da - n (m - 1) + 1)
      exact ⟨z, by rw [q3, hz]⟩
    have hqf : ∀ t : Int, ∃ z : Int, zp fa (da + 1) (t : Rat) = zp (F (m - 1)) (n (m - 1) + 1) (t : Rat) * (z : Rat) := fun t => by
      obtain ⟨-, q, q1, q2, q3, q4⟩ := quo_ex hpr d3 ha0 ⟨u1, hu1, e1⟩
      obtain ⟨z, hz⟩ := zp_int q t (da - n (m - 1) + 1)
      exact ⟨z, by rw [q3, hz]⟩
    have loop : ∀ (L j : Nat) (D2 : Dat), j + L = n (m - 1) + 1 → (∀ c i, (c < cw b 0 0 ∨ cw b 0 8 + 1 < c) → D2 c i = D1 c i) → (∀ k, k < j → wD 1 2 D2 (cw b 0 k) (F (m - 1) k)) → Wp P_X8_common E 2 [some (aR b), none, none, none, none, some (aI (n (m - 1))), some (aI j)] [] B S D2 := by
      intro L
      induction L with
      | succ L ih =>
        intro j D2 hj hfr hdone
        obtain ⟨t1, t2⟩ := s6 (m - 1) j (by omega) (by omega)
        obtain ⟨v1, v2⟩ := s6 0 j (by omega) (by omega)
        have v3 := v2.1
        have d8' : D2 b 8 = m := by rw [hfr _ _ (by unfold cw; omega)]; exact d8
        have lg : ((F (m - 1) j).natAbs : Int) < 1000000000 ^ 160 := Int.lt_of_lt_of_le (nat_pw (bG j (by omega)) l65) (pw_mono (by decide))
        have nb := cw_ne (b := b) (r := m - 1) (r' := 0) (k := j) (k' := j) (by omega) (by omega) (fun w => by omega)
        refine wp_in ?_
        simp only [P_X8_common, i_kil, i_icon, i_lcon, i_null, i_loadI, i_loadL, i_loadR, i_istore, i_lstore, i_astore, i_iinc, i_dup, i_dup2, i_pop, i_iadd, i_isub, i_imul, i_idiv, i_irem, i_ineg, i_iand, i_ior, i_ishl, i_ishr, i_lxor, i_ladd, i_lsub, i_lmul, i_ldiv, i_lrem, i_lneg, i_lshl, i_lcmp, i_i2l, i_l2i, i_i2b, i_i2s, i_ifeq, i_ifne, i_iflt, i_ifge, i_ifgt, i_ifle, i_cmpeq, i_cmpne, i_cmplt, i_cmpge, i_cmpgt, i_cmple, i_acmpeq, i_acmpne, i_ifnull, i_ifnonnull, i_getI, i_getR, i_putI, i_putZ, i_putR, i_ald, i_ldL, i_ldR, i_ast, i_stL, i_stR, i_alen, i_new, i_newa, i_iret, i_zret, i_lret, i_aret, i_vret, i_raise, i_throw, i_recv, i_objinit, i_tsw3, lget, lset, lput1, lput2, lkil, ltrim, largs, isL, takev, dropv, nthv, pushO, catv, gd, true_and, and_true, Option.some.injEq, Prod.mk.injEq, exists_eq_left', if_true, if_false, reduceCtorEq, Bool.false_eq_true, lcmp_ge, lcmp_lt, lcmp_le, lcmp_gt, lcmp_eq, true_or, or_true, not_true_eq_false, not_false_eq_true, false_implies, true_implies, List.length_cons, List.length_nil, s1, s3, s4, d8', em, r0i, r0', rm, rm', t1, v1]
        repeat (first | refine ⟨in_small (by omega) (by omega), ?_⟩ | (show (_ → _) ∧ (_ → _); first | refine ⟨by omega, fun _ => ?_⟩ | refine ⟨fun _ => ?_, by omega⟩) | refine ⟨by omega, ?_⟩ | refine ⟨⟨_, rfl, by assumption⟩, ?_⟩ | refine ⟨okT_I _, ?_⟩ | refine ⟨okT_S (by omega) (by omega), ?_⟩ | refine ⟨okT_B (by omega) (by omega), ?_⟩ | refine call0 (gd_of rfl) ?_)
        refine sp_X3_be v2 t2 (by omega) ((d4 j (by omega)).congr (fun i => hfr _ i ?_) fun i => hfr _ i ?_) lg lg (by decide) fun D3 g1 g2 => ?_
        · have := cw_ne (b := b) (r := m - 1) (r' := 0) (k := j) (k' := 8) (by omega) (by omega) (fun w => by omega)
          have := cw_ne (b := b) (r := m - 1) (r' := 0) (k := j) (k' := 0) (by omega) (by omega) (fun w => by omega)
          unfold cw at *; omega
        · have := cw_ne (b := b) (r := m - 1) (r' := 0) (k := j) (k' := 8) (by omega) (by omega) (fun w => by omega)
          have := cw_ne (b := b) (r := m - 1) (r' := 0) (k := j) (k' := 0) (by omega) (by omega) (fun w => by omega)
          unfold cw at *; omega
        simp only [P_X8_common, i_kil, i_icon, i_lcon, i_null, i_loadI, i_loadL, i_loadR, i_istore, i_lstore, i_astore, i_iinc, i_dup, i_dup2, i_pop, i_iadd, i_isub, i_imul, i_idiv, i_irem, i_ineg, i_iand, i_ior, i_ishl, i_ishr, i_lxor, i_ladd, i_lsub, i_lmul, i_ldiv, i_lrem, i_lneg, i_lshl, i_lcmp, i_i2l, i_l2i, i_i2b, i_i2s, i_ifeq, i_ifne, i_iflt, i_ifge, i_ifgt, i_ifle, i_cmpeq, i_cmpne, i_cmplt, i_cmpge, i_cmpgt, i_cmple, i_acmpeq, i_acmpne, i_ifnull, i_ifnonnull, i_getI, i_getR, i_putI, i_putZ, i_putR, i_ald, i_ldL, i_ldR, i_ast, i_stL, i_stR, i_alen, i_new, i_newa, i_iret, i_zret, i_lret, i_aret, i_vret, i_raise, i_throw, i_recv, i_objinit, i_tsw3, lget, lset, lput1, lput2, lkil, ltrim, largs, isL, takev, dropv, nthv, pushO, catv, gd, true_and, and_true, Option.some.injEq, Prod.mk.injEq, exists_eq_left', if_true, if_false, reduceCtorEq, Bool.false_eq_true, lcmp_ge, lcmp_lt, lcmp_le, lcmp_gt, lcmp_eq, true_or, or_true, not_true_eq_false, not_false_eq_true, false_implies, true_implies, List.length_cons, List.length_nil]
        repeat (first | refine ⟨in_small (by omega) (by omega), ?_⟩ | (show (_ → _) ∧ (_ → _); first | refine ⟨by omega, fun _ => ?_⟩ | refine ⟨fun _ => ?_, by omega⟩) | refine ⟨by omega, ?_⟩ | refine ⟨⟨_, rfl, by assumption⟩, ?_⟩ | refine ⟨okT_I _, ?_⟩ | refine ⟨okT_S (by omega) (by omega), ?_⟩ | refine ⟨okT_B (by omega) (by omega), ?_⟩ | refine call0 (gd_of rfl) ?_)
        refine ih (j + 1) D3 (by omega) (fun c i w1 => ?_) fun k hk => ?_
        · rw [g1 c i (by unfold cw at *; omega) (by unfold cw at *; omega)]; exact hfr c i w1
        · by_cases w : k = j
          · rw [w]; exact g2
          · have nb := cw_ne (b := b) (r := 0) (r' := 0) (k := k) (k' := j) (by omega) (by omega) (fun w2 => w w2.2)
            exact (hdone k (by omega)).congr (fun i => g1 _ i (by omega) (by omega)) fun i => g1 _ i (by omega) (by omega)
      | zero =>
        intro j D2 hj hfr hdone
        have hW2 : 1 ≤ n (m - 1) → chW (brow (F (m - 1)) (n (m - 1))) (brow (zder (brow (F (m - 1)) (n (m - 1)))) (n (m - 1) - 1)) (n (m - 1)) (n (m - 1) - 1) := fun w => by
          obtain ⟨us1, us2⟩ := two_sz (by omega) d3 w bG
          exact chW_of (by omega) (by omega) us1 us2
        refine wp_in ?_
        simp only [P_X8_common, i_kil, i_icon, i_lcon, i_null, i_loadI, i_loadL, i_loadR, i_istore, i_lstore, i_astore, i_iinc, i_dup, i_dup2, i_pop, i_iadd, i_isub, i_imul, i_idiv, i_irem, i_ineg, i_iand, i_ior, i_ishl, i_ishr, i_lxor, i_ladd, i_lsub, i_lmul, i_ldiv, i_lrem, i_lneg, i_lshl, i_lcmp, i_i2l, i_l2i, i_i2b, i_i2s, i_ifeq, i_ifne, i_iflt, i_ifge, i_ifgt, i_ifle, i_cmpeq, i_cmpne, i_cmplt, i_cmpge, i_cmpgt, i_cmple, i_acmpeq, i_acmpne, i_ifnull, i_ifnonnull, i_getI, i_getR, i_putI, i_putZ, i_putR, i_ald, i_ldL, i_ldR, i_ast, i_stL, i_stR, i_alen, i_new, i_newa, i_iret, i_zret, i_lret, i_aret, i_vret, i_raise, i_throw, i_recv, i_objinit, i_tsw3, lget, lset, lput1, lput2, lkil, ltrim, largs, isL, takev, dropv, nthv, pushO, catv, gd, true_and, and_true, Option.some.injEq, Prod.mk.injEq, exists_eq_left', if_true, if_false, reduceCtorEq, Bool.false_eq_true, lcmp_ge, lcmp_lt, lcmp_le, lcmp_gt, lcmp_eq, true_or, or_true, not_true_eq_false, not_false_eq_true, false_implies, true_implies, List.length_cons, List.length_nil, s1, s7, s8]
        repeat (first | refine ⟨in_small (by omega) (by omega), ?_⟩ | (show (_ → _) ∧ (_ → _); first | refine ⟨by omega, fun _ => ?_⟩ | refine ⟨fun _ => ?_, by omega⟩) | refine ⟨by omega, ?_⟩ | refine ⟨⟨_, rfl, by assumption⟩, ?_⟩ | refine ⟨okT_I _, ?_⟩ | refine ⟨okT_S (by omega) (by omega), ?_⟩ | refine ⟨okT_B (by omega) (by omega), ?_⟩ | refine call0 (gd_of rfl) ?_)
        repeat (first | refine ⟨in_small (by omega) (by omega), ?_⟩ | (show (_ → _) ∧ (_ → _); first | refine ⟨by omega, fun _ => ?_⟩ | refine ⟨fun _ => ?_, by omega⟩) | refine ⟨by omega, ?_⟩ | refine ⟨⟨_, rfl, by assumption⟩, ?_⟩ | refine ⟨okT_I _, ?_⟩ | refine ⟨okT_S (by omega) (by omega), ?_⟩ | refine ⟨okT_B (by omega) (by omega), ?_⟩ | refine call0 (gd_of rfl) ?_)
        have F2 : chF b o D (pmu D2 (b + 12) 0 (n (m - 1))) := fun c i w1 w2 => by
          simp only [pmu]; rw [if_neg (by omega), hfr c i (by unfold cw; omega)]; exact hF1 c i w1 w2
        refine sp_X8_run (p := 5) (f := F (m - 1)) (d := n (m - 1)) hS0 (by omega) (by simp only [pmu, and_self, if_true]) (fun k hk => (hdone k (by omega)).congr (fun i => ?_) fun i => ?_) d3 (fun k hk => nat_pw (bG k hk) l65) (by decide) hW2 (fun D3 w0 j1 j2 j3 j4 => ?_) fun D3 F' n' m' w1 j1 j2 j3 => ?_
        · simp only [pmu]; rw [if_neg (by unfold cw; omega)]
        · simp only [pmu]; rw [if_neg (by unfold cw; omega)]
        · -- a number alone
          have e10 : (1 : Int) - 1 = 0 := by decide
          simp only [P_X8_common, i_kil, i_icon, i_lcon, i_null, i_loadI, i_loadL, i_loadR, i_istore, i_lstore, i_astore, i_iinc, i_dup, i_dup2, i_pop, i_iadd, i_isub, i_imul, i_idiv, i_irem, i_ineg, i_iand, i_ior, i_ishl, i_ishr, i_lxor, i_ladd, i_lsub, i_lmul, i_ldiv, i_lrem, i_lneg, i_lshl, i_lcmp, i_i2l, i_l2i, i_i2b, i_i2s, i_ifeq, i_ifne, i_iflt, i_ifge, i_ifgt, i_ifle, i_cmpeq, i_cmpne, i_cmplt, i_cmpge, i_cmpgt, i_cmple, i_acmpeq, i_acmpne, i_ifnull, i_ifnonnull, i_getI, i_getR, i_putI, i_putZ, i_putR, i_ald, i_ldL, i_ldR, i_ast, i_stL, i_stR, i_alen, i_new, i_newa, i_iret, i_zret, i_lret, i_aret, i_vret, i_raise, i_throw, i_recv, i_objinit, i_tsw3, lget, lset, lput1, lput2, lkil, ltrim, largs, isL, takev, dropv, nthv, pushO, catv, gd, true_and, and_true, Option.some.injEq, Prod.mk.injEq, exists_eq_left', if_true, if_false, reduceCtorEq, Bool.false_eq_true, lcmp_ge, lcmp_lt, lcmp_le, lcmp_gt, lcmp_eq, true_or, or_true, not_true_eq_false, not_false_eq_true, false_implies, true_implies, List.length_cons, List.length_nil, s1, s7, s8, j2, e10, j3]
          repeat (first | refine ⟨in_small (by omega) (by omega), ?_⟩ | (show (_ → _) ∧ (_ → _); first | refine ⟨by omega, fun _ => ?_⟩ | refine ⟨fun _ => ?_, by omega⟩) | refine ⟨by omega, ?_⟩ | refine ⟨⟨_, rfl, by assumption⟩, ?_⟩ | refine ⟨okT_I _, ?_⟩ | refine ⟨okT_S (by omega) (by omega), ?_⟩ | refine ⟨okT_B (by omega) (by omega), ?_⟩ | refine call0 (gd_of rfl) ?_)
          have hb1 : brow (F (m - 1)) 0 0 ≠ 0 := brow_top (by have := d3; rwa [w0] at this)
          have ez : ∀ x, zF (fun _ => brow (F (m - 1)) 0) (fun _ => 0) 0 x = ((brow (F (m - 1)) 0 0 : Int) : Rat) := fun x => by
            show (0 : Rat) + ((brow (F (m - 1)) 0 0 : Int) : Rat) * x ^ 0 = _
            rw [Rat.pow_zero]; grind
          have ez2 : ∀ x, zF F n (m - 1) x = ((F (m - 1) 0 : Int) : Rat) := fun x => by
            unfold zF
            rw [w0]
            show (0 : Rat) + ((F (m - 1) 0 : Int) : Rat) * x ^ 0 = _
            rw [Rat.pow_zero]; grind
          have hbr : ((brow (F (m - 1)) 0 0 : Int) : Rat) ≠ 0 := fun w => hb1 (Rat.intCast_inj.mp (w.trans Rat.intCast_zero.symm))
          have hbr2 : ((F (m - 1) 0 : Int) : Rat) ≠ 0 := fun w => by
            have := d3
            rw [w0] at this
            exact this (Rat.intCast_inj.mp (w.trans Rat.intCast_zero.symm))
          refine K D3 (fun c i c1 c2 => by rw [j1 c i c1 c2]; exact F2 c i c1 c2) ⟨fun _ => brow (F (m - 1)) 0, fun _ => 0, 1, zF F n (m - 1), Nat.le_refl _, by omega, ⟨j2, fun r hr => ?_⟩, fun i hi k hk => ?_, ⟨⟨Nat.le_refl _, fun i hi => zp_pp _ _, fun i a1 a2 => by omega, _, hbr, ez⟩, 1, by decide, fun w => by omega⟩, shr.const hbr hbr2 ez ez2, com⟩
          · have : r = 0 := by omega
            subst this
            exact ⟨j3, by decide, hb1, j4⟩
          · have hk0 : k ≤ 0 := hk
            have : k = 0 := by omega
            subst this
            refine Nat.le_trans (brow_abs (Nat.le_refl _) (by have := d3; rwa [w0] at this)) (Nat.le_trans (bG 0 (by omega)) (pw_le2 (by unfold szC; omega)))
        · -- its own chain
          have hm' := j3.1
          have hm10' := j3.2.1
          obtain ⟨us1, us2⟩ := two_sz (by omega) d3 w1 bG
          obtain ⟨d1', d2', d3', d4'⟩ := j2.2 (m' - 1) (by omega)
          have em' : (m' : Int) - 1 = ((m' - 1 : Nat) : Int) := by omega
          have d8' := j2.1
          obtain ⟨rm2, rm2'⟩ := s5 (m' - 1) (by omega)
          have F3 : chF b o D D3 := fun c i c1 c2 => by rw [j1 c i c1 c2]; exact F2 c i c1 c2
          simp only [P_X8_common, i_kil, i_icon, i_lcon, i_null, i_loadI, i_loadL, i_loadR, i_istore, i_lstore, i_astore, i_iinc, i_dup, i_dup2, i_pop, i_iadd, i_isub, i_imul, i_idiv, i_irem, i_ineg, i_iand, i_ior, i_ishl, i_ishr, i_lxor, i_ladd, i_lsub, i_lmul, i_ldiv, i_lrem, i_lneg, i_lshl, i_lcmp, i_i2l, i_l2i, i_i2b, i_i2s, i_ifeq, i_ifne, i_iflt, i_ifge, i_ifgt, i_ifle, i_cmpeq, i_cmpne, i_cmplt, i_cmpge, i_cmpgt, i_cmple, i_acmpeq, i_acmpne, i_ifnull, i_ifnonnull, i_getI, i_getR, i_putI, i_putZ, i_putR, i_ald, i_ldL, i_ldR, i_ast, i_stL, i_stR, i_alen, i_new, i_newa, i_iret, i_zret, i_lret, i_aret, i_vret, i_raise, i_throw, i_recv, i_objinit, i_tsw3, lget, lset, lput1, lput2, lkil, ltrim, largs, isL, takev, dropv, nthv, pushO, catv, gd, true_and, and_true, Option.some.injEq, Prod.mk.injEq, exists_eq_left', if_true, if_false, reduceCtorEq, Bool.false_eq_true, lcmp_ge, lcmp_lt, lcmp_le, lcmp_gt, lcmp_eq, true_or, or_true, not_true_eq_false, not_false_eq_true, false_implies, true_implies, List.length_cons, List.length_nil, s1, s7, s8, d8', em', d1']
          repeat (first | refine ⟨in_small (by omega) (by omega), ?_⟩ | (show (_ → _) ∧ (_ → _); first | refine ⟨by omega, fun _ => ?_⟩ | refine ⟨fun _ => ?_, by omega⟩) | refine ⟨by omega, ?_⟩ | refine ⟨⟨_, rfl, by assumption⟩, ?_⟩ | refine ⟨okT_I _, ?_⟩ | refine ⟨okT_S (by omega) (by omega), ?_⟩ | refine ⟨okT_B (by omega) (by omega), ?_⟩ | refine call0 (gd_of rfl) ?_)
          refine ⟨fun w => ?_, fun w => ?_⟩
          · obtain ⟨e1', e2', q, q1, q2, q3, q4, q5⟩ := j3.over w1 d3 fun i hi => (j2.2 i hi).2.2.1
            have gq : ∀ (h1 h2 : Nat → Int) (a1 a2 : Nat), (∀ x, zp (brow (F (m - 1)) (n (m - 1))) (n (m - 1) + 1) x = zp h1 a1 x * zp h2 a2 x) → ∀ t : Int, ∃ z : Int, zp fa (da + 1) (t : Rat) = zp h1 a1 (t : Rat) * (z : Rat) := fun h1 h2 a1 a2 hx t => by
              obtain ⟨z, hz⟩ := zp_int h2 t a2
              obtain ⟨y, hy⟩ := hqf t
              refine ⟨((gcn (F (m - 1)) (n (m - 1) + 1) : Nat) : Int) * z * y, ?_⟩
              rw [hy, ← brow_zp, hx, hz, Rat.intCast_mul, Rat.intCast_mul]; grind
            have bg := fac_bd hda (by omega) ha0 hba (h := F' (m' - 1)) (e := n' (m' - 1)) (gq (F' (m' - 1)) q (n' (m' - 1) + 1) (n (m - 1) - n' (m' - 1) + 1) q3)
            have bq := fac_bd hda (by omega) ha0 hba (h := q) (e := n (m - 1) - n' (m' - 1)) (gq q (F' (m' - 1)) (n (m - 1) - n' (m' - 1) + 1) (n' (m' - 1) + 1) fun x => by rw [q3 x, Rat.mul_comm])
            obtain ⟨x1, x2, x3, x4⟩ := j2.2 0 (by omega)
            have en0 : n' 0 = n (m - 1) := j3.2.2.2.2.1
            have eF0' : F' 0 = brow (F (m - 1)) (n (m - 1)) := j3.2.2.1
            rw [en0] at x1 x4
            rw [eF0'] at x4
            have loop3 : ∀ (L j : Nat) (D4 : Dat), j + L = n' (m' - 1) + 1 → (∀ c i, (c < clw b 0 ∨ clw b 8 + 1 < c) → D4 c i = D3 c i) → (∀ k, k < j → wD 1 2 D4 (clw b k) (F' (m' - 1) k)) → Wp P_X8_common E 3 [some (aR b), none, none, none, none, none, some (aI (n' (m' - 1))), some (aI j)] [] B S D4 := by
              intro L
              induction L with
              | zero =>
                intro j D4 hj hfr hdone
                refine wp_in ?_
                simp only [P_X8_common, i_kil, i_icon, i_lcon, i_null, i_loadI, i_loadL, i_loadR, i_istore, i_lstore, i_astore, i_iinc, i_dup, i_dup2, i_pop, i_iadd, i_isub, i_imul, i_idiv, i_irem, i_ineg, i_iand, i_ior, i_ishl, i_ishr, i_lxor, i_ladd, i_lsub, i_lmul, i_ldiv, i_lrem, i_lneg, i_lshl, i_lcmp, i_i2l, i_l2i, i_i2b, i_i2s, i_ifeq, i_ifne, i_iflt, i_ifge, i_ifgt, i_ifle, i_cmpeq, i_cmpne, i_cmplt, i_cmpge, i_cmpgt, i_cmple, i_acmpeq, i_acmpne, i_ifnull, i_ifnonnull, i_getI, i_getR, i_putI, i_putZ, i_putR, i_ald, i_ldL, i_ldR, i_ast, i_stL, i_stR, i_alen, i_new, i_newa, i_iret, i_zret, i_lret, i_aret, i_vret, i_raise, i_throw, i_recv, i_objinit, i_tsw3, lget, lset, lput1, lput2, lkil, ltrim, largs, isL, takev, dropv, nthv, pushO, catv, gd, true_and, and_true, Option.some.injEq, Prod.mk.injEq, exists_eq_left', if_true, if_false, reduceCtorEq, Bool.false_eq_true, lcmp_ge, lcmp_lt, lcmp_le, lcmp_gt, lcmp_eq, true_or, or_true, not_true_eq_false, not_false_eq_true, false_implies, true_implies, List.length_cons, List.length_nil, s1]
                repeat (first | refine ⟨in_small (by omega) (by omega), ?_⟩ | (show (_ → _) ∧ (_ → _); first | refine ⟨by omega, fun _ => ?_⟩ | refine ⟨fun _ => ?_, by omega⟩) | refine ⟨by omega, ?_⟩ | refine ⟨⟨_, rfl, by assumption⟩, ?_⟩ | refine ⟨okT_I _, ?_⟩ | refine ⟨okT_S (by omega) (by omega), ?_⟩ | refine ⟨okT_B (by omega) (by omega), ?_⟩ | refine call0 (gd_of rfl) ?_)
                refine sp_X8_without (f := brow (F (m - 1)) (n (m - 1))) (g := F' (m' - 1)) (h := q) (G := 2 ^ 65) (H := 2 ^ 65) (p := 5) (d := n (m - 1)) hS0 (by omega) (by omega) (by rw [hfr _ _ (by unfold clw; omega)]; exact x1) (fun k hk => (x4 k hk).congr (fun i => hfr _ i (by unfold cw clw; omega)) fun i => hfr _ i (by unfold cw clw; omega)) (fun k hk => hdone k (by omega)) d3' q1 q4 bg bq l65 l65 l10 (by decide) fun D5 i1 i2 i3 => ?_
                simp only [P_X8_common, i_kil, i_icon, i_lcon, i_null, i_loadI, i_loadL, i_loadR, i_istore, i_lstore, i_astore, i_iinc, i_dup, i_dup2, i_pop, i_iadd, i_isub, i_imul, i_idiv, i_irem, i_ineg, i_iand, i_ior, i_ishl, i_ishr, i_lxor, i_ladd, i_lsub, i_lmul, i_ldiv, i_lrem, i_lneg, i_lshl, i_lcmp, i_i2l, i_l2i, i_i2b, i_i2s, i_ifeq, i_ifne, i_iflt, i_ifge, i_ifgt, i_ifle, i_cmpeq, i_cmpne, i_cmplt, i_cmpge, i_cmpgt, i_cmple, i_acmpeq, i_acmpne, i_ifnull, i_ifnonnull, i_getI, i_getR, i_putI, i_putZ, i_putR, i_ald, i_ldL, i_ldR, i_ast, i_stL, i_stR, i_alen, i_new, i_newa, i_iret, i_zret, i_lret, i_aret, i_vret, i_raise, i_throw, i_recv, i_objinit, i_tsw3, lget, lset, lput1, lput2, lkil, ltrim, largs, isL, takev, dropv, nthv, pushO, catv, gd, true_and, and_true, Option.some.injEq, Prod.mk.injEq, exists_eq_left', if_true, if_false, reduceCtorEq, Bool.false_eq_true, lcmp_ge, lcmp_lt, lcmp_le, lcmp_gt, lcmp_eq, true_or, or_true, not_true_eq_false, not_false_eq_true, false_implies, true_implies, List.length_cons, List.length_nil, s1]
                repeat (first | refine ⟨in_small (by omega) (by omega), ?_⟩ | (show (_ → _) ∧ (_ → _); first | refine ⟨by omega, fun _ => ?_⟩ | refine ⟨fun _ => ?_, by omega⟩) | refine ⟨by omega, ?_⟩ | refine ⟨⟨_, rfl, by assumption⟩, ?_⟩ | refine ⟨okT_I _, ?_⟩ | refine ⟨okT_S (by omega) (by omega), ?_⟩ | refine ⟨okT_B (by omega) (by omega), ?_⟩ | refine call0 (gd_of rfl) ?_)
                obtain ⟨us1, us2⟩ := two_sz (f := q) (d := n (m - 1) - n' (m' - 1)) (by omega) q2 (by omega) bq
                refine sp_X8_run (p := 5) (f := q) (d := n (m - 1) - n' (m' - 1)) hS0 (by omega) i2 i3 q2 (fun k hk => nat_pw (bq k hk) l65) (by decide) (fun _ => chW_of (by omega) (by omega) us1 us2) (fun D5 w _ _ _ _ => by omega) fun D6 F2' n2' m2' _ k1 k2 k3 => ?_
                simp only [P_X8_common, i_kil, i_icon, i_lcon, i_null, i_loadI, i_loadL, i_loadR, i_istore, i_lstore, i_astore, i_iinc, i_dup, i_dup2, i_pop, i_iadd, i_isub, i_imul, i_idiv, i_irem, i_ineg, i_iand, i_ior, i_ishl, i_ishr, i_lxor, i_ladd, i_lsub, i_lmul, i_ldiv, i_lrem, i_lneg, i_lshl, i_lcmp, i_i2l, i_l2i, i_i2b, i_i2s, i_ifeq, i_ifne, i_iflt, i_ifge, i_ifgt, i_ifle, i_cmpeq, i_cmpne, i_cmplt, i_cmpge, i_cmpgt, i_cmple, i_acmpeq, i_acmpne, i_ifnull, i_ifnonnull, i_getI, i_getR, i_putI, i_putZ, i_putR, i_ald, i_ldL, i_ldR, i_ast, i_stL, i_stR, i_alen, i_new, i_newa, i_iret, i_zret, i_lret, i_aret, i_vret, i_raise, i_throw, i_recv, i_objinit, i_tsw3, lget, lset, lput1, lput2, lkil, ltrim, largs, isL, takev, dropv, nthv, pushO, catv, gd, true_and, and_true, Option.some.injEq, Prod.mk.injEq, exists_eq_left', if_true, if_false, reduceCtorEq, Bool.false_eq_true, lcmp_ge, lcmp_lt, lcmp_le, lcmp_gt, lcmp_eq, true_or, or_true, not_true_eq_false, not_false_eq_true, false_implies, true_implies, List.length_cons, List.length_nil]
                have hpc := k3.pc (by omega) q2
                obtain ⟨l, l0, hl⟩ := hpc.2.2.2.1
                refine K D6 (fun c i w1 w2 => ?_) ⟨F2', n2', m2', _, by have := k3.1; omega, k3.2.1, k2, k3.sz (by omega) (by omega) us1 us2, q5.stc hpc, q5.shr.scale (fun w => by rw [w] at l0; exact Rat.lt_irrefl l0) hl, com⟩
                rw [k1 c i w1 w2, i1 c i w1 w2, hfr c i (by unfold clw; omega)]; exact F3 c i w1 w2
              | succ L ih =>
                intro j D4 hj hfr hdone
                obtain ⟨t1, t2⟩ := s6 (m' - 1) j (by omega) (by omega)
                obtain ⟨v1, v2⟩ := s11 j (by omega)
                have v3 := v2.1
                have d8'' : D4 b 8 = m' := by rw [hfr _ _ (by unfold clw; omega)]; exact d8'
                have lg : ((F' (m' - 1) j).natAbs : Int) < 1000000000 ^ 160 := Int.lt_of_lt_of_le (nat_pw (bg j (by omega)) l65) (pw_mono (by decide))
                have nb := clw_cw (b := b) (r := m' - 1) (k := j) (j := j) (by omega) (by omega)
                refine wp_in ?_
                simp only [P_X8_common, i_kil, i_icon, i_lcon, i_null, i_loadI, i_loadL, i_loadR, i_istore, i_lstore, i_astore, i_iinc, i_dup, i_dup2, i_pop, i_iadd, i_isub, i_imul, i_idiv, i_irem, i_ineg, i_iand, i_ior, i_ishl, i_ishr, i_lxor, i_ladd, i_lsub, i_lmul, i_ldiv, i_lrem, i_lneg, i_lshl, i_lcmp, i_i2l, i_l2i, i_i2b, i_i2s, i_ifeq, i_ifne, i_iflt, i_ifge, i_ifgt, i_ifle, i_cmpeq, i_cmpne, i_cmplt, i_cmpge, i_cmpgt, i_cmple, i_acmpeq, i_acmpne, i_ifnull, i_ifnonnull, i_getI, i_getR, i_putI, i_putZ, i_putR, i_ald, i_ldL, i_ldR, i_ast, i_stL, i_stR, i_alen, i_new, i_newa, i_iret, i_zret, i_lret, i_aret, i_vret, i_raise, i_throw, i_recv, i_objinit, i_tsw3, lget, lset, lput1, lput2, lkil, ltrim, largs, isL, takev, dropv, nthv, pushO, catv, gd, true_and, and_true, Option.some.injEq, Prod.mk.injEq, exists_eq_left', if_true, if_false, reduceCtorEq, Bool.false_eq_true, lcmp_ge, lcmp_lt, lcmp_le, lcmp_gt, lcmp_eq, true_or, or_true, not_true_eq_false, not_false_eq_true, false_implies, true_implies, List.length_cons, List.length_nil, s1, s3, s4, s9, s10, d8'', em', rm2, rm2', t1, v1]
                repeat (first | refine ⟨in_small (by omega) (by omega), ?_⟩ | (show (_ → _) ∧ (_ → _); first | refine ⟨by omega, fun _ => ?_⟩ | refine ⟨fun _ => ?_, by omega⟩) | refine ⟨by omega, ?_⟩ | refine ⟨⟨_, rfl, by assumption⟩, ?_⟩ | refine ⟨okT_I _, ?_⟩ | refine ⟨okT_S (by omega) (by omega), ?_⟩ | refine ⟨okT_B (by omega) (by omega), ?_⟩ | refine call0 (gd_of rfl) ?_)
                refine sp_X3_be v2 t2 (by omega) ((d4' j (by omega)).congr (fun i => hfr _ i (by unfold cw clw; omega)) fun i => hfr _ i (by unfold cw clw; omega)) lg lg (by decide) fun D5 g1 g2 => ?_
                simp only [P_X8_common, i_kil, i_icon, i_lcon, i_null, i_loadI, i_loadL, i_loadR, i_istore, i_lstore, i_astore, i_iinc, i_dup, i_dup2, i_pop, i_iadd, i_isub, i_imul, i_idiv, i_irem, i_ineg, i_iand, i_ior, i_ishl, i_ishr, i_lxor, i_ladd, i_lsub, i_lmul, i_ldiv, i_lrem, i_lneg, i_lshl, i_lcmp, i_i2l, i_l2i, i_i2b, i_i2s, i_ifeq, i_ifne, i_iflt, i_ifge, i_ifgt, i_ifle, i_cmpeq, i_cmpne, i_cmplt, i_cmpge, i_cmpgt, i_cmple, i_acmpeq, i_acmpne, i_ifnull, i_ifnonnull, i_getI, i_getR, i_putI, i_putZ, i_putR, i_ald, i_ldL, i_ldR, i_ast, i_stL, i_stR, i_alen, i_new, i_newa, i_iret, i_zret, i_lret, i_aret, i_vret, i_raise, i_throw, i_recv, i_objinit, i_tsw3, lget, lset, lput1, lput2, lkil, ltrim, largs, isL, takev, dropv, nthv, pushO, catv, gd, true_and, and_true, Option.some.injEq, Prod.mk.injEq, exists_eq_left', if_true, if_false, reduceCtorEq, Bool.false_eq_true, lcmp_ge, lcmp_lt, lcmp_le, lcmp_gt, lcmp_eq, true_or, or_true, not_true_eq_false, not_false_eq_true, false_implies, true_implies, List.length_cons, List.length_nil]
                repeat (first | refine ⟨in_small (by omega) (by omega), ?_⟩ | (show (_ → _) ∧ (_ → _); first | refine ⟨by omega, fun _ => ?_⟩ | refine ⟨fun _ => ?_, by omega⟩) | refine ⟨by omega, ?_⟩ | refine ⟨⟨_, rfl, by assumption⟩, ?_⟩ | refine ⟨okT_I _, ?_⟩ | refine ⟨okT_S (by omega) (by omega), ?_⟩ | refine ⟨okT_B (by omega) (by omega), ?_⟩ | refine call0 (gd_of rfl) ?_)
                refine ih (j + 1) D5 (by omega) (fun c i w1 => ?_) fun k hk => ?_
                · rw [g1 c i (by unfold clw at *; omega) (by unfold clw at *; omega)]; exact hfr c i w1
                · by_cases w : k = j
                  · rw [w]; exact g2
                  · exact (hdone k (by omega)).congr (fun i => g1 _ i (by unfold clw; omega) (by unfold clw; omega)) fun i => g1 _ i (by unfold clw; omega) (by unfold clw; omega)
            exact loop3 (n' (m' - 1) + 1) 0 D3 (by omega) (fun _ _ _ => rfl) fun k hk => by omega
          · have hpc := j3.pc w1 d3
            have hsm := j3.done w1 d3 (by omega)
            obtain ⟨l, l0, hl⟩ := hpc.2.2.2.1
            exact K D3 F3 ⟨F', n', m', _, by omega, hm10', j2, j3.sz (by omega) (by omega) us1 us2, hsm.stc hpc, hsm.shr.scale (fun w => by rw [w] at l0; exact Rat.lt_irrefl l0) hl, com⟩
    exact loop (n (m - 1) + 1) 0 D1 (by omega) (fun _ _ _ => rfl) fun k hk => by omega
  have first : ∀ (L j : Nat) (D1 : Dat), j + L = db + 1 → (∀ c i, (c < cw b 0 0 ∨ cw b 1 8 + 1 < c) → (c ≠ b + 12 ∨ i ≠ 0) → D1 c i = D c i) → D1 (b + 12) 0 = da → chR D1 b 0 da fa → (∀ k, k < j → wD 1 2 D1 (cw b 1 k) (fb k)) → Wp P_X8_common E 1 [some (aR b), none, none, some (aR N2), some (aI db), some (aI j)] [] B S D1 := by
    intro L
    induction L with
    | succ L ih =>
      intro j D1 hj hfr hd0 hrow hdone
      obtain ⟨t1, t2⟩ := s6 1 j (by omega) (by omega)
      have t3 := t2.1
      have e1 : D1 N2 j = fb j := by rw [hfr _ _ (by unfold cw; omega) (.inl (by omega))]; exact hfb j (by omega)
      have hbj := hbb j (by omega)
      refine wp_in ?_
      simp only [P_X8_common, i_kil, i_icon, i_lcon, i_null, i_loadI, i_loadL, i_loadR, i_istore, i_lstore, i_astore, i_iinc, i_dup, i_dup2, i_pop, i_iadd, i_isub, i_imul, i_idiv, i_irem, i_ineg, i_iand, i_ior, i_ishl, i_ishr, i_lxor, i_ladd, i_lsub, i_lmul, i_ldiv, i_lrem, i_lneg, i_lshl, i_lcmp, i_i2l, i_l2i, i_i2b, i_i2s, i_ifeq, i_ifne, i_iflt, i_ifge, i_ifgt, i_ifle, i_cmpeq, i_cmpne, i_cmplt, i_cmpge, i_cmpgt, i_cmple, i_acmpeq, i_acmpne, i_ifnull, i_ifnonnull, i_getI, i_getR, i_putI, i_putZ, i_putR, i_ald, i_ldL, i_ldR, i_ast, i_stL, i_stR, i_alen, i_new, i_newa, i_iret, i_zret, i_lret, i_aret, i_vret, i_raise, i_throw, i_recv, i_objinit, i_tsw3, lget, lset, lput1, lput2, lkil, ltrim, largs, isL, takev, dropv, nthv, pushO, catv, gd, true_and, and_true, Option.some.injEq, Prod.mk.injEq, exists_eq_left', if_true, if_false, reduceCtorEq, Bool.false_eq_true, lcmp_ge, lcmp_lt, lcmp_le, lcmp_gt, lcmp_eq, true_or, or_true, not_true_eq_false, not_false_eq_true, false_implies, true_implies, List.length_cons, List.length_nil, s1, s3, s4, r1i, r1', t1, hN2, e1]
      repeat (first | refine ⟨in_small (by omega) (by omega), ?_⟩ | (show (_ → _) ∧ (_ → _); first | refine ⟨by omega, fun _ => ?_⟩ | refine ⟨fun _ => ?_, by omega⟩) | refine ⟨by omega, ?_⟩ | refine ⟨⟨_, rfl, by assumption⟩, ?_⟩ | refine ⟨okT_I _, ?_⟩ | refine ⟨okT_S (by omega) (by omega), ?_⟩ | refine ⟨okT_B (by omega) (by omega), ?_⟩ | refine call0 (gd_of rfl) ?_)
      refine sp_X3_set t2 (by decide) (by decide) (by omega) fun D2 g1 g2 => ?_
      simp only [P_X8_common, i_kil, i_icon, i_lcon, i_null, i_loadI, i_loadL, i_loadR, i_istore, i_lstore, i_astore, i_iinc, i_dup, i_dup2, i_pop, i_iadd, i_isub, i_imul, i_idiv, i_irem, i_ineg, i_iand, i_ior, i_ishl, i_ishr, i_lxor, i_ladd, i_lsub, i_lmul, i_ldiv, i_lrem, i_lneg, i_lshl, i_lcmp, i_i2l, i_l2i, i_i2b, i_i2s, i_ifeq, i_ifne, i_iflt, i_ifge, i_ifgt, i_ifle, i_cmpeq, i_cmpne, i_cmplt, i_cmpge, i_cmpgt, i_cmple, i_acmpeq, i_acmpne, i_ifnull, i_ifnonnull, i_getI, i_getR, i_putI, i_putZ, i_putR, i_ald, i_ldL, i_ldR, i_ast, i_stL, i_stR, i_alen, i_new, i_newa, i_iret, i_zret, i_lret, i_aret, i_vret, i_raise, i_throw, i_recv, i_objinit, i_tsw3, lget, lset, lput1, lput2, lkil, ltrim, largs, isL, takev, dropv, nthv, pushO, catv, gd, true_and, and_true, Option.some.injEq, Prod.mk.injEq, exists_eq_left', if_true, if_false, reduceCtorEq, Bool.false_eq_true, lcmp_ge, lcmp_lt, lcmp_le, lcmp_gt, lcmp_eq, true_or, or_true, not_true_eq_false, not_false_eq_true, false_implies, true_implies, List.length_cons, List.length_nil]
      repeat (first | refine ⟨in_small (by omega) (by omega), ?_⟩ | (show (_ → _) ∧ (_ → _); first | refine ⟨by omega, fun _ => ?_⟩ | refine ⟨fun _ => ?_, by omega⟩) | refine ⟨by omega, ?_⟩ | refine ⟨⟨_, rfl, by assumption⟩, ?_⟩ | refine ⟨okT_I _, ?_⟩ | refine ⟨okT_S (by omega) (by omega), ?_⟩ | refine ⟨okT_B (by omega) (by omega), ?_⟩ | refine call0 (gd_of rfl) ?_)
      refine ih (j + 1) D2 (by omega) (fun c i c1 c2 => ?_) ?_ (fun k hk => ?_) fun k hk => ?_
      · rw [g1 c i (by unfold cw at *; omega) (by unfold cw at *; omega)]; exact hfr c i c1 c2
      · rw [g1 _ _ (by unfold cw; omega) (by unfold cw; omega)]; exact hd0
      · have nb := cw_ne (b := b) (r := 0) (r' := 1) (k := k) (k' := j) (by omega) (by omega) (fun w => by omega)
        exact (hrow k hk).congr (fun i => g1 _ i (by omega) (by omega)) fun i => g1 _ i (by omega) (by omega)
      · by_cases w : k = j
        · rw [w]; exact g2
        · have nb := cw_ne (b := b) (r := 1) (r' := 1) (k := k) (k' := j) (by omega) (by omega) (fun w2 => w w2.2)
          exact (hdone k (by omega)).congr (fun i => g1 _ i (by omega) (by omega)) fun i => g1 _ i (by omega) (by omega)
    | zero =>
      intro j D1 hj hfr hd0 hrow hdone
      refine wp_in ?_
      simp only [P_X8_common, i_kil, i_icon, i_lcon, i_null, i_loadI, i_loadL, i_loadR, i_istore, i_lstore, i_astore, i_iinc, i_dup, i_dup2, i_pop, i_iadd, i_isub, i_imul, i_idiv, i_irem, i_ineg, i_iand, i_ior, i_ishl, i_ishr, i_lxor, i_ladd, i_lsub, i_lmul, i_ldiv, i_lrem, i_lneg, i_lshl, i_lcmp, i_i2l, i_l2i, i_i2b, i_i2s, i_ifeq, i_ifne, i_iflt, i_ifge, i_ifgt, i_ifle, i_cmpeq, i_cmpne, i_cmplt, i_cmpge, i_cmpgt, i_cmple, i_acmpeq, i_acmpne, i_ifnull, i_ifnonnull, i_getI, i_getR, i_putI, i_putZ, i_putR, i_ald, i_ldL, i_ldR, i_ast, i_stL, i_stR, i_alen, i_new, i_newa, i_iret, i_zret, i_lret, i_aret, i_vret, i_raise, i_throw, i_recv, i_objinit, i_tsw3, lget, lset, lput1, lput2, lkil, ltrim, largs, isL, takev, dropv, nthv, pushO, catv, gd, true_and, and_true, Option.some.injEq, Prod.mk.injEq, exists_eq_left', if_true, if_false, reduceCtorEq, Bool.false_eq_true, lcmp_ge, lcmp_lt, lcmp_le, lcmp_gt, lcmp_eq, true_or, or_true, not_true_eq_false, not_false_eq_true, false_implies, true_implies, List.length_cons, List.length_nil, s1, s7, s8]
      repeat (first | refine ⟨in_small (by omega) (by omega), ?_⟩ | (show (_ → _) ∧ (_ → _); first | refine ⟨by omega, fun _ => ?_⟩ | refine ⟨fun _ => ?_, by omega⟩) | refine ⟨by omega, ?_⟩ | refine ⟨⟨_, rfl, by assumption⟩, ?_⟩ | refine ⟨okT_I _, ?_⟩ | refine ⟨okT_S (by omega) (by omega), ?_⟩ | refine ⟨okT_B (by omega) (by omega), ?_⟩ | refine call0 (gd_of rfl) ?_)
      repeat (first | refine ⟨in_small (by omega) (by omega), ?_⟩ | (show (_ → _) ∧ (_ → _); first | refine ⟨by omega, fun _ => ?_⟩ | refine ⟨fun _ => ?_, by omega⟩) | refine ⟨by omega, ?_⟩ | refine ⟨⟨_, rfl, by assumption⟩, ?_⟩ | refine ⟨okT_I _, ?_⟩ | refine ⟨okT_S (by omega) (by omega), ?_⟩ | refine ⟨okT_B (by omega) (by omega), ?_⟩ | refine call0 (gd_of rfl) ?_)
      have u : ∀ c i, c ≠ b + 12 → c ≠ b → pmu (pmu D1 (b + 12) 1 db) b 8 2 c i = D1 c i := fun c i c1 c2 => by
        simp only [pmu]; rw [if_neg (by omega), if_neg (by omega)]
      refine sp_X8_goOn (p := 1) (f0 := fa) (f1 := fb) (n0 := da) (n1 := db) hS0 (by omega) (by omega) (by simp only [pmu, and_self, if_true]) ?_ ?_ (hrow.congr fun c i c1 c2 => u c i (by unfold cw at *; omega) (by unfold cw at *; omega)) (fun k hk => (hdone k (by omega)).congr (fun i => u _ i (by unfold cw; omega) (by unfold cw; omega)) fun i => u _ i (by unfold cw; omega) (by unfold cw; omega)) ha0 hb0 (fun k hk => by have := hbb k hk; omega) (by decide) (chW_of' hda hdb (fun k hk => Nat.le_trans (hba k hk) z68) fun k hk => Nat.le_trans (brow_abs hk hb0) (Nat.le_trans (hbb k hk) z68)) fun D2 F n m k1 k2 k3 => ?_
      · simp only [pmu]; rw [if_neg (by omega), if_neg (by omega)]; exact hd0
      · simp only [pmu]; rw [if_neg (by omega), if_pos (by simp)]
      · obtain ⟨d1, d2, d3, d4⟩ := k2.2 (m - 1) (by have := k3.1; omega)
        have d8 := k2.1
        have hm10 := k3.2.1
        have hm2 := k3.1
        have em : (m : Int) - 1 = ((m - 1 : Nat) : Int) := by omega
        simp only [P_X8_common, i_kil, i_icon, i_lcon, i_null, i_loadI, i_loadL, i_loadR, i_istore, i_lstore, i_astore, i_iinc, i_dup, i_dup2, i_pop, i_iadd, i_isub, i_imul, i_idiv, i_irem, i_ineg, i_iand, i_ior, i_ishl, i_ishr, i_lxor, i_ladd, i_lsub, i_lmul, i_ldiv, i_lrem, i_lneg, i_lshl, i_lcmp, i_i2l, i_l2i, i_i2b, i_i2s, i_ifeq, i_ifne, i_iflt, i_ifge, i_ifgt, i_ifle, i_cmpeq, i_cmpne, i_cmplt, i_cmpge, i_cmpgt, i_cmple, i_acmpeq, i_acmpne, i_ifnull, i_ifnonnull, i_getI, i_getR, i_putI, i_putZ, i_putR, i_ald, i_ldL, i_ldR, i_ast, i_stL, i_stR, i_alen, i_new, i_newa, i_iret, i_zret, i_lret, i_aret, i_vret, i_raise, i_throw, i_recv, i_objinit, i_tsw3, lget, lset, lput1, lput2, lkil, ltrim, largs, isL, takev, dropv, nthv, pushO, catv, gd, true_and, and_true, Option.some.injEq, Prod.mk.injEq, exists_eq_left', if_true, if_false, reduceCtorEq, Bool.false_eq_true, lcmp_ge, lcmp_lt, lcmp_le, lcmp_gt, lcmp_eq, true_or, or_true, not_true_eq_false, not_false_eq_true, false_implies, true_implies, List.length_cons, List.length_nil, s1, s7, s8, d8, em, d1]
        repeat (first | refine ⟨in_small (by omega) (by omega), ?_⟩ | (show (_ → _) ∧ (_ → _); first | refine ⟨by omega, fun _ => ?_⟩ | refine ⟨fun _ => ?_, by omega⟩) | refine ⟨by omega, ?_⟩ | refine ⟨⟨_, rfl, by assumption⟩, ?_⟩ | refine ⟨okT_I _, ?_⟩ | refine ⟨okT_S (by omega) (by omega), ?_⟩ | refine ⟨okT_B (by omega) (by omega), ?_⟩ | refine call0 (gd_of rfl) ?_)
        refine tail D2 F n m (fun c i c1 c2 => ?_) k2 k3
        rw [k1 c i c1 c2, u c i (by omega) (by omega)]
        exact hfr c i (by unfold cw; omega) (.inl (by omega))
  refine wp_in ?_
  simp only [P_X8_common, i_kil, i_icon, i_lcon, i_null, i_loadI, i_loadL, i_loadR, i_istore, i_lstore, i_astore, i_iinc, i_dup, i_dup2, i_pop, i_iadd, i_isub, i_imul, i_idiv, i_irem, i_ineg, i_iand, i_ior, i_ishl, i_ishr, i_lxor, i_ladd, i_lsub, i_lmul, i_ldiv, i_lrem, i_lneg, i_lshl, i_lcmp, i_i2l, i_l2i, i_i2b, i_i2s, i_ifeq, i_ifne, i_iflt, i_ifge, i_ifgt, i_ifle, i_cmpeq, i_cmpne, i_cmplt, i_cmpge, i_cmpgt, i_cmple, i_acmpeq, i_acmpne, i_ifnull, i_ifnonnull, i_getI, i_getR, i_putI, i_putZ, i_putR, i_ald, i_ldL, i_ldR, i_ast, i_stL, i_stR, i_alen, i_new, i_newa, i_iret, i_zret, i_lret, i_aret, i_vret, i_raise, i_throw, i_recv, i_objinit, i_tsw3, lget, lset, lput1, lput2, lkil, ltrim, largs, isL, takev, dropv, nthv, pushO, catv, gd, true_and, and_true, Option.some.injEq, Prod.mk.injEq, exists_eq_left', if_true, if_false, reduceCtorEq, Bool.false_eq_true, lcmp_ge, lcmp_lt, lcmp_le, lcmp_gt, lcmp_eq, true_or, or_true, not_true_eq_false, not_false_eq_true, false_implies, true_implies, List.length_cons, List.length_nil, s1]
  repeat (first | refine ⟨in_small (by omega) (by omega), ?_⟩ | (show (_ → _) ∧ (_ → _); first | refine ⟨by omega, fun _ => ?_⟩ | refine ⟨fun _ => ?_, by omega⟩) | refine ⟨by omega, ?_⟩ | refine ⟨⟨_, rfl, by assumption⟩, ?_⟩ | refine ⟨okT_I _, ?_⟩ | refine ⟨okT_S (by omega) (by omega), ?_⟩ | refine ⟨okT_B (by omega) (by omega), ?_⟩ | refine call0 (gd_of rfl) ?_)
  refine sp_X8_put hS0 hN1 hN1b (by omega) hfa (fun k hk => by have := hba k hk; omega) fun D1 a1 a2 a3 => ?_
  simp only [P_X8_common, i_kil, i_icon, i_lcon, i_null, i_loadI, i_loadL, i_loadR, i_istore, i_lstore, i_astore, i_iinc, i_dup, i_dup2, i_pop, i_iadd, i_isub, i_imul, i_idiv, i_irem, i_ineg, i_iand, i_ior, i_ishl, i_ishr, i_lxor, i_ladd, i_lsub, i_lmul, i_ldiv, i_lrem, i_lneg, i_lshl, i_lcmp, i_i2l, i_l2i, i_i2b, i_i2s, i_ifeq, i_ifne, i_iflt, i_ifge, i_ifgt, i_ifle, i_cmpeq, i_cmpne, i_cmplt, i_cmpge, i_cmpgt, i_cmple, i_acmpeq, i_acmpne, i_ifnull, i_ifnonnull, i_getI, i_getR, i_putI, i_putZ, i_putR, i_ald, i_ldL, i_ldR, i_ast, i_stL, i_stR, i_alen, i_new, i_newa, i_iret, i_zret, i_lret, i_aret, i_vret, i_raise, i_throw, i_recv, i_objinit, i_tsw3, lget, lset, lput1, lput2, lkil, ltrim, largs, isL, takev, dropv, nthv, pushO, catv, gd, true_and, and_true, Option.some.injEq, Prod.mk.injEq, exists_eq_left', if_true, if_false, reduceCtorEq, Bool.false_eq_true, lcmp_ge, lcmp_lt, lcmp_le, lcmp_gt, lcmp_eq, true_or, or_true, not_true_eq_false, not_false_eq_true, false_implies, true_implies, List.length_cons, List.length_nil]
  exact first (db + 1) 0 D1 (by omega) (fun c i c1 c2 => a1 c i (by unfold cw at *; omega) c2) a2 a3 fun k hk => by omega
end COMM2
