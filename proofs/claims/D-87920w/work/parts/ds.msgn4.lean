/-! the model's sign: from the decided span to the answer -/
-- needs: dr.msgn3
set_option maxRecDepth 100000
set_option linter.unusedVariables false
section MSG4
variable {M : Nat} {S : Stat} {s g : Nat → Int} {a dq : Nat}
theorem sgW_abs {G H : Nat} (hs : ∀ k, k < a → (zder s k).natAbs ≤ G) (hg : ∀ k, k ≤ dq → (g k).natAbs ≤ H) {t : Nat} (ht : t ≤ a) (k : Nat) : (zcv (zder s) (cut g dq) t k).natAbs ≤ a * (G * H) := by
  have := zcv_abs (g := zder s) (a := cut g dq) (G := G) (H := H) (j := k) t (fun i hi => hs i (by omega)) (fun i => by
    unfold cut
    split
    · exact hg i (by assumption)
    · exact Nat.zero_le _)
  exact Nat.le_trans this (Nat.mul_le_mul_right _ ht)
set_option maxHeartbeats 4000000 in
theorem ms_tail {E : Ex} {B : Nat × Nat} {D : Dat} {h q : Nat} {w : Int} (hS : sgS S M) (hp : plS S M) (hq16 : q < 16) (ha8 : a ≤ 8) (ha1 : 1 ≤ a) (s0 : s a ≠ 0) (hs47 : ∀ k, k ≤ a → (s k).natAbs ≤ 2 ^ 47) (hs99 : a = 8 → ∀ k, k ≤ a → (s k).natAbs ≤ 99) (hdq : dq ≤ 8) (g0 : g dq ≠ 0) (hg99 : ∀ k, k ≤ dq → (g k).natAbs ≤ 99) (hrn : ∀ k, k ≤ a → wD 2 1 D (M + 12121 + 1 + 2 * k) (s k)) (hpn : ∀ k, k ≤ dq → wD 2 1 D (M + 12158 + 1 + 2 * k) (g k)) (hrp : ∀ k : Nat, k ≤ a → D (M + 26 + q) k = s k) (hpl : plD D M g dq) (h0 : 0 ≤ w) (h1 : w < ((2 ^ h : Nat) : Int)) (hh : h ≤ 459) (hsl : wD 2 1 D (M + 12117) (mlw h w)) (hsh : wD 2 1 D (M + 12119) (mlw h (w + 1)))
    (K : ∀ (D' : Dat) (τ : Int), (∀ c i, (c < M ∨ M + 16 < c) → (c < M + 10781 ∨ M + 10788 < c) → (c < M + 10796 ∨ M + 11277 < c) → c ≠ M + 4221 → c ≠ M + 4222 → (c < M + 11297 ∨ M + 11306 < c) → D' c i = D c i) → (∀ i, i ≠ 70 → D' M i = D M i) → ((zp s (a + 1) (rpt h (w + 1)) = 0 ∧ τ = sgr (zp g (dq + 1) (rpt h (w + 1)))) ∨ (zp s (a + 1) (rpt h (w + 1)) ≠ 0 ∧ msEnd s g a dq (rpt h w) (rpt h (w + 1)) τ)) → E (.inl (some (.inl (1 + τ)))) B S D') : Wp P_X16_sign E 3 [some (aR M), none, some (aI q), none, some (aI a), some (aI h)] [] B S D := by
  obtain ⟨hmr, hmt, r1, r2, r3, r4, r5, r6, r7⟩ := id hS
  obtain ⟨hmh, hms, -⟩ := id hmr
  obtain ⟨hM, hWw, hK, s1, s2, s3, s4, s5⟩ := id hmh
  obtain ⟨k1, k2, k3⟩ := id hK
  obtain ⟨w1, w2, w3, w4, w5, w6, w7, w8⟩ := id hWw
  obtain ⟨v1, v2, v3, v4, v5, v6⟩ := id hmt
  obtain ⟨p1, p2⟩ := hp
  obtain ⟨u1, u2⟩ := r7 q hq16
  obtain ⟨hpl1, hpl2⟩ := hpl
  have M1 := hM.1
  have c62 := w6.1
  have l1 := mlw_abs (h := h) (w := w + 1) (by omega) (by omega)
  have sgz : ∀ z : Rat, sgr z = 0 → z = 0 := fun z hz => Classical.byContradiction fun q => (sgr_ne.mpr q) hz
  have e50 : (2 : Nat) ^ 50 = 1125899906842624 := by decide
  have zd : ∀ k, k < a → (zder s k).natAbs ≤ 2 ^ 50 := fun k hk => by
    have e : (2 : Nat) ^ 50 = 2 ^ 47 * 8 := by decide
    unfold zder
    rw [Int.natAbs_mul, Int.natAbs_natCast, e]
    exact Nat.mul_le_mul (hs47 (k + 1) (by omega)) (by omega)
  have b60 : ∀ {t : Nat}, t ≤ a → ∀ k, (zcv (zder s) (cut g dq) t k).natAbs ≤ 2 ^ 60 := fun ht k => Nat.le_trans (sgW_abs zd hg99 ht k) (Nat.le_trans (Nat.mul_le_mul_right _ ha8) (by decide))
  have l60 : ((2 ^ 60 : Nat) : Int) < 1000000000 ^ 3 := two_pw (by decide)
  have l47 : ((2 ^ 47 : Nat) : Int) < 1000000000 ^ 2 := two_pw (by decide)
  have hzt := zder_top s0 ha1
  have W0 : sgW s g a dq (a - 1 + dq) ≠ 0 := by
    rw [sgW_top ha1]
    exact fun q => by rcases Int.mul_eq_zero.mp q with r | r; exact hzt r; exact g0 r
  -- behind the product
  have after : ∀ D1 : Dat, (∀ c i, (c < M + 10785 ∨ M + 10786 < c) → (c < M + 11242 ∨ M + 11277 < c) → c ≠ M + 1 → c ≠ M + 4221 → c ≠ M + 4222 → (c < M + 11297 ∨ M + 11306 < c) → D1 c i = D c i) → (∀ k, k < 18 → wD 2 1 D1 (M + 11242 + 2 * k) (sgW s g a dq k)) → zp s (a + 1) (rpt h (w + 1)) ≠ 0 → Wp P_X16_sign E 5 [some (aR M), none, some (aI q), none, some (aI a), some (aI h), some (aI ((a : Int) + 1))] [] B S D1 := fun D1 hfr hw hne => by
    have h84 : D1 M 84 = dq := by rw [hfr _ _ (by omega) (by omega) (by omega) (by omega) (by omega) (by omega)]; exact hpl1
    have em : (a : Int) - 1 + dq = ((a - 1 + dq : Nat) : Int) := by omega
    refine wp_in ?_
    simp only [P_X16_sign, i_kil, i_icon, i_lcon, i_null, i_loadI, i_loadL, i_loadR, i_istore, i_lstore, i_astore, i_iinc, i_dup, i_dup2, i_pop, i_iadd, i_isub, i_imul, i_idiv, i_irem, i_ineg, i_iand, i_ior, i_ishl, i_ishr, i_lxor, i_ladd, i_lsub, i_lmul, i_ldiv, i_lrem, i_lneg, i_lshl, i_lcmp, i_i2l, i_l2i, i_i2b, i_i2s, i_ifeq, i_ifne, i_iflt, i_ifge, i_ifgt, i_ifle, i_cmpeq, i_cmpne, i_cmplt, i_cmpge, i_cmpgt, i_cmple, i_acmpeq, i_acmpne, i_ifnull, i_ifnonnull, i_getI, i_getR, i_putI, i_putZ, i_putR, i_ald, i_ldL, i_ldR, i_ast, i_stL, i_stR, i_alen, i_new, i_newa, i_iret, i_zret, i_lret, i_aret, i_vret, i_raise, i_throw, i_recv, i_objinit, i_tsw3, lget, lset, lput1, lput2, lkil, ltrim, largs, isL, takev, dropv, nthv, pushO, catv, gd, true_and, and_true, Option.some.injEq, Prod.mk.injEq, exists_eq_left', if_true, if_false, reduceCtorEq, Bool.false_eq_true, lcmp_ge, lcmp_lt, lcmp_le, lcmp_gt, lcmp_eq, true_or, or_true, not_true_eq_false, not_false_eq_true, false_implies, true_implies, List.length_cons, List.length_nil, M1, h84, k1]
    refine ⟨fun _ => ?_, fun w => by omega⟩
    repeat (first | refine ⟨in_small (by omega) (by omega), ?_⟩ | (show (_ → _) ∧ (_ → _); first | refine ⟨by omega, fun _ => ?_⟩ | refine ⟨fun _ => ?_, by omega⟩) | refine ⟨by omega, ?_⟩ | refine ⟨⟨_, rfl, by assumption⟩, ?_⟩ | refine ⟨okT_I _, ?_⟩ | refine ⟨okT_S (by omega) (by omega), ?_⟩ | refine ⟨okT_B (by omega) (by omega), ?_⟩ | refine call0 (gd_of rfl) ?_)
    rw [em]
    refine sp_X16_small (A := M + 11241) (R := 260) (N := 18) (n := a - 1 + dq + 1) (p := 3) (f := sgW s g a dq) hM hWw ⟨k2, k3⟩ (by omega) (by omega) (by omega) (fun k hk => hw k (by omega)) (fun k hk => nat_pw (b60 (Nat.le_refl _) k) l60) (by omega) (by omega) (by omega) (by omega) fun D2 i1 i2 => ?_
    simp only [P_X16_sign, i_kil, i_icon, i_lcon, i_null, i_loadI, i_loadL, i_loadR, i_istore, i_lstore, i_astore, i_iinc, i_dup, i_dup2, i_pop, i_iadd, i_isub, i_imul, i_idiv, i_irem, i_ineg, i_iand, i_ior, i_ishl, i_ishr, i_lxor, i_ladd, i_lsub, i_lmul, i_ldiv, i_lrem, i_lneg, i_lshl, i_lcmp, i_i2l, i_l2i, i_i2b, i_i2s, i_ifeq, i_ifne, i_iflt, i_ifge, i_ifgt, i_ifle, i_cmpeq, i_cmpne, i_cmplt, i_cmpge, i_cmpgt, i_cmple, i_acmpeq, i_acmpne, i_ifnull, i_ifnonnull, i_getI, i_getR, i_putI, i_putZ, i_putR, i_ald, i_ldL, i_ldR, i_ast, i_stL, i_stR, i_alen, i_new, i_newa, i_iret, i_zret, i_lret, i_aret, i_vret, i_raise, i_throw, i_recv, i_objinit, i_tsw3, lget, lset, lput1, lput2, lkil, ltrim, largs, isL, takev, dropv, nthv, pushO, catv, gd, true_and, and_true, Option.some.injEq, Prod.mk.injEq, exists_eq_left', if_true, if_false, reduceCtorEq, Bool.false_eq_true, lcmp_ge, lcmp_lt, lcmp_le, lcmp_gt, lcmp_eq, true_or, or_true, not_true_eq_false, not_false_eq_true, false_implies, true_implies, List.length_cons, List.length_nil, M1, r1]
    repeat (first | refine ⟨in_small (by omega) (by omega), ?_⟩ | (show (_ → _) ∧ (_ → _); first | refine ⟨by omega, fun _ => ?_⟩ | refine ⟨fun _ => ?_, by omega⟩) | refine ⟨by omega, ?_⟩ | refine ⟨⟨_, rfl, by assumption⟩, ?_⟩ | refine ⟨okT_I _, ?_⟩ | refine ⟨okT_S (by omega) (by omega), ?_⟩ | refine ⟨okT_B (by omega) (by omega), ?_⟩ | refine call0 (gd_of rfl) ?_)
    have hrn2 : ∀ k, k ≤ a → wD 2 1 D2 (M + 12121 + 1 + 2 * k) (s k) := fun k hk => (hrn k hk).congr (fun i => by rw [i1 _ i (by omega) (by omega) (by omega) (by omega)]; exact hfr _ i (by omega) (by omega) (by omega) (by omega) (by omega) (by omega)) fun i => by rw [i1 _ i (by omega) (by omega) (by omega) (by omega)]; exact hfr _ i (by omega) (by omega) (by omega) (by omega) (by omega) (by omega)
    have ct : crow (sgW s g a dq) (a - 1 + dq + 1) (a - 1 + dq) ≠ 0 := crow_top (n := a - 1 + dq + 1) (by omega) W0
    have cb : ∀ k, k ≤ a - 1 + dq → (crow (sgW s g a dq) (a - 1 + dq + 1) k).natAbs ≤ 2 ^ 60 := fun k hk => Nat.le_trans (crow_abs (by omega)) (b60 (Nat.le_refl _) k)
    have hsz : ((2 ^ 60 * (2 * 2 ^ 47) ^ (a - 1 + dq + 1 - a) : Nat) : Int) < 1000000000 ^ 16 := by
      have h48 : (1 + 47) * (a - 1 + dq + 1 - a) ≤ 48 * 8 := Nat.mul_le_mul_left _ (by omega)
      exact (chZ_of (H := 2 ^ 60) (G := 2 ^ 47) (s := a - 1 + dq + 1 - a) (p := 16) (q := 2) rfl rfl (by omega) (by omega)).2
    refine sp_X16_takeMultiples (Rb := 4) (da := a - 1 + dq) (e := a) (p := 16) (q := 2) (H := 2 ^ 60) (G := 2 ^ 47) (f := crow (sgW s g a dq) (a - 1 + dq + 1)) (g := s) hM hWw hK r2 (by omega) (by omega) (by omega) (by omega) rfl (fun k hk => i2 k (by omega)) hrn2 ct s0 cb hs47 l47 (by omega) (by omega) hsz (by omega) fun D3 nr R j1 j2 j3 j4 j5 j6 j7 => ?_
    have hgc : (0 : Rat) < (((gcn (sgW s g a dq) (a - 1 + dq + 1) : Nat) : Int) : Rat) := Rat.intCast_pos.mpr (by have := gcn_pos (a - 1 + dq + 1) (a - 1 + dq) (by omega) W0; omega)
    obtain ⟨gi1, gi2⟩ := pos_inv hgc
    obtain ⟨c, cc0, Q, pQ, hQ⟩ := j6
    have hR : ∀ z, zp R nr z = c * (((gcn (sgW s g a dq) (a - 1 + dq + 1) : Nat) : Int) : Rat)⁻¹ * zp (sgW s g a dq) (a - 1 + dq + 1) z - Q z * zp s (a + 1) z := fun z => by
      have k4 := crow_zp (f := sgW s g a dq) (n := a - 1 + dq + 1) z
      have k5 := hQ z
      have k6 : c * (((gcn (sgW s g a dq) (a - 1 + dq + 1) : Nat) : Int) : Rat)⁻¹ * zp (sgW s g a dq) (a - 1 + dq + 1) z = c * zp (crow (sgW s g a dq) (a - 1 + dq + 1)) (a - 1 + dq + 1) z := by
        rw [← k4]
        have : c * (((gcn (sgW s g a dq) (a - 1 + dq + 1) : Nat) : Int) : Rat)⁻¹ * ((((gcn (sgW s g a dq) (a - 1 + dq + 1) : Nat) : Int) : Rat) * zp (crow (sgW s g a dq) (a - 1 + dq + 1)) (a - 1 + dq + 1) z) = c * ((((gcn (sgW s g a dq) (a - 1 + dq + 1) : Nat) : Int) : Rat)⁻¹ * (((gcn (sgW s g a dq) (a - 1 + dq + 1) : Nat) : Int) : Rat)) * zp (crow (sgW s g a dq) (a - 1 + dq + 1)) (a - 1 + dq + 1) z := by grind
        rw [this, gi2]; grind
      rw [k6, k5]; grind
    have cl0 := Rat.mul_pos cc0 gi1
    generalize c * (((gcn (sgW s g a dq) (a - 1 + dq + 1) : Nat) : Int) : Rat)⁻¹ = l at *
    simp only [P_X16_sign, i_kil, i_icon, i_lcon, i_null, i_loadI, i_loadL, i_loadR, i_istore, i_lstore, i_astore, i_iinc, i_dup, i_dup2, i_pop, i_iadd, i_isub, i_imul, i_idiv, i_irem, i_ineg, i_iand, i_ior, i_ishl, i_ishr, i_lxor, i_ladd, i_lsub, i_lmul, i_ldiv, i_lrem, i_lneg, i_lshl, i_lcmp, i_i2l, i_l2i, i_i2b, i_i2s, i_ifeq, i_ifne, i_iflt, i_ifge, i_ifgt, i_ifle, i_cmpeq, i_cmpne, i_cmplt, i_cmpge, i_cmpgt, i_cmple, i_acmpeq, i_acmpne, i_ifnull, i_ifnonnull, i_getI, i_getR, i_putI, i_putZ, i_putR, i_ald, i_ldL, i_ldR, i_ast, i_stL, i_stR, i_alen, i_new, i_newa, i_iret, i_zret, i_lret, i_aret, i_vret, i_raise, i_throw, i_recv, i_objinit, i_tsw3, lget, lset, lput1, lput2, lkil, ltrim, largs, isL, takev, dropv, nthv, pushO, catv, gd, true_and, and_true, Option.some.injEq, Prod.mk.injEq, exists_eq_left', if_true, if_false, reduceCtorEq, Bool.false_eq_true, lcmp_ge, lcmp_lt, lcmp_le, lcmp_gt, lcmp_eq, true_or, or_true, not_true_eq_false, not_false_eq_true, false_implies, true_implies, List.length_cons, List.length_nil]
    have fr3 : ∀ c i, (c < M + 10781 ∨ M + 10788 < c) → (c < M + 11242 ∨ M + 11277 < c) → (c ≤ M ∨ M + 16 < c) → c ≠ M + 4221 → c ≠ M + 4222 → (c < M + 11297 ∨ M + 11306 < c) → D3 c i = D c i := fun c i c1 c2 c3 c4 c5 c6 => by rw [j1 c i c3 c1 c2, i1 c i (by omega) (by omega) (by omega) c3]; exact hfr c i (by omega) c2 (by omega) c4 c5 c6
    have hbig : ((2 ^ 60 * (2 * 2 ^ 47) ^ (a - 1 + dq + 1 - a) : Nat) : Int) < 1000000000 ^ 130 := Int.lt_of_lt_of_le hsz (pw_mono (by decide))
    refine ms_chain (s := s) (R := R) (nr := nr) (w := w) hS ha8 ha1 s0 hs47 (fun k hk => (hrn2 k hk).congr (fun i => j1 _ i (by omega) (by omega) (by omega)) fun i => j1 _ i (by omega) (by omega) (by omega)) j2 j3 j4 (fun k hk => nat_pw (j7 k hk) hbig) (fun hn0 => ?_) h0 h1 hh (hsl.congr (fun i => fr3 _ i (by omega) (by omega) (by omega) (by omega) (by omega) (by omega)) fun i => fr3 _ i (by omega) (by omega) (by omega) (by omega) (by omega) (by omega)) (hsh.congr (fun i => fr3 _ i (by omega) (by omega) (by omega) (by omega) (by omega) (by omega)) fun i => fr3 _ i (by omega) (by omega) (by omega) (by omega) (by omega) (by omega)) fun D4 F n mt m1 m2 m3 m4 m5 m6 m7 m8 m9 => ?_
    · -- sizes
      have hl : ∃ (l : Rat) (μ : pf), 0 < l ∧ PP μ ∧ ∀ z, zp R (nr - 1 + 1) z = l * zp (sgW s g a dq) (a - 1 + dq + 1) z - μ z * zp s (a + 1) z := ⟨l, Q, cl0, pQ, fun z => by rw [show nr - 1 + 1 = nr by omega]; exact hR z⟩
      rcases Nat.eq_zero_or_pos dq with hz | hz
      · -- a number: the chain of s itself
        have bs68 : ∀ k, k ≤ a → (s k).natAbs ≤ 2 ^ 68 := fun k hk => Nat.le_trans (hs47 k hk) (pw_le2 (by decide))
        have bR68 : ∀ k, k ≤ nr - 1 → (R k).natAbs ≤ 2 ^ 68 := fun k hk => by
          have := j7 k (by omega)
          rw [show a - 1 + dq + 1 - a = 0 by omega, Nat.pow_zero, Nat.mul_one] at this
          exact Nat.le_trans this (pw_le2 (by decide))
        refine ⟨mhW_of ha8 (by omega) bs68 bR68, fun F n m hG => ?_⟩
        refine (hG.sz ha8 (by omega) bs68 bR68).mh fun i hi => ?_
        rcases Nat.eq_zero_or_pos i with z | z
        · subst z; rw [hG.2.2.2.2.1]; omega
        · have := hG.2.2.2.2.2.2.1.desc (i - 1) 1 (by omega) (by omega)
          rw [show 1 + (i - 1) = i by omega, hG.2.2.2.2.2.1] at this
          omega
      · have hpR : zprim R (nr - 1 + 1) := by rw [show nr - 1 + 1 = nr by omega]; exact j5 (by omega) hn0
        have hα : ∃ α, ((α = 60 ∧ a - 1 + dq + a + 1 ≤ 22 ∧ a ≤ 7) ∨ (α = 20 ∧ a - 1 + dq + a + 1 ≤ 24 ∧ a ≤ 8)) ∧ (∀ k, k ≤ a - 1 + dq → (sgW s g a dq k).natAbs ≤ 2 ^ α) ∧ ∀ k, k ≤ a → (s k).natAbs ≤ 2 ^ α := by
          rcases Nat.lt_or_ge a 8 with z | z
          · exact ⟨60, .inl ⟨rfl, by omega, by omega⟩, fun k _ => b60 (Nat.le_refl _) k, fun k hk => Nat.le_trans (hs47 k hk) (pw_le2 (by decide))⟩
          · have e8 : a = 8 := by omega
            have hs9 := hs99 e8
            have zd2 : ∀ k, k < a → (zder s k).natAbs ≤ 99 * 8 := fun k hk => by
              unfold zder
              rw [Int.natAbs_mul, Int.natAbs_natCast]
              exact Nat.mul_le_mul (hs9 (k + 1) (by omega)) (by omega)
            exact ⟨20, .inr ⟨rfl, by omega, by omega⟩, fun k _ => Nat.le_trans (sgW_abs zd2 hg99 (Nat.le_refl _) k) (Nat.le_trans (Nat.mul_le_mul_right _ ha8) (by decide)), fun k hk => Nat.le_trans (hs9 k hk) (by decide)⟩
        obtain ⟨α, q1, q2, q3⟩ := hα
        exact ⟨mhW_sg q1 ha1 (by omega) (by omega) q2 q3 W0 hl (by omega) hpR, fun F n m hG => mhM_sg q1 (by omega) q2 q3 hs47 W0 hl (by omega) hpR hG⟩
    · have K4 := K D4 (vch (fun i => zF F n i (rpt h w)) mt - vch (fun i => zF F n i (rpt h (w + 1))) mt) (fun c i c1 c2 c3 c4 c5 c6 => by rw [m1 c i c1 c2 c3 c4 c5 c6]; exact fr3 c i c2 (by omega) (by omega) c4 c5 c6) (fun i hi => by rw [m2 i hi]; exact fr3 _ i (by omega) (by omega) (by omega) (by omega) (by omega) (by omega)) (.inr ⟨hne, zF F n, n, mt, l, Q, m3, m4, m5, by unfold zF; rw [m6, m7], cl0, pQ, fun hm2 z => by
        obtain ⟨n1, n2, n3⟩ := m9 hm2
        have : zF F n 1 z = zp R nr z := by unfold zF; rw [n2, n3, show nr - 1 + 1 = nr by omega]
        rw [this, hR, sgW_zp ha1], fun hm1 z => by
        have hn0 := m8 hm1
        have := hR z
        rw [hn0, sgW_zp ha1] at this
        exact this, rfl⟩)
      rw [show 1 + vch (fun i => zF F n i (rpt h w)) mt - vch (fun i => zF F n i (rpt h (w + 1))) mt = 1 + (vch (fun i => zF F n i (rpt h w)) mt - vch (fun i => zF F n i (rpt h (w + 1))) mt) by omega]
      exact K4
  -- the product, row by row
  have e57 : (99 : Nat) * 2 ^ 50 < 2 ^ 57 := by decide
  have e57' : (2 : Nat) ^ 57 = 144115188075855872 := by decide
  have lz : ∀ t k, t < a → k ≤ dq → inL (zder s t) ∧ inL (zder s t * g k) ∧ ((zder s t * g k).natAbs : Int) < 1000000000 ^ 3 ∧ -9223372036854775808 ≤ zder s t * g k ∧ zder s t * g k ≤ 9223372036854775807 := fun t k ht hk => by
    have h1 := zd t ht
    have h2 : (zder s t * g k).natAbs ≤ 2 ^ 50 * 99 := by rw [Int.natAbs_mul]; exact Nat.mul_le_mul h1 (hg99 k hk)
    rw [e50] at h1 h2
    generalize zder s t * g k = Z at *
    refine ⟨by unfold inL; omega, by unfold inL; omega, by omega, by omega, by omega⟩
  have l260 : (1000000000 : Int) ^ 3 ≤ 1000000000 ^ 260 := pw_mono (by decide)
  have l4 : 1000000000 * (1000000000 : Int) ^ 3 = 1000000000 ^ 4 := (pw_succ 3).symm
  have l426 : (1000000000 : Int) ^ 4 ≤ 1000000000 ^ 260 := pw_mono (by decide)
  have pp3 := pw_pos 3
  have prod : ∀ (L t : Nat) (D1 : Dat), t + L = a → (∀ c i, (c < M + 10785 ∨ M + 10786 < c) → (c < M + 11242 ∨ M + 11277 < c) → c ≠ M + 1 → c ≠ M + 4221 → c ≠ M + 4222 → (c < M + 11297 ∨ M + 11306 < c) → D1 c i = D c i) → (∀ k, k < 18 → wD 2 1 D1 (M + 11242 + 2 * k) (zcv (zder s) (cut g dq) t k)) → zp s (a + 1) (rpt h (w + 1)) ≠ 0 → Wp P_X16_sign E 5 [some (aR M), none, some (aI q), none, some (aI a), some (aI h), some (aI ((t : Int) + 1))] [] B S D1 := by
    intro L
    induction L with
    | zero =>
      intro t D1 ht hfr hw hne
      have : t = a := by omega
      subst this
      exact after D1 hfr hw hne
    | succ L ih =>
      intro t D1 ht hfr hw hne
      have inner : ∀ (L2 j : Nat) (D2 : Dat), j + L2 = dq + 1 → (∀ c i, (c < M + 10785 ∨ M + 10786 < c) → (c < M + 11242 ∨ M + 11277 < c) → c ≠ M + 1 → c ≠ M + 4221 → c ≠ M + 4222 → (c < M + 11297 ∨ M + 11306 < c) → D2 c i = D c i) → (∀ k, k < 18 → wD 2 1 D2 (M + 11242 + 2 * k) (zcv (zder s) (cut g dq) t k + (if t ≤ k ∧ k - t < j then zder s t * g (k - t) else 0))) → Wp P_X16_sign E 6 [some (aR M), none, some (aI q), none, some (aI a), some (aI h), some (aI ((t : Int) + 1)), some (aI j)] [] B S D2 := by
        intro L2
        induction L2 with
        | zero =>
          intro j D2 hj hfr2 hw2
          have h84 : D2 M 84 = dq := by rw [hfr2 _ _ (by omega) (by omega) (by omega) (by omega) (by omega) (by omega)]; exact hpl1
          refine wp_in ?_
          simp only [P_X16_sign, i_kil, i_icon, i_lcon, i_null, i_loadI, i_loadL, i_loadR, i_istore, i_lstore, i_astore, i_iinc, i_dup, i_dup2, i_pop, i_iadd, i_isub, i_imul, i_idiv, i_irem, i_ineg, i_iand, i_ior, i_ishl, i_ishr, i_lxor, i_ladd, i_lsub, i_lmul, i_ldiv, i_lrem, i_lneg, i_lshl, i_lcmp, i_i2l, i_l2i, i_i2b, i_i2s, i_ifeq, i_ifne, i_iflt, i_ifge, i_ifgt, i_ifle, i_cmpeq, i_cmpne, i_cmplt, i_cmpge, i_cmpgt, i_cmple, i_acmpeq, i_acmpne, i_ifnull, i_ifnonnull, i_getI, i_getR, i_putI, i_putZ, i_putR, i_ald, i_ldL, i_ldR, i_ast, i_stL, i_stR, i_alen, i_new, i_newa, i_iret, i_zret, i_lret, i_aret, i_vret, i_raise, i_throw, i_recv, i_objinit, i_tsw3, lget, lset, lput1, lput2, lkil, ltrim, largs, isL, takev, dropv, nthv, pushO, catv, gd, true_and, and_true, Option.some.injEq, Prod.mk.injEq, exists_eq_left', if_true, if_false, reduceCtorEq, Bool.false_eq_true, lcmp_ge, lcmp_lt, lcmp_le, lcmp_gt, lcmp_eq, true_or, or_true, not_true_eq_false, not_false_eq_true, false_implies, true_implies, List.length_cons, List.length_nil, M1, h84]
          refine ⟨fun _ => ?_, fun w => by omega⟩
          repeat (first | refine ⟨in_small (by omega) (by omega), ?_⟩ | (show (_ → _) ∧ (_ → _); first | refine ⟨by omega, fun _ => ?_⟩ | refine ⟨fun _ => ?_, by omega⟩) | refine ⟨by omega, ?_⟩ | refine ⟨⟨_, rfl, by assumption⟩, ?_⟩ | refine ⟨okT_I _, ?_⟩ | refine ⟨okT_S (by omega) (by omega), ?_⟩ | refine ⟨okT_B (by omega) (by omega), ?_⟩ | refine call0 (gd_of rfl) ?_)
          refine ih (t + 1) D2 (by omega) hfr2 (fun k hk => ?_) hne
          have := hw2 k hk
          have e : zcv (zder s) (cut g dq) (t + 1) k = zcv (zder s) (cut g dq) t k + (if t ≤ k ∧ k - t < j then zder s t * g (k - t) else 0) := by
            simp only [zcv]
            by_cases q : k < t
            · rw [if_pos q, if_neg (by omega)]
            · rw [if_neg q]
              unfold cut
              by_cases q2 : k - t ≤ dq
              · rw [if_pos q2, if_pos (by omega)]
              · rw [if_neg q2, if_neg (by omega)]; omega
          rw [e]; exact this
        | succ L2 ih2 =>
          intro j D2 hj hfr2 hw2
          obtain ⟨y1, y2⟩ := k3 (t + j) (by omega)
          have h84 : D2 M 84 = dq := by rw [hfr2 _ _ (by omega) (by omega) (by omega) (by omega) (by omega) (by omega)]; exact hpl1
          have e1 : D2 (M + 26 + q) ((t : Int) + 1) = s (t + 1) := by
            rw [hfr2 _ _ (by omega) (by omega) (by omega) (by omega) (by omega) (by omega)]
            exact hrp (t + 1) (by omega)
          have e2 : D2 (M + 11307) j = g j := by
            rw [hfr2 _ _ (by omega) (by omega) (by omega) (by omega) (by omega) (by omega), hpl2 j (by omega), if_pos (by omega)]
          obtain ⟨z1, z2, z3, z4, z5⟩ := lz t j (by omega) (by omega)
          have ez : ((t : Int) + 1) * s (t + 1) = zder s t := by unfold zder; rw [Int.mul_comm]; rfl
          have et : (t : Int) + 1 - 1 + j = ((t + j : Nat) : Int) := by omega
          refine wp_in ?_
          simp only [P_X16_sign, i_kil, i_icon, i_lcon, i_null, i_loadI, i_loadL, i_loadR, i_istore, i_lstore, i_astore, i_iinc, i_dup, i_dup2, i_pop, i_iadd, i_isub, i_imul, i_idiv, i_irem, i_ineg, i_iand, i_ior, i_ishl, i_ishr, i_lxor, i_ladd, i_lsub, i_lmul, i_ldiv, i_lrem, i_lneg, i_lshl, i_lcmp, i_i2l, i_l2i, i_i2b, i_i2s, i_ifeq, i_ifne, i_iflt, i_ifge, i_ifgt, i_ifle, i_cmpeq, i_cmpne, i_cmplt, i_cmpge, i_cmpgt, i_cmple, i_acmpeq, i_acmpne, i_ifnull, i_ifnonnull, i_getI, i_getR, i_putI, i_putZ, i_putR, i_ald, i_ldL, i_ldR, i_ast, i_stL, i_stR, i_alen, i_new, i_newa, i_iret, i_zret, i_lret, i_aret, i_vret, i_raise, i_throw, i_recv, i_objinit, i_tsw3, lget, lset, lput1, lput2, lkil, ltrim, largs, isL, takev, dropv, nthv, pushO, catv, gd, true_and, and_true, Option.some.injEq, Prod.mk.injEq, exists_eq_left', if_true, if_false, reduceCtorEq, Bool.false_eq_true, lcmp_ge, lcmp_lt, lcmp_le, lcmp_gt, lcmp_eq, true_or, or_true, not_true_eq_false, not_false_eq_true, false_implies, true_implies, List.length_cons, List.length_nil, M1, h84, w5, r5, r6, u1, u2, e1, p1, p2, e2]
          refine ⟨fun w => by omega, fun _ => ?_⟩
          repeat (first | refine ⟨in_small (by omega) (by omega), ?_⟩ | (show (_ → _) ∧ (_ → _); first | refine ⟨by omega, fun _ => ?_⟩ | refine ⟨fun _ => ?_, by omega⟩) | refine ⟨by omega, ?_⟩ | refine ⟨⟨_, rfl, by assumption⟩, ?_⟩ | refine ⟨okT_I _, ?_⟩ | refine ⟨okT_S (by omega) (by omega), ?_⟩ | refine ⟨okT_B (by omega) (by omega), ?_⟩ | refine call0 (gd_of rfl) ?_)
          rw [ez]
          refine ⟨z1, ?_⟩
          repeat (first | refine ⟨in_small (by omega) (by omega), ?_⟩ | (show (_ → _) ∧ (_ → _); first | refine ⟨by omega, fun _ => ?_⟩ | refine ⟨fun _ => ?_, by omega⟩) | refine ⟨by omega, ?_⟩ | refine ⟨⟨_, rfl, by assumption⟩, ?_⟩ | refine ⟨okT_I _, ?_⟩ | refine ⟨okT_S (by omega) (by omega), ?_⟩ | refine ⟨okT_B (by omega) (by omega), ?_⟩ | refine call0 (gd_of rfl) ?_)
          refine sp_X17_set w6 (by omega) (by omega) ⟨z4, z5⟩ fun D3 i1 i2 => ?_
          have hold := (hw2 (t + j) (by omega)).congr (D' := D3) (fun i => i1 _ i (by omega) (by omega)) fun i => i1 _ i (by omega) (by omega)
          rw [if_neg (by omega), Int.add_zero] at hold
          have lo := nat_pw (b60 (t := t) (by omega) (t + j)) l60
          simp only [P_X16_sign, i_kil, i_icon, i_lcon, i_null, i_loadI, i_loadL, i_loadR, i_istore, i_lstore, i_astore, i_iinc, i_dup, i_dup2, i_pop, i_iadd, i_isub, i_imul, i_idiv, i_irem, i_ineg, i_iand, i_ior, i_ishl, i_ishr, i_lxor, i_ladd, i_lsub, i_lmul, i_ldiv, i_lrem, i_lneg, i_lshl, i_lcmp, i_i2l, i_l2i, i_i2b, i_i2s, i_ifeq, i_ifne, i_iflt, i_ifge, i_ifgt, i_ifle, i_cmpeq, i_cmpne, i_cmplt, i_cmpge, i_cmpgt, i_cmple, i_acmpeq, i_acmpne, i_ifnull, i_ifnonnull, i_getI, i_getR, i_putI, i_putZ, i_putR, i_ald, i_ldL, i_ldR, i_ast, i_stL, i_stR, i_alen, i_new, i_newa, i_iret, i_zret, i_lret, i_aret, i_vret, i_raise, i_throw, i_recv, i_objinit, i_tsw3, lget, lset, lput1, lput2, lkil, ltrim, largs, isL, takev, dropv, nthv, pushO, catv, gd, true_and, and_true, Option.some.injEq, Prod.mk.injEq, exists_eq_left', if_true, if_false, reduceCtorEq, Bool.false_eq_true, lcmp_ge, lcmp_lt, lcmp_le, lcmp_gt, lcmp_eq, true_or, or_true, not_true_eq_false, not_false_eq_true, false_implies, true_implies, List.length_cons, List.length_nil, M1, w5, k1, k2, et, y1]
          repeat (first | refine ⟨in_small (by omega) (by omega), ?_⟩ | (show (_ → _) ∧ (_ → _); first | refine ⟨by omega, fun _ => ?_⟩ | refine ⟨fun _ => ?_, by omega⟩) | refine ⟨by omega, ?_⟩ | refine ⟨⟨_, rfl, by assumption⟩, ?_⟩ | refine ⟨okT_I _, ?_⟩ | refine ⟨okT_S (by omega) (by omega), ?_⟩ | refine ⟨okT_B (by omega) (by omega), ?_⟩ | refine call0 (gd_of rfl) ?_)
          refine sp_X16_add y2 y2 w6 hold i2 (.inl rfl) (by omega) (by omega) (by omega) (by omega) (by omega) (by omega) fun D4 j1 j2 => ?_
          simp only [P_X16_sign, i_kil, i_icon, i_lcon, i_null, i_loadI, i_loadL, i_loadR, i_istore, i_lstore, i_astore, i_iinc, i_dup, i_dup2, i_pop, i_iadd, i_isub, i_imul, i_idiv, i_irem, i_ineg, i_iand, i_ior, i_ishl, i_ishr, i_lxor, i_ladd, i_lsub, i_lmul, i_ldiv, i_lrem, i_lneg, i_lshl, i_lcmp, i_i2l, i_l2i, i_i2b, i_i2s, i_ifeq, i_ifne, i_iflt, i_ifge, i_ifgt, i_ifle, i_cmpeq, i_cmpne, i_cmplt, i_cmpge, i_cmpgt, i_cmple, i_acmpeq, i_acmpne, i_ifnull, i_ifnonnull, i_getI, i_getR, i_putI, i_putZ, i_putR, i_ald, i_ldL, i_ldR, i_ast, i_stL, i_stR, i_alen, i_new, i_newa, i_iret, i_zret, i_lret, i_aret, i_vret, i_raise, i_throw, i_recv, i_objinit, i_tsw3, lget, lset, lput1, lput2, lkil, ltrim, largs, isL, takev, dropv, nthv, pushO, catv, gd, true_and, and_true, Option.some.injEq, Prod.mk.injEq, exists_eq_left', if_true, if_false, reduceCtorEq, Bool.false_eq_true, lcmp_ge, lcmp_lt, lcmp_le, lcmp_gt, lcmp_eq, true_or, or_true, not_true_eq_false, not_false_eq_true, false_implies, true_implies, List.length_cons, List.length_nil]
          repeat (first | refine ⟨in_small (by omega) (by omega), ?_⟩ | (show (_ → _) ∧ (_ → _); first | refine ⟨by omega, fun _ => ?_⟩ | refine ⟨fun _ => ?_, by omega⟩) | refine ⟨by omega, ?_⟩ | refine ⟨⟨_, rfl, by assumption⟩, ?_⟩ | refine ⟨okT_I _, ?_⟩ | refine ⟨okT_S (by omega) (by omega), ?_⟩ | refine ⟨okT_B (by omega) (by omega), ?_⟩ | refine call0 (gd_of rfl) ?_)
          refine ih2 (j + 1) D4 (by omega) (fun c i c1 c2 c3 c4 c5 c6 => by rw [j1 c i (by omega) (by omega), i1 c i (by omega) (by omega)]; exact hfr2 c i c1 c2 c3 c4 c5 c6) fun k hk => ?_
          by_cases q : k = t + j
          · subst q
            rw [if_pos (by omega), show t + j - t = j by omega]
            rw [Int.one_mul] at j2
            exact j2
          · have := (hw2 k hk).congr (D' := D4) (fun i => by rw [j1 _ i (by omega) (by omega), i1 _ i (by omega) (by omega)]) fun i => by rw [j1 _ i (by omega) (by omega), i1 _ i (by omega) (by omega)]
            by_cases q2 : t ≤ k ∧ k - t < j
            · rw [if_pos q2] at this; rw [if_pos (by omega)]; exact this
            · rw [if_neg q2] at this; rw [if_neg (by omega)]; exact this
      refine wp_in ?_
      simp only [P_X16_sign, i_kil, i_icon, i_lcon, i_null, i_loadI, i_loadL, i_loadR, i_istore, i_lstore, i_astore, i_iinc, i_dup, i_dup2, i_pop, i_iadd, i_isub, i_imul, i_idiv, i_irem, i_ineg, i_iand, i_ior, i_ishl, i_ishr, i_lxor, i_ladd, i_lsub, i_lmul, i_ldiv, i_lrem, i_lneg, i_lshl, i_lcmp, i_i2l, i_l2i, i_i2b, i_i2s, i_ifeq, i_ifne, i_iflt, i_ifge, i_ifgt, i_ifle, i_cmpeq, i_cmpne, i_cmplt, i_cmpge, i_cmpgt, i_cmple, i_acmpeq, i_acmpne, i_ifnull, i_ifnonnull, i_getI, i_getR, i_putI, i_putZ, i_putR, i_ald, i_ldL, i_ldR, i_ast, i_stL, i_stR, i_alen, i_new, i_newa, i_iret, i_zret, i_lret, i_aret, i_vret, i_raise, i_throw, i_recv, i_objinit, i_tsw3, lget, lset, lput1, lput2, lkil, ltrim, largs, isL, takev, dropv, nthv, pushO, catv, gd, true_and, and_true, Option.some.injEq, Prod.mk.injEq, exists_eq_left', if_true, if_false, reduceCtorEq, Bool.false_eq_true, lcmp_ge, lcmp_lt, lcmp_le, lcmp_gt, lcmp_eq, true_or, or_true, not_true_eq_false, not_false_eq_true, false_implies, true_implies, List.length_cons, List.length_nil]
      refine ⟨fun w => by omega, fun _ => ?_⟩
      refine inner (dq + 1) 0 D1 (by omega) hfr fun k hk => ?_
      rw [if_neg (by omega), Int.add_zero]; exact hw k hk
  have clear : ∀ (L j : Nat) (D1 : Dat), j + L = 18 → (∀ c i, (c < M + 10785 ∨ M + 10786 < c) → (c < M + 11242 ∨ M + 11277 < c) → c ≠ M + 1 → c ≠ M + 4221 → c ≠ M + 4222 → (c < M + 11297 ∨ M + 11306 < c) → D1 c i = D c i) → (∀ k, k < j → wD 2 1 D1 (M + 11242 + 2 * k) 0) → zp s (a + 1) (rpt h (w + 1)) ≠ 0 → Wp P_X16_sign E 4 [some (aR M), none, some (aI q), none, some (aI a), some (aI h), some (aI j)] [] B S D1 := by
    intro L
    induction L with
    | zero =>
      intro j D1 hj hfr hw hne
      refine wp_in ?_
      simp only [P_X16_sign, i_kil, i_icon, i_lcon, i_null, i_loadI, i_loadL, i_loadR, i_istore, i_lstore, i_astore, i_iinc, i_dup, i_dup2, i_pop, i_iadd, i_isub, i_imul, i_idiv, i_irem, i_ineg, i_iand, i_ior, i_ishl, i_ishr, i_lxor, i_ladd, i_lsub, i_lmul, i_ldiv, i_lrem, i_lneg, i_lshl, i_lcmp, i_i2l, i_l2i, i_i2b, i_i2s, i_ifeq, i_ifne, i_iflt, i_ifge, i_ifgt, i_ifle, i_cmpeq, i_cmpne, i_cmplt, i_cmpge, i_cmpgt, i_cmple, i_acmpeq, i_acmpne, i_ifnull, i_ifnonnull, i_getI, i_getR, i_putI, i_putZ, i_putR, i_ald, i_ldL, i_ldR, i_ast, i_stL, i_stR, i_alen, i_new, i_newa, i_iret, i_zret, i_lret, i_aret, i_vret, i_raise, i_throw, i_recv, i_objinit, i_tsw3, lget, lset, lput1, lput2, lkil, ltrim, largs, isL, takev, dropv, nthv, pushO, catv, gd, true_and, and_true, Option.some.injEq, Prod.mk.injEq, exists_eq_left', if_true, if_false, reduceCtorEq, Bool.false_eq_true, lcmp_ge, lcmp_lt, lcmp_le, lcmp_gt, lcmp_eq, true_or, or_true, not_true_eq_false, not_false_eq_true, false_implies, true_implies, List.length_cons, List.length_nil]
      refine ⟨fun _ => ?_, fun w => by omega⟩
      exact prod a 0 D1 (by omega) hfr (fun k hk => hw k (by omega)) hne
    | succ L ih =>
      intro j D1 hj hfr hw hne
      obtain ⟨y1, y2⟩ := k3 j (by omega)
      have y3 := y2.1
      refine wp_in ?_
      simp only [P_X16_sign, i_kil, i_icon, i_lcon, i_null, i_loadI, i_loadL, i_loadR, i_istore, i_lstore, i_astore, i_iinc, i_dup, i_dup2, i_pop, i_iadd, i_isub, i_imul, i_idiv, i_irem, i_ineg, i_iand, i_ior, i_ishl, i_ishr, i_lxor, i_ladd, i_lsub, i_lmul, i_ldiv, i_lrem, i_lneg, i_lshl, i_lcmp, i_i2l, i_l2i, i_i2b, i_i2s, i_ifeq, i_ifne, i_iflt, i_ifge, i_ifgt, i_ifle, i_cmpeq, i_cmpne, i_cmplt, i_cmpge, i_cmpgt, i_cmple, i_acmpeq, i_acmpne, i_ifnull, i_ifnonnull, i_getI, i_getR, i_putI, i_putZ, i_putR, i_ald, i_ldL, i_ldR, i_ast, i_stL, i_stR, i_alen, i_new, i_newa, i_iret, i_zret, i_lret, i_aret, i_vret, i_raise, i_throw, i_recv, i_objinit, i_tsw3, lget, lset, lput1, lput2, lkil, ltrim, largs, isL, takev, dropv, nthv, pushO, catv, gd, true_and, and_true, Option.some.injEq, Prod.mk.injEq, exists_eq_left', if_true, if_false, reduceCtorEq, Bool.false_eq_true, lcmp_ge, lcmp_lt, lcmp_le, lcmp_gt, lcmp_eq, true_or, or_true, not_true_eq_false, not_false_eq_true, false_implies, true_implies, List.length_cons, List.length_nil, M1, k1, k2, y1]
      refine ⟨fun w => by omega, fun _ => ?_⟩
      repeat (first | refine ⟨in_small (by omega) (by omega), ?_⟩ | (show (_ → _) ∧ (_ → _); first | refine ⟨by omega, fun _ => ?_⟩ | refine ⟨fun _ => ?_, by omega⟩) | refine ⟨by omega, ?_⟩ | refine ⟨⟨_, rfl, by assumption⟩, ?_⟩ | refine ⟨okT_I _, ?_⟩ | refine ⟨okT_S (by omega) (by omega), ?_⟩ | refine ⟨okT_B (by omega) (by omega), ?_⟩ | refine call0 (gd_of rfl) ?_)
      refine sp_X17_set y2 (by omega) (by omega) (by omega) fun D2 i1 i2 => ?_
      simp only [P_X16_sign, i_kil, i_icon, i_lcon, i_null, i_loadI, i_loadL, i_loadR, i_istore, i_lstore, i_astore, i_iinc, i_dup, i_dup2, i_pop, i_iadd, i_isub, i_imul, i_idiv, i_irem, i_ineg, i_iand, i_ior, i_ishl, i_ishr, i_lxor, i_ladd, i_lsub, i_lmul, i_ldiv, i_lrem, i_lneg, i_lshl, i_lcmp, i_i2l, i_l2i, i_i2b, i_i2s, i_ifeq, i_ifne, i_iflt, i_ifge, i_ifgt, i_ifle, i_cmpeq, i_cmpne, i_cmplt, i_cmpge, i_cmpgt, i_cmple, i_acmpeq, i_acmpne, i_ifnull, i_ifnonnull, i_getI, i_getR, i_putI, i_putZ, i_putR, i_ald, i_ldL, i_ldR, i_ast, i_stL, i_stR, i_alen, i_new, i_newa, i_iret, i_zret, i_lret, i_aret, i_vret, i_raise, i_throw, i_recv, i_objinit, i_tsw3, lget, lset, lput1, lput2, lkil, ltrim, largs, isL, takev, dropv, nthv, pushO, catv, gd, true_and, and_true, Option.some.injEq, Prod.mk.injEq, exists_eq_left', if_true, if_false, reduceCtorEq, Bool.false_eq_true, lcmp_ge, lcmp_lt, lcmp_le, lcmp_gt, lcmp_eq, true_or, or_true, not_true_eq_false, not_false_eq_true, false_implies, true_implies, List.length_cons, List.length_nil]
      repeat (first | refine ⟨in_small (by omega) (by omega), ?_⟩ | (show (_ → _) ∧ (_ → _); first | refine ⟨by omega, fun _ => ?_⟩ | refine ⟨fun _ => ?_, by omega⟩) | refine ⟨by omega, ?_⟩ | refine ⟨⟨_, rfl, by assumption⟩, ?_⟩ | refine ⟨okT_I _, ?_⟩ | refine ⟨okT_S (by omega) (by omega), ?_⟩ | refine ⟨okT_B (by omega) (by omega), ?_⟩ | refine call0 (gd_of rfl) ?_)
      refine ih (j + 1) D2 (by omega) (fun c i c1 c2 c3 c4 c5 c6 => by rw [i1 c i (by omega) (by omega)]; exact hfr c i c1 c2 c3 c4 c5 c6) (fun k hk => ?_) hne
      by_cases w : k = j
      · rw [w]; exact i2
      · exact (hw k (by omega)).congr (fun i => i1 _ i (by omega) (by omega)) fun i => i1 _ i (by omega) (by omega)
  -- the upper end
  refine wp_in ?_
  simp only [P_X16_sign, i_kil, i_icon, i_lcon, i_null, i_loadI, i_loadL, i_loadR, i_istore, i_lstore, i_astore, i_iinc, i_dup, i_dup2, i_pop, i_iadd, i_isub, i_imul, i_idiv, i_irem, i_ineg, i_iand, i_ior, i_ishl, i_ishr, i_lxor, i_ladd, i_lsub, i_lmul, i_ldiv, i_lrem, i_lneg, i_lshl, i_lcmp, i_i2l, i_l2i, i_i2b, i_i2s, i_ifeq, i_ifne, i_iflt, i_ifge, i_ifgt, i_ifle, i_cmpeq, i_cmpne, i_cmplt, i_cmpge, i_cmpgt, i_cmple, i_acmpeq, i_acmpne, i_ifnull, i_ifnonnull, i_getI, i_getR, i_putI, i_putZ, i_putR, i_ald, i_ldL, i_ldR, i_ast, i_stL, i_stR, i_alen, i_new, i_newa, i_iret, i_zret, i_lret, i_aret, i_vret, i_raise, i_throw, i_recv, i_objinit, i_tsw3, lget, lset, lput1, lput2, lkil, ltrim, largs, isL, takev, dropv, nthv, pushO, catv, gd, true_and, and_true, Option.some.injEq, Prod.mk.injEq, exists_eq_left', if_true, if_false, reduceCtorEq, Bool.false_eq_true, lcmp_ge, lcmp_lt, lcmp_le, lcmp_gt, lcmp_eq, true_or, or_true, not_true_eq_false, not_false_eq_true, false_implies, true_implies, List.length_cons, List.length_nil, M1, r1, v5]
  repeat (first | refine ⟨in_small (by omega) (by omega), ?_⟩ | (show (_ → _) ∧ (_ → _); first | refine ⟨by omega, fun _ => ?_⟩ | refine ⟨fun _ => ?_, by omega⟩) | refine ⟨by omega, ?_⟩ | refine ⟨⟨_, rfl, by assumption⟩, ?_⟩ | refine ⟨okT_I _, ?_⟩ | refine ⟨okT_S (by omega) (by omega), ?_⟩ | refine ⟨okT_B (by omega) (by omega), ?_⟩ | refine call0 (gd_of rfl) ?_)
  refine rootSign (s := s) hS ha8 hrn hs47 v6 (by omega) hsh l1 (by omega) rfl fun D1 g1 => ?_
  have h84 : D1 M 84 = dq := by rw [g1 _ _ (by omega) (by omega) (by omega) (by omega)]; exact hpl1
  simp only [P_X16_sign, i_kil, i_icon, i_lcon, i_null, i_loadI, i_loadL, i_loadR, i_istore, i_lstore, i_astore, i_iinc, i_dup, i_dup2, i_pop, i_iadd, i_isub, i_imul, i_idiv, i_irem, i_ineg, i_iand, i_ior, i_ishl, i_ishr, i_lxor, i_ladd, i_lsub, i_lmul, i_ldiv, i_lrem, i_lneg, i_lshl, i_lcmp, i_i2l, i_l2i, i_i2b, i_i2s, i_ifeq, i_ifne, i_iflt, i_ifge, i_ifgt, i_ifle, i_cmpeq, i_cmpne, i_cmplt, i_cmpge, i_cmpgt, i_cmple, i_acmpeq, i_acmpne, i_ifnull, i_ifnonnull, i_getI, i_getR, i_putI, i_putZ, i_putR, i_ald, i_ldL, i_ldR, i_ast, i_stL, i_stR, i_alen, i_new, i_newa, i_iret, i_zret, i_lret, i_aret, i_vret, i_raise, i_throw, i_recv, i_objinit, i_tsw3, lget, lset, lput1, lput2, lkil, ltrim, largs, isL, takev, dropv, nthv, pushO, catv, gd, true_and, and_true, Option.some.injEq, Prod.mk.injEq, exists_eq_left', if_true, if_false, reduceCtorEq, Bool.false_eq_true, lcmp_ge, lcmp_lt, lcmp_le, lcmp_gt, lcmp_eq, true_or, or_true, not_true_eq_false, not_false_eq_true, false_implies, true_implies, List.length_cons, List.length_nil, M1, r3, v5, h84]
  unfold mlw
  rw [mpt_rpt]
  refine ⟨fun q2 => ?_, fun q2 => ?_⟩
  · refine clear 18 0 D1 (by omega) (fun c i c1 c2 c3 c4 c5 c6 => g1 c i c3 c4 c5 c6) (fun k hk => by omega) (sgr_ne.mp q2)
  · repeat (first | refine ⟨in_small (by omega) (by omega), ?_⟩ | (show (_ → _) ∧ (_ → _); first | refine ⟨by omega, fun _ => ?_⟩ | refine ⟨fun _ => ?_, by omega⟩) | refine ⟨by omega, ?_⟩ | refine ⟨⟨_, rfl, by assumption⟩, ?_⟩ | refine ⟨okT_I _, ?_⟩ | refine ⟨okT_S (by omega) (by omega), ?_⟩ | refine ⟨okT_B (by omega) (by omega), ?_⟩ | refine call0 (gd_of rfl) ?_)
    refine sp_X16_signAt (f := g) (d := dq) (c := 7) (av := mlw h (w + 1)) hM hms r4 (by omega) (by omega) hdq (fun k hk => (hpn k hk).congr (fun i => g1 _ i (by omega) (by omega) (by omega) (by omega)) fun i => g1 _ i (by omega) (by omega) (by omega) (by omega)) (fun k hk => Nat.le_trans (hg99 k hk) (by decide)) (by omega) (by unfold mgB; omega) v6 (by omega) (by omega) (by omega) (by omega) (by omega) (hsh.congr (fun i => g1 _ i (by omega) (by omega) (by omega) (by omega)) fun i => g1 _ i (by omega) (by omega) (by omega) (by omega)) l1 (by omega) rfl rfl fun D2 g2 => ?_
    unfold mlw
    rw [mpt_rpt]
    have hsc := sgr_cases (zp g (dq + 1) (rpt h (w + 1)))
    have K2 := K D2 (sgr (zp g (dq + 1) (rpt h (w + 1)))) (fun c i c1 c2 c3 c4 c5 c6 => by rw [g2 c i (by omega) c4 c5 c6, g1 c i (by omega) c4 c5 c6]) (fun i hi => by rw [g2 _ i (by omega) (by omega) (by omega) (by omega), g1 _ i (by omega) (by omega) (by omega) (by omega)]) (.inl ⟨sgz _ q2, rfl⟩)
    generalize sgr (zp g (dq + 1) (rpt h (w + 1))) = sg at *
    simp only [P_X16_sign, i_kil, i_icon, i_lcon, i_null, i_loadI, i_loadL, i_loadR, i_istore, i_lstore, i_astore, i_iinc, i_dup, i_dup2, i_pop, i_iadd, i_isub, i_imul, i_idiv, i_irem, i_ineg, i_iand, i_ior, i_ishl, i_ishr, i_lxor, i_ladd, i_lsub, i_lmul, i_ldiv, i_lrem, i_lneg, i_lshl, i_lcmp, i_i2l, i_l2i, i_i2b, i_i2s, i_ifeq, i_ifne, i_iflt, i_ifge, i_ifgt, i_ifle, i_cmpeq, i_cmpne, i_cmplt, i_cmpge, i_cmpgt, i_cmple, i_acmpeq, i_acmpne, i_ifnull, i_ifnonnull, i_getI, i_getR, i_putI, i_putZ, i_putR, i_ald, i_ldL, i_ldR, i_ast, i_stL, i_stR, i_alen, i_new, i_newa, i_iret, i_zret, i_lret, i_aret, i_vret, i_raise, i_throw, i_recv, i_objinit, i_tsw3, lget, lset, lput1, lput2, lkil, ltrim, largs, isL, takev, dropv, nthv, pushO, catv, gd, true_and, and_true, Option.some.injEq, Prod.mk.injEq, exists_eq_left', if_true, if_false, reduceCtorEq, Bool.false_eq_true, lcmp_ge, lcmp_lt, lcmp_le, lcmp_gt, lcmp_eq, true_or, or_true, not_true_eq_false, not_false_eq_true, false_implies, true_implies, List.length_cons, List.length_nil]
    exact ⟨in_small (by omega) (by omega), K2⟩
end MSG4
