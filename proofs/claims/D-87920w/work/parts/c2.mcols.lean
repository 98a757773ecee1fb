/-! the model's columns -/
set_option maxRecDepth 100000
set_option linter.unusedVariables false
def zdg (z : Int) : Int := z % 16 + z / 16 % 16 + z / 256
theorem xexp_at {E : Ex} {B : Nat × Nat} {S : Stat} {D : Dat} {z x : Int} {l : Nat} (hz : 0 ≤ z ∧ z < 4096) (hl : l < 3) (hx : x = l) (k : E (.inl (some (.inl (if l = 0 then z % 16 else if l = 1 then z / 16 % 16 else z / 256)))) B S D) : Wp P_X16_exponent E 0 [some (aI z), some (aI x)] [] B S D := by
  subst hx
  have key : andI (shrI z (4 * (l : Int))) 15 = if l = 0 then z % 16 else if l = 1 then z / 16 % 16 else z / 256 := by
    have hl' : l = 0 ∨ l = 1 ∨ l = 2 := by omega
    rcases hl' with rfl | rfl | rfl
    · have e := shr_lit (x := z) 0 hz.1 (by omega) (by omega)
      rw [show (4 * ((0 : Nat) : Int)) = ((0 : Nat) : Int) from rfl, e, and15 (by omega) (by omega)]
      simp
    · have e := shr_lit (x := z) 4 hz.1 (by omega) (by omega)
      rw [show (4 * ((1 : Nat) : Int)) = ((4 : Nat) : Int) from rfl, e, and15 (by omega) (by omega)]
      simp
    · have e := shr_lit (x := z) 8 hz.1 (by omega) (by omega)
      rw [show (4 * ((2 : Nat) : Int)) = ((8 : Nat) : Int) from rfl, e, and15 (by omega) (by omega)]
      simp only [show ¬ ((2 : Nat) = 0) by decide, show ¬ ((2 : Nat) = 1) by decide, if_false]
      have : ((2 ^ 8 : Nat) : Int) = 256 := by decide
      rw [this]
      omega
  refine wp_in ?_
  simp only [P_X16_exponent, i_kil, i_icon, i_lcon, i_null, i_loadI, i_loadL, i_loadR, i_istore, i_lstore, i_astore, i_iinc, i_dup, i_dup2, i_pop, i_iadd, i_isub, i_imul, i_idiv, i_irem, i_ineg, i_iand, i_ior, i_ishl, i_ishr, i_lxor, i_ladd, i_lsub, i_lmul, i_ldiv, i_lrem, i_lneg, i_lshl, i_lcmp, i_i2l, i_l2i, i_i2b, i_i2s, i_ifeq, i_ifne, i_iflt, i_ifge, i_ifgt, i_ifle, i_cmpeq, i_cmpne, i_cmplt, i_cmpge, i_cmpgt, i_cmple, i_acmpeq, i_acmpne, i_ifnull, i_ifnonnull, i_getI, i_getR, i_putI, i_putZ, i_putR, i_ald, i_ldL, i_ldR, i_ast, i_stL, i_stR, i_alen, i_new, i_newa, i_iret, i_zret, i_lret, i_aret, i_vret, i_raise, i_throw, i_recv, i_objinit, i_tsw3, lget, lset, lput1, lput2, lkil, ltrim, largs, isL, takev, dropv, nthv, pushO, catv, gd, true_and, and_true, Option.some.injEq, Prod.mk.injEq, exists_eq_left', if_true, if_false, reduceCtorEq, Bool.false_eq_true, lcmp_ge, lcmp_lt, lcmp_le, lcmp_gt, lcmp_eq, true_or, or_true, not_true_eq_false, not_false_eq_true, false_implies, true_implies, List.length_cons, List.length_nil, key]
  exact ⟨in_small (by omega) (by omega), k⟩
theorem zdeg_at {E : Ex} {B : Nat × Nat} {S : Stat} {D : Dat} {z : Int} (hz : 0 ≤ z ∧ z < 4096) (k : E (.inl (some (.inl (zdg z)))) B S D) : Wp P_X16_degreeOf E 0 [some (aI z)] [] B S D := by
  refine wp_in ?_
  simp only [P_X16_degreeOf, i_kil, i_icon, i_lcon, i_null, i_loadI, i_loadL, i_loadR, i_istore, i_lstore, i_astore, i_iinc, i_dup, i_dup2, i_pop, i_iadd, i_isub, i_imul, i_idiv, i_irem, i_ineg, i_iand, i_ior, i_ishl, i_ishr, i_lxor, i_ladd, i_lsub, i_lmul, i_ldiv, i_lrem, i_lneg, i_lshl, i_lcmp, i_i2l, i_l2i, i_i2b, i_i2s, i_ifeq, i_ifne, i_iflt, i_ifge, i_ifgt, i_ifle, i_cmpeq, i_cmpne, i_cmplt, i_cmpge, i_cmpgt, i_cmple, i_acmpeq, i_acmpne, i_ifnull, i_ifnonnull, i_getI, i_getR, i_putI, i_putZ, i_putR, i_ald, i_ldL, i_ldR, i_ast, i_stL, i_stR, i_alen, i_new, i_newa, i_iret, i_zret, i_lret, i_aret, i_vret, i_raise, i_throw, i_recv, i_objinit, i_tsw3, lget, lset, lput1, lput2, lkil, ltrim, largs, isL, takev, dropv, nthv, pushO, catv, gd, true_and, and_true, Option.some.injEq, Prod.mk.injEq, exists_eq_left', if_true, if_false, reduceCtorEq, Bool.false_eq_true, lcmp_ge, lcmp_lt, lcmp_le, lcmp_gt, lcmp_eq, true_or, or_true, not_true_eq_false, not_false_eq_true, false_implies, true_implies, List.length_cons, List.length_nil]
  repeat (first | refine ⟨in_small (by omega) (by omega), ?_⟩ | (show (_ → _) ∧ (_ → _); first | refine ⟨by omega, fun _ => ?_⟩ | refine ⟨fun _ => ?_, by omega⟩) | refine ⟨by omega, ?_⟩ | refine ⟨⟨_, rfl, by assumption⟩, ?_⟩ | refine ⟨okT_I _, ?_⟩ | refine ⟨okT_S (by omega) (by omega), ?_⟩ | refine ⟨okT_B (by omega) (by omega), ?_⟩ | refine call0 (gd_of rfl) ?_)
  refine xexp_at (l := 0) hz (by omega) rfl ?_
  simp only [P_X16_degreeOf, i_kil, i_icon, i_lcon, i_null, i_loadI, i_loadL, i_loadR, i_istore, i_lstore, i_astore, i_iinc, i_dup, i_dup2, i_pop, i_iadd, i_isub, i_imul, i_idiv, i_irem, i_ineg, i_iand, i_ior, i_ishl, i_ishr, i_lxor, i_ladd, i_lsub, i_lmul, i_ldiv, i_lrem, i_lneg, i_lshl, i_lcmp, i_i2l, i_l2i, i_i2b, i_i2s, i_ifeq, i_ifne, i_iflt, i_ifge, i_ifgt, i_ifle, i_cmpeq, i_cmpne, i_cmplt, i_cmpge, i_cmpgt, i_cmple, i_acmpeq, i_acmpne, i_ifnull, i_ifnonnull, i_getI, i_getR, i_putI, i_putZ, i_putR, i_ald, i_ldL, i_ldR, i_ast, i_stL, i_stR, i_alen, i_new, i_newa, i_iret, i_zret, i_lret, i_aret, i_vret, i_raise, i_throw, i_recv, i_objinit, i_tsw3, lget, lset, lput1, lput2, lkil, ltrim, largs, isL, takev, dropv, nthv, pushO, catv, gd, true_and, and_true, Option.some.injEq, Prod.mk.injEq, exists_eq_left', if_true, if_false, reduceCtorEq, Bool.false_eq_true, lcmp_ge, lcmp_lt, lcmp_le, lcmp_gt, lcmp_eq, true_or, or_true, not_true_eq_false, not_false_eq_true, false_implies, true_implies, List.length_cons, List.length_nil]
  repeat (first | refine ⟨in_small (by omega) (by omega), ?_⟩ | (show (_ → _) ∧ (_ → _); first | refine ⟨by omega, fun _ => ?_⟩ | refine ⟨fun _ => ?_, by omega⟩) | refine ⟨by omega, ?_⟩ | refine ⟨⟨_, rfl, by assumption⟩, ?_⟩ | refine ⟨okT_I _, ?_⟩ | refine ⟨okT_S (by omega) (by omega), ?_⟩ | refine ⟨okT_B (by omega) (by omega), ?_⟩ | refine call0 (gd_of rfl) ?_)
  refine xexp_at (l := 1) hz (by omega) rfl ?_
  simp only [P_X16_degreeOf, i_kil, i_icon, i_lcon, i_null, i_loadI, i_loadL, i_loadR, i_istore, i_lstore, i_astore, i_iinc, i_dup, i_dup2, i_pop, i_iadd, i_isub, i_imul, i_idiv, i_irem, i_ineg, i_iand, i_ior, i_ishl, i_ishr, i_lxor, i_ladd, i_lsub, i_lmul, i_ldiv, i_lrem, i_lneg, i_lshl, i_lcmp, i_i2l, i_l2i, i_i2b, i_i2s, i_ifeq, i_ifne, i_iflt, i_ifge, i_ifgt, i_ifle, i_cmpeq, i_cmpne, i_cmplt, i_cmpge, i_cmpgt, i_cmple, i_acmpeq, i_acmpne, i_ifnull, i_ifnonnull, i_getI, i_getR, i_putI, i_putZ, i_putR, i_ald, i_ldL, i_ldR, i_ast, i_stL, i_stR, i_alen, i_new, i_newa, i_iret, i_zret, i_lret, i_aret, i_vret, i_raise, i_throw, i_recv, i_objinit, i_tsw3, lget, lset, lput1, lput2, lkil, ltrim, largs, isL, takev, dropv, nthv, pushO, catv, gd, true_and, and_true, Option.some.injEq, Prod.mk.injEq, exists_eq_left', if_true, if_false, reduceCtorEq, Bool.false_eq_true, lcmp_ge, lcmp_lt, lcmp_le, lcmp_gt, lcmp_eq, true_or, or_true, not_true_eq_false, not_false_eq_true, false_implies, true_implies, List.length_cons, List.length_nil]
  refine ⟨in_small (by omega) (by omega), call0 (gd_of rfl) ?_⟩
  refine xexp_at (l := 2) hz (by omega) rfl ?_
  simp only [P_X16_degreeOf, i_kil, i_icon, i_lcon, i_null, i_loadI, i_loadL, i_loadR, i_istore, i_lstore, i_astore, i_iinc, i_dup, i_dup2, i_pop, i_iadd, i_isub, i_imul, i_idiv, i_irem, i_ineg, i_iand, i_ior, i_ishl, i_ishr, i_lxor, i_ladd, i_lsub, i_lmul, i_ldiv, i_lrem, i_lneg, i_lshl, i_lcmp, i_i2l, i_l2i, i_i2b, i_i2s, i_ifeq, i_ifne, i_iflt, i_ifge, i_ifgt, i_ifle, i_cmpeq, i_cmpne, i_cmplt, i_cmpge, i_cmpgt, i_cmple, i_acmpeq, i_acmpne, i_ifnull, i_ifnonnull, i_getI, i_getR, i_putI, i_putZ, i_putR, i_ald, i_ldL, i_ldR, i_ast, i_stL, i_stR, i_alen, i_new, i_newa, i_iret, i_zret, i_lret, i_aret, i_vret, i_raise, i_throw, i_recv, i_objinit, i_tsw3, lget, lset, lput1, lput2, lkil, ltrim, largs, isL, takev, dropv, nthv, pushO, catv, gd, true_and, and_true, Option.some.injEq, Prod.mk.injEq, exists_eq_left', if_true, if_false, reduceCtorEq, Bool.false_eq_true, lcmp_ge, lcmp_lt, lcmp_le, lcmp_gt, lcmp_eq, true_or, or_true, not_true_eq_false, not_false_eq_true, false_implies, true_implies, List.length_cons, List.length_nil]
  simp only [show ¬ ((2 : Nat) = 0) by decide, show ¬ ((2 : Nat) = 1) by decide, if_false]
  exact ⟨in_small (by omega) (by omega), k⟩
theorem zdg_term {z : Int} (hz : 0 ≤ z ∧ z < 4096) (h : zdg z ≤ 12) : ∃ t, t < 455 ∧ tcode t = z ∧ (tdg t : Int) = zdg z := by
  unfold zdg at h
  have hs : (z % 16).toNat + (z / 16 % 16).toNat + (z / 256).toNat ≤ 12 := by omega
  obtain ⟨h1, h2, h3⟩ := tn_tx (a := (z % 16).toNat) (b := (z / 16 % 16).toNat) (c := (z / 256).toNat) hs
  refine ⟨tn (z % 16).toNat (z / 16 % 16).toNat (z / 256).toNat, tn_lt hs, ?_, ?_⟩
  · unfold tcode; rw [h1, h2, h3]; omega
  · unfold tdg zdg; rw [h1, h2, h3]; omega
theorem zdg_code {t : Nat} (h : t < 455) : zdg (tcode t) = tdg t := by
  have hb := tx_le h
  have d : (tcode t : Int) % 16 = tx0 t ∧ (tcode t : Int) / 16 % 16 = tx1 t ∧ (tcode t : Int) / 256 = tx2 t := by
    unfold tcode
    omega
  unfold zdg
  rw [d.1, d.2.1, d.2.2]
  unfold tdg
  omega
/-- columns of the terms of degree d at most, so far as their codes are below z -/
def isColZ (c g d : Nat) (z : Int) (n : Nat) (tm : Nat → Nat) : Prop := (∀ i, i < n → tm i < 455 ∧ tdg (tm i) ≤ d ∧ tcode (tm i) < z) ∧ (∀ i j, i < j → j < n → 0 < rankI c g (tm i) (tm j)) ∧ ∀ t, t < 455 → tdg t ≤ d → tcode t < z → ∃ i, i < n ∧ tm i = t
theorem isColZ.inj {c g d n : Nat} {z : Int} {tm : Nat → Nat} (ho : ordOK c g) (h : isColZ c g d z n tm) {i j : Nat} (hi : i < n) (hj : j < n) (e : tm i = tm j) : i = j := by
  rcases Nat.lt_trichotomy i j with w | w | w
  · have := h.2.1 i j w hj; rw [e, rank_self ho] at this; omega
  · exact w
  · have := h.2.1 j i w hi; rw [e, rank_self ho] at this; omega
theorem isColZ.room {c g d n : Nat} {z : Int} {tm : Nat → Nat} (ho : ordOK c g) (h : isColZ c g d z n tm) (hd : d ≤ 4) : n ≤ 35 := by
  rcases Nat.lt_or_ge 35 n with w | w
  · exfalso
    obtain ⟨i, j, hij, hj, he⟩ := pigeon 35 36 (fun i => c4 (tm i)) (by omega) fun i hi => by
      have := h.1 i (by omega)
      show c4 (tm i) < 35
      rw [← c4_all]; exact c4_pos 455 this.1 (by omega)
    have hi' := h.1 i (by omega)
    have hj' := h.1 j (by omega)
    have := h.inj ho (by omega) (by omega) (c4_inj (by omega) (by omega) he)
    omega
  · exact w
theorem isColZ.ins {c g d n p t : Nat} {tm : Nat → Nat} (ho : ordOK c g) (h : isColZ c g d (tcode t) n tm) (ht : t < 455) (hd : tdg t ≤ d) (hp : p ≤ n) (hlo : ∀ i, p ≤ i → i < n → 0 < rankI c g t (tm i)) (hhi : 0 < p → ¬ 0 < rankI c g t (tm (p - 1))) : isColZ c g d (tcode t + 1) (n + 1) (cins tm p t) := by
  obtain ⟨h1, h2, h3⟩ := h
  have hup : ∀ i, i < p → 0 < rankI c g (tm i) t := fun i hi => by
    have w := hhi (by omega)
    have b1 := h1 (p - 1) (by omega)
    have a := rank_anti ho t (tm (p - 1))
    have b := rank_ne ho (t := t) (u := tm (p - 1)) ht b1.1 (fun e => by rw [← e] at b1; omega)
    have e : 0 < rankI c g (tm (p - 1)) t := by omega
    by_cases x : i = p - 1
    · rw [x]; exact e
    · exact rank_trans ho (h2 i (p - 1) (by omega) (by omega)) e
  refine ⟨fun i hi => ?_, fun i j hij hj => ?_, fun u hu hd2 hz => ?_⟩
  · unfold cins
    split
    · have := h1 i (by omega); exact ⟨this.1, this.2.1, by omega⟩
    · split
      · exact ⟨ht, hd, by omega⟩
      · have := h1 (i - 1) (by omega); exact ⟨this.1, this.2.1, by omega⟩
  · unfold cins
    rcases Nat.lt_trichotomy i p with w | w | w
    · rw [if_pos w]
      rcases Nat.lt_trichotomy j p with y | y | y
      · rw [if_pos y]; exact h2 i j hij (by omega)
      · rw [if_neg (by omega), if_pos y]; exact hup i w
      · rw [if_neg (by omega), if_neg (by omega)]; exact h2 i (j - 1) (by omega) (by omega)
    · rw [if_neg (by omega), if_pos w, if_neg (by omega), if_neg (by omega)]
      exact hlo (j - 1) (by omega) (by omega)
    · rw [if_neg (by omega), if_neg (by omega), if_neg (by omega), if_neg (by omega)]
      exact h2 (i - 1) (j - 1) (by omega) (by omega)
  · by_cases e : u = t
    · exact ⟨p, by omega, by unfold cins; rw [if_neg (Nat.lt_irrefl _), if_pos rfl, e]⟩
    · obtain ⟨i, hi, rfl⟩ := h3 u hu hd2 (by
        have : tcode u ≠ tcode t := fun w => e (tcode_inj hu ht w)
        omega)
      rcases Nat.lt_or_ge i p with w | w
      · exact ⟨i, by omega, by unfold cins; rw [if_pos w]⟩
      · exact ⟨i + 1, by omega, by unfold cins; rw [if_neg (by omega), if_neg (by omega), Nat.add_sub_cancel]⟩
/-- the model's columns stand -/
def mcS (S : Stat) (M : Nat) : Prop := S.1 M = some (16, 0) ∧ S.2.1 M 50 = some (M + 5697) ∧ S.1 (M + 5697) = some (100, 35) ∧ S.2.1 M 51 = some (M + 5698) ∧ S.1 (M + 5698) = some (100, 4096)
def isColM (c g d n : Nat) (tm : Nat → Nat) : Prop := (∀ i, i < n → tm i < 455 ∧ tdg (tm i) ≤ d) ∧ (∀ i j, i < j → j < n → 0 < rankI c g (tm i) (tm j)) ∧ (∀ t, t < 455 → tdg t ≤ d → ∃ i, i < n ∧ tm i = t) ∧ n ≤ 35
def mcD (D : Dat) (M c g d n : Nat) (tm : Nat → Nat) : Prop := isColM c g d n tm ∧ D M 49 = n ∧ ∀ i : Nat, i < n → D (M + 5697) i = tcode (tm i) ∧ D (M + 5698) (tcode (tm i)) = i
set_option maxHeartbeats 4000000 in
theorem sp_X16_gatherColumns {E : Ex} {B : Nat × Nat} {S : Stat} {D : Dat} {M c g d : Nat} {zn : Int} (hM : mcS S M) (ho : ordOK c g) (hd : d ≤ 4) (h45 : D M 45 = (c : Int) - 9) (h46 : D M 46 = zn) (hz : zn = g ∨ c ≠ 12) (h47 : D M 47 = d)
    (K : ∀ (D' : Dat) (n : Nat) (tm : Nat → Nat), (∀ a i, (a ≠ M ∨ i ≠ 49) → a ≠ M + 5697 → a ≠ M + 5698 → D' a i = D a i) → mcD D' M c g d n tm → E (.inl none) B S D') : Wp P_X16_gatherColumns E 0 [some (aR M)] [] B S D := by
  obtain ⟨M1, m1, m2, m3, m4⟩ := hM
  -- the last loop
  have last : ∀ (n : Nat) (tm : Nat → Nat), isColZ c g d 4096 n tm → ∀ (L k : Nat) (D1 : Dat), k + L = n → (∀ a i, (a ≠ M ∨ i ≠ 49) → a ≠ M + 5697 → a ≠ M + 5698 → D1 a i = D a i) → D1 M 49 = n → (∀ i : Nat, i < n → D1 (M + 5697) i = tcode (tm i)) → (∀ i : Nat, i < k → D1 (M + 5698) (tcode (tm i)) = i) → Wp P_X16_gatherColumns E 5 [some (aR M), some (aI k)] [] B S D1 := by
    intro n tm hT L
    have hn35 := hT.room ho hd
    induction L with
    | zero =>
      intro k D1 hk f1 f2 f3 f4
      have : k = n := by omega
      subst this
      refine wp_in ?_
      simp only [P_X16_gatherColumns, i_kil, i_icon, i_lcon, i_null, i_loadI, i_loadL, i_loadR, i_istore, i_lstore, i_astore, i_iinc, i_dup, i_dup2, i_pop, i_iadd, i_isub, i_imul, i_idiv, i_irem, i_ineg, i_iand, i_ior, i_ishl, i_ishr, i_lxor, i_ladd, i_lsub, i_lmul, i_ldiv, i_lrem, i_lneg, i_lshl, i_lcmp, i_i2l, i_l2i, i_i2b, i_i2s, i_ifeq, i_ifne, i_iflt, i_ifge, i_ifgt, i_ifle, i_cmpeq, i_cmpne, i_cmplt, i_cmpge, i_cmpgt, i_cmple, i_acmpeq, i_acmpne, i_ifnull, i_ifnonnull, i_getI, i_getR, i_putI, i_putZ, i_putR, i_ald, i_ldL, i_ldR, i_ast, i_stL, i_stR, i_alen, i_new, i_newa, i_iret, i_zret, i_lret, i_aret, i_vret, i_raise, i_throw, i_recv, i_objinit, i_tsw3, lget, lset, lput1, lput2, lkil, ltrim, largs, isL, takev, dropv, nthv, pushO, catv, gd, true_and, and_true, Option.some.injEq, Prod.mk.injEq, exists_eq_left', if_true, if_false, reduceCtorEq, Bool.false_eq_true, lcmp_ge, lcmp_lt, lcmp_le, lcmp_gt, lcmp_eq, true_or, or_true, not_true_eq_false, not_false_eq_true, false_implies, true_implies, List.length_cons, List.length_nil, M1, f2]
      repeat (first | refine ⟨in_small (by omega) (by omega), ?_⟩ | (show (_ → _) ∧ (_ → _); first | refine ⟨by omega, fun _ => ?_⟩ | refine ⟨fun _ => ?_, by omega⟩) | refine ⟨by omega, ?_⟩ | refine ⟨⟨_, rfl, by assumption⟩, ?_⟩ | refine ⟨okT_I _, ?_⟩ | refine ⟨okT_S (by omega) (by omega), ?_⟩ | refine ⟨okT_B (by omega) (by omega), ?_⟩ | refine call0 (gd_of rfl) ?_)
      refine K D1 k tm f1 ⟨⟨fun i hi => ⟨(hT.1 i hi).1, (hT.1 i hi).2.1⟩, hT.2.1, fun t ht h => hT.2.2 t ht h (by have := tcode_lim ht; omega), hn35⟩, f2, fun i hi => ⟨f3 i hi, f4 i hi⟩⟩
    | succ L ih =>
      intro k D1 hk f1 f2 f3 f4
      have e1 := f3 k (by omega)
      have b1 := hT.1 k (by omega)
      have b2 := tcode_lim b1.1
      refine wp_in ?_
      simp only [P_X16_gatherColumns, i_kil, i_icon, i_lcon, i_null, i_loadI, i_loadL, i_loadR, i_istore, i_lstore, i_astore, i_iinc, i_dup, i_dup2, i_pop, i_iadd, i_isub, i_imul, i_idiv, i_irem, i_ineg, i_iand, i_ior, i_ishl, i_ishr, i_lxor, i_ladd, i_lsub, i_lmul, i_ldiv, i_lrem, i_lneg, i_lshl, i_lcmp, i_i2l, i_l2i, i_i2b, i_i2s, i_ifeq, i_ifne, i_iflt, i_ifge, i_ifgt, i_ifle, i_cmpeq, i_cmpne, i_cmplt, i_cmpge, i_cmpgt, i_cmple, i_acmpeq, i_acmpne, i_ifnull, i_ifnonnull, i_getI, i_getR, i_putI, i_putZ, i_putR, i_ald, i_ldL, i_ldR, i_ast, i_stL, i_stR, i_alen, i_new, i_newa, i_iret, i_zret, i_lret, i_aret, i_vret, i_raise, i_throw, i_recv, i_objinit, i_tsw3, lget, lset, lput1, lput2, lkil, ltrim, largs, isL, takev, dropv, nthv, pushO, catv, gd, true_and, and_true, Option.some.injEq, Prod.mk.injEq, exists_eq_left', if_true, if_false, reduceCtorEq, Bool.false_eq_true, lcmp_ge, lcmp_lt, lcmp_le, lcmp_gt, lcmp_eq, true_or, or_true, not_true_eq_false, not_false_eq_true, false_implies, true_implies, List.length_cons, List.length_nil, M1, m1, m2, m3, m4, f2, e1]
      repeat (first | refine ⟨in_small (by omega) (by omega), ?_⟩ | (show (_ → _) ∧ (_ → _); first | refine ⟨by omega, fun _ => ?_⟩ | refine ⟨fun _ => ?_, by omega⟩) | refine ⟨by omega, ?_⟩ | refine ⟨⟨_, rfl, by assumption⟩, ?_⟩ | refine ⟨okT_I _, ?_⟩ | refine ⟨okT_S (by omega) (by omega), ?_⟩ | refine ⟨okT_B (by omega) (by omega), ?_⟩ | refine call0 (gd_of rfl) ?_)
      have fr : ∀ a i, a ≠ M + 5698 → pmu D1 (M + 5698) (tcode (tm k)) (k : Int) a i = D1 a i := fun a i h => by simp only [pmu]; rw [if_neg (fun w => h w.1)]
      refine ih (k + 1) _ (by omega) (fun a i a1 a2 a3 => by rw [fr a i a3]; exact f1 a i a1 a2 a3) (by rw [fr _ _ (by omega)]; exact f2) (fun i hi => by rw [fr _ _ (by omega)]; exact f3 i hi) fun i hi => ?_
      simp only [pmu, true_and]
      by_cases w : i = k
      · rw [w, if_pos rfl]
      · rw [if_neg (fun x => w (hT.inj ho (by omega) (by omega) (tcode_inj (hT.1 i (by omega)).1 b1.1 x)))]
        exact f4 i (by omega)
  have loop : ∀ (L : Nat) (z : Nat) (D1 : Dat) (n : Nat) (tm : Nat → Nat), z + L = 4096 → (∀ a i, (a ≠ M ∨ i ≠ 49) → a ≠ M + 5697 → a ≠ M + 5698 → D1 a i = D a i) → D1 M 49 = n → isColZ c g d z n tm → (∀ i : Nat, i < n → D1 (M + 5697) i = tcode (tm i)) → Wp P_X16_gatherColumns E 1 [some (aR M), some (aI z)] [] B S D1 := by
    intro L
    induction L with
    | zero =>
      intro z D1 n tm hz1 f1 f2 f3 f4
      have : z = 4096 := by omega
      subst this
      refine wp_in ?_
      simp only [P_X16_gatherColumns, i_kil, i_icon, i_lcon, i_null, i_loadI, i_loadL, i_loadR, i_istore, i_lstore, i_astore, i_iinc, i_dup, i_dup2, i_pop, i_iadd, i_isub, i_imul, i_idiv, i_irem, i_ineg, i_iand, i_ior, i_ishl, i_ishr, i_lxor, i_ladd, i_lsub, i_lmul, i_ldiv, i_lrem, i_lneg, i_lshl, i_lcmp, i_i2l, i_l2i, i_i2b, i_i2s, i_ifeq, i_ifne, i_iflt, i_ifge, i_ifgt, i_ifle, i_cmpeq, i_cmpne, i_cmplt, i_cmpge, i_cmpgt, i_cmple, i_acmpeq, i_acmpne, i_ifnull, i_ifnonnull, i_getI, i_getR, i_putI, i_putZ, i_putR, i_ald, i_ldL, i_ldR, i_ast, i_stL, i_stR, i_alen, i_new, i_newa, i_iret, i_zret, i_lret, i_aret, i_vret, i_raise, i_throw, i_recv, i_objinit, i_tsw3, lget, lset, lput1, lput2, lkil, ltrim, largs, isL, takev, dropv, nthv, pushO, catv, gd, true_and, and_true, Option.some.injEq, Prod.mk.injEq, exists_eq_left', if_true, if_false, reduceCtorEq, Bool.false_eq_true, lcmp_ge, lcmp_lt, lcmp_le, lcmp_gt, lcmp_eq, true_or, or_true, not_true_eq_false, not_false_eq_true, false_implies, true_implies, List.length_cons, List.length_nil]
      repeat (first | refine ⟨in_small (by omega) (by omega), ?_⟩ | (show (_ → _) ∧ (_ → _); first | refine ⟨by omega, fun _ => ?_⟩ | refine ⟨fun _ => ?_, by omega⟩) | refine ⟨by omega, ?_⟩ | refine ⟨⟨_, rfl, by assumption⟩, ?_⟩ | refine ⟨okT_I _, ?_⟩ | refine ⟨okT_S (by omega) (by omega), ?_⟩ | refine ⟨okT_B (by omega) (by omega), ?_⟩ | refine call0 (gd_of rfl) ?_)
      exact last n tm f3 n 0 D1 (by omega) f1 f2 f4 fun i hi => by omega
    | succ L ih =>
      intro z D1 n tm hz1 f1 f2 f3 f4
      have hn35 := f3.room ho hd
      have e47 : D1 M 47 = d := by rw [f1 _ _ (.inr (by decide)) (by omega) (by omega)]; exact h47
      have next : ∀ (D2 : Dat) (n2 : Nat) (tm2 : Nat → Nat), (∀ a i, (a ≠ M ∨ i ≠ 49) → a ≠ M + 5697 → a ≠ M + 5698 → D2 a i = D a i) → D2 M 49 = n2 → isColZ c g d ((z : Int) + 1) n2 tm2 → (∀ i : Nat, i < n2 → D2 (M + 5697) i = tcode (tm2 i)) → Wp P_X16_gatherColumns E 4 [some (aR M), some (aI z)] [] B S D2 := fun D2 n2 tm2 a1 a2 a3 a4 => by
        refine wp_in ?_
        simp only [P_X16_gatherColumns, i_kil, i_icon, i_lcon, i_null, i_loadI, i_loadL, i_loadR, i_istore, i_lstore, i_astore, i_iinc, i_dup, i_dup2, i_pop, i_iadd, i_isub, i_imul, i_idiv, i_irem, i_ineg, i_iand, i_ior, i_ishl, i_ishr, i_lxor, i_ladd, i_lsub, i_lmul, i_ldiv, i_lrem, i_lneg, i_lshl, i_lcmp, i_i2l, i_l2i, i_i2b, i_i2s, i_ifeq, i_ifne, i_iflt, i_ifge, i_ifgt, i_ifle, i_cmpeq, i_cmpne, i_cmplt, i_cmpge, i_cmpgt, i_cmple, i_acmpeq, i_acmpne, i_ifnull, i_ifnonnull, i_getI, i_getR, i_putI, i_putZ, i_putR, i_ald, i_ldL, i_ldR, i_ast, i_stL, i_stR, i_alen, i_new, i_newa, i_iret, i_zret, i_lret, i_aret, i_vret, i_raise, i_throw, i_recv, i_objinit, i_tsw3, lget, lset, lput1, lput2, lkil, ltrim, largs, isL, takev, dropv, nthv, pushO, catv, gd, true_and, and_true, Option.some.injEq, Prod.mk.injEq, exists_eq_left', if_true, if_false, reduceCtorEq, Bool.false_eq_true, lcmp_ge, lcmp_lt, lcmp_le, lcmp_gt, lcmp_eq, true_or, or_true, not_true_eq_false, not_false_eq_true, false_implies, true_implies, List.length_cons, List.length_nil]
        repeat (first | refine ⟨in_small (by omega) (by omega), ?_⟩ | (show (_ → _) ∧ (_ → _); first | refine ⟨by omega, fun _ => ?_⟩ | refine ⟨fun _ => ?_, by omega⟩) | refine ⟨by omega, ?_⟩ | refine ⟨⟨_, rfl, by assumption⟩, ?_⟩ | refine ⟨okT_I _, ?_⟩ | refine ⟨okT_S (by omega) (by omega), ?_⟩ | refine ⟨okT_B (by omega) (by omega), ?_⟩ | refine call0 (gd_of rfl) ?_)
        refine ih (z + 1) D2 n2 tm2 (by omega) a1 a2 ?_ a4
        rw [show ((z + 1 : Nat) : Int) = (z : Int) + 1 by omega]; exact a3
      refine wp_in ?_
      simp only [P_X16_gatherColumns, i_kil, i_icon, i_lcon, i_null, i_loadI, i_loadL, i_loadR, i_istore, i_lstore, i_astore, i_iinc, i_dup, i_dup2, i_pop, i_iadd, i_isub, i_imul, i_idiv, i_irem, i_ineg, i_iand, i_ior, i_ishl, i_ishr, i_lxor, i_ladd, i_lsub, i_lmul, i_ldiv, i_lrem, i_lneg, i_lshl, i_lcmp, i_i2l, i_l2i, i_i2b, i_i2s, i_ifeq, i_ifne, i_iflt, i_ifge, i_ifgt, i_ifle, i_cmpeq, i_cmpne, i_cmplt, i_cmpge, i_cmpgt, i_cmple, i_acmpeq, i_acmpne, i_ifnull, i_ifnonnull, i_getI, i_getR, i_putI, i_putZ, i_putR, i_ald, i_ldL, i_ldR, i_ast, i_stL, i_stR, i_alen, i_new, i_newa, i_iret, i_zret, i_lret, i_aret, i_vret, i_raise, i_throw, i_recv, i_objinit, i_tsw3, lget, lset, lput1, lput2, lkil, ltrim, largs, isL, takev, dropv, nthv, pushO, catv, gd, true_and, and_true, Option.some.injEq, Prod.mk.injEq, exists_eq_left', if_true, if_false, reduceCtorEq, Bool.false_eq_true, lcmp_ge, lcmp_lt, lcmp_le, lcmp_gt, lcmp_eq, true_or, or_true, not_true_eq_false, not_false_eq_true, false_implies, true_implies, List.length_cons, List.length_nil]
      repeat (first | refine ⟨in_small (by omega) (by omega), ?_⟩ | (show (_ → _) ∧ (_ → _); first | refine ⟨by omega, fun _ => ?_⟩ | refine ⟨fun _ => ?_, by omega⟩) | refine ⟨by omega, ?_⟩ | refine ⟨⟨_, rfl, by assumption⟩, ?_⟩ | refine ⟨okT_I _, ?_⟩ | refine ⟨okT_S (by omega) (by omega), ?_⟩ | refine ⟨okT_B (by omega) (by omega), ?_⟩ | refine call0 (gd_of rfl) ?_)
      refine zdeg_at ⟨by omega, by omega⟩ ?_
      simp only [P_X16_gatherColumns, i_kil, i_icon, i_lcon, i_null, i_loadI, i_loadL, i_loadR, i_istore, i_lstore, i_astore, i_iinc, i_dup, i_dup2, i_pop, i_iadd, i_isub, i_imul, i_idiv, i_irem, i_ineg, i_iand, i_ior, i_ishl, i_ishr, i_lxor, i_ladd, i_lsub, i_lmul, i_ldiv, i_lrem, i_lneg, i_lshl, i_lcmp, i_i2l, i_l2i, i_i2b, i_i2s, i_ifeq, i_ifne, i_iflt, i_ifge, i_ifgt, i_ifle, i_cmpeq, i_cmpne, i_cmplt, i_cmpge, i_cmpgt, i_cmple, i_acmpeq, i_acmpne, i_ifnull, i_ifnonnull, i_getI, i_getR, i_putI, i_putZ, i_putR, i_ald, i_ldL, i_ldR, i_ast, i_stL, i_stR, i_alen, i_new, i_newa, i_iret, i_zret, i_lret, i_aret, i_vret, i_raise, i_throw, i_recv, i_objinit, i_tsw3, lget, lset, lput1, lput2, lkil, ltrim, largs, isL, takev, dropv, nthv, pushO, catv, gd, true_and, and_true, Option.some.injEq, Prod.mk.injEq, exists_eq_left', if_true, if_false, reduceCtorEq, Bool.false_eq_true, lcmp_ge, lcmp_lt, lcmp_le, lcmp_gt, lcmp_eq, true_or, or_true, not_true_eq_false, not_false_eq_true, false_implies, true_implies, List.length_cons, List.length_nil, M1, e47, f2]
      refine ⟨fun hle => ?_, fun hgt => ?_⟩
      · obtain ⟨t, t1, t2, t3⟩ := zdg_term (z := z) ⟨by omega, by omega⟩ (by omega)
        have htd : tdg t ≤ d := by omega
        rw [← t2] at f3
        have hn34 : n < 35 := by
          have h0 := f3.ins (p := n) ho t1 htd (Nat.le_refl _) (fun i h1 h2 => by omega)
          rcases Nat.lt_or_ge n 35 with w | w
          · exact w
          · exfalso
            obtain ⟨i, j, hij, hj, he⟩ := pigeon 35 36 (fun i => if i < n then c4 (tm i) else c4 t) (by omega) fun i hi => by
              show (if i < n then _ else _) < 35
              split
              · have := f3.1 i (by omega); rw [← c4_all]; exact c4_pos 455 this.1 (by omega)
              · rw [← c4_all]; exact c4_pos 455 t1 (by omega)
            have he' : (if i < n then c4 (tm i) else c4 t) = (if j < n then c4 (tm j) else c4 t) := he
            rw [if_pos (by omega)] at he'
            have bi := f3.1 i (by omega)
            by_cases q : j < n
            · rw [if_pos q] at he'
              have bj := f3.1 j q
              have := f3.inj ho (by omega) q (c4_inj (by omega) (by omega) he')
              omega
            · rw [if_neg q] at he'
              have := c4_inj (by omega) (by omega) he'
              rw [this] at bi; omega
        have shift : ∀ (p : Nat) (D3 : Dat), p ≤ n → (∀ a i, (a ≠ M ∨ i ≠ 49) → a ≠ M + 5697 → a ≠ M + 5698 → D3 a i = D a i) → D3 M 49 = n → (∀ i : Nat, i < p → D3 (M + 5697) i = tcode (tm i)) → (∀ i : Nat, p < i → i ≤ n → D3 (M + 5697) i = tcode (tm (i - 1))) → (∀ i, p ≤ i → i < n → 0 < rankI c g t (tm i)) → Wp P_X16_gatherColumns E 2 [some (aR M), some (aI z), some (aI p)] [] B S D3 := by
          intro p
          have fin : ∀ (p : Nat) (D3 : Dat), p ≤ n → (∀ a i, (a ≠ M ∨ i ≠ 49) → a ≠ M + 5697 → a ≠ M + 5698 → D3 a i = D a i) → D3 M 49 = n → (∀ i : Nat, i < p → D3 (M + 5697) i = tcode (tm i)) → (∀ i : Nat, p < i → i ≤ n → D3 (M + 5697) i = tcode (tm (i - 1))) → (∀ i, p ≤ i → i < n → 0 < rankI c g t (tm i)) → (0 < p → ¬ 0 < rankI c g t (tm (p - 1))) → Wp P_X16_gatherColumns E 3 [some (aR M), some (aI z), some (aI p)] [] B S D3 := fun p D3 hp b1 b2 b4 b5 b6 b7 => by
            have e49 : pmu D3 (M + 5697) (p : Int) (z : Int) M 49 = n := by simp only [pmu]; rw [if_neg (fun w => by omega)]; exact b2
            refine wp_in ?_
            simp only [P_X16_gatherColumns, i_kil, i_icon, i_lcon, i_null, i_loadI, i_loadL, i_loadR, i_istore, i_lstore, i_astore, i_iinc, i_dup, i_dup2, i_pop, i_iadd, i_isub, i_imul, i_idiv, i_irem, i_ineg, i_iand, i_ior, i_ishl, i_ishr, i_lxor, i_ladd, i_lsub, i_lmul, i_ldiv, i_lrem, i_lneg, i_lshl, i_lcmp, i_i2l, i_l2i, i_i2b, i_i2s, i_ifeq, i_ifne, i_iflt, i_ifge, i_ifgt, i_ifle, i_cmpeq, i_cmpne, i_cmplt, i_cmpge, i_cmpgt, i_cmple, i_acmpeq, i_acmpne, i_ifnull, i_ifnonnull, i_getI, i_getR, i_putI, i_putZ, i_putR, i_ald, i_ldL, i_ldR, i_ast, i_stL, i_stR, i_alen, i_new, i_newa, i_iret, i_zret, i_lret, i_aret, i_vret, i_raise, i_throw, i_recv, i_objinit, i_tsw3, lget, lset, lput1, lput2, lkil, ltrim, largs, isL, takev, dropv, nthv, pushO, catv, gd, true_and, and_true, Option.some.injEq, Prod.mk.injEq, exists_eq_left', if_true, if_false, reduceCtorEq, Bool.false_eq_true, lcmp_ge, lcmp_lt, lcmp_le, lcmp_gt, lcmp_eq, true_or, or_true, not_true_eq_false, not_false_eq_true, false_implies, true_implies, List.length_cons, List.length_nil, M1, m1, m2, e49]
            repeat (first | refine ⟨in_small (by omega) (by omega), ?_⟩ | (show (_ → _) ∧ (_ → _); first | refine ⟨by omega, fun _ => ?_⟩ | refine ⟨fun _ => ?_, by omega⟩) | refine ⟨by omega, ?_⟩ | refine ⟨⟨_, rfl, by assumption⟩, ?_⟩ | refine ⟨okT_I _, ?_⟩ | refine ⟨okT_S (by omega) (by omega), ?_⟩ | refine ⟨okT_B (by omega) (by omega), ?_⟩ | refine call0 (gd_of rfl) ?_)
            refine next _ (n + 1) (cins tm p t) (fun a i a1 a2 a3 => ?_) ?_ ?_ (fun i hi => ?_)
            · simp only [pmu]
              rw [if_neg (fun w => by omega), if_neg (fun w => a2 w.1)]
              exact b1 a i a1 a2 a3
            · simp [pmu]
            · rw [← t2]; exact f3.ins ho t1 htd hp b6 b7
            · simp only [pmu]
              rw [if_neg (fun w => by omega)]
              unfold cins
              rcases Nat.lt_trichotomy i p with w | w | w
              · rw [if_neg (fun x => by omega), if_pos w]; exact b4 i w
              · rw [if_pos ⟨trivial, by omega⟩, if_neg (by omega), if_pos w]; exact t2.symm
              · rw [if_neg (fun x => by omega), if_neg (by omega), if_neg (by omega)]; exact b5 i w (by omega)
          induction p with
          | zero =>
            intro D3 hp b1 b2 b4 b5 b6
            refine wp_in ?_
            simp only [P_X16_gatherColumns, i_kil, i_icon, i_lcon, i_null, i_loadI, i_loadL, i_loadR, i_istore, i_lstore, i_astore, i_iinc, i_dup, i_dup2, i_pop, i_iadd, i_isub, i_imul, i_idiv, i_irem, i_ineg, i_iand, i_ior, i_ishl, i_ishr, i_lxor, i_ladd, i_lsub, i_lmul, i_ldiv, i_lrem, i_lneg, i_lshl, i_lcmp, i_i2l, i_l2i, i_i2b, i_i2s, i_ifeq, i_ifne, i_iflt, i_ifge, i_ifgt, i_ifle, i_cmpeq, i_cmpne, i_cmplt, i_cmpge, i_cmpgt, i_cmple, i_acmpeq, i_acmpne, i_ifnull, i_ifnonnull, i_getI, i_getR, i_putI, i_putZ, i_putR, i_ald, i_ldL, i_ldR, i_ast, i_stL, i_stR, i_alen, i_new, i_newa, i_iret, i_zret, i_lret, i_aret, i_vret, i_raise, i_throw, i_recv, i_objinit, i_tsw3, lget, lset, lput1, lput2, lkil, ltrim, largs, isL, takev, dropv, nthv, pushO, catv, gd, true_and, and_true, Option.some.injEq, Prod.mk.injEq, exists_eq_left', if_true, if_false, reduceCtorEq, Bool.false_eq_true, lcmp_ge, lcmp_lt, lcmp_le, lcmp_gt, lcmp_eq, true_or, or_true, not_true_eq_false, not_false_eq_true, false_implies, true_implies, List.length_cons, List.length_nil]
            repeat (first | refine ⟨in_small (by omega) (by omega), ?_⟩ | (show (_ → _) ∧ (_ → _); first | refine ⟨by omega, fun _ => ?_⟩ | refine ⟨fun _ => ?_, by omega⟩) | refine ⟨by omega, ?_⟩ | refine ⟨⟨_, rfl, by assumption⟩, ?_⟩ | refine ⟨okT_I _, ?_⟩ | refine ⟨okT_S (by omega) (by omega), ?_⟩ | refine ⟨okT_B (by omega) (by omega), ?_⟩ | refine call0 (gd_of rfl) ?_)
            exact fin 0 D3 hp b1 b2 b4 b5 b6 fun w => by omega
          | succ p ihp =>
            intro D3 hp b1 b2 b4 b5 b6
            have x1 : ((p + 1 : Nat) : Int) - 1 = (p : Nat) := by omega
            have e1 := b4 p (by omega)
            have b0 := f3.1 p (by omega)
            have e45 : D3 M 45 = (c : Int) - 9 := by rw [b1 _ _ (.inr (by decide)) (by omega) (by omega)]; exact h45
            have e46 : D3 M 46 = zn := by rw [b1 _ _ (.inr (by decide)) (by omega) (by omega)]; exact h46
            refine wp_in ?_
            simp only [P_X16_gatherColumns, i_kil, i_icon, i_lcon, i_null, i_loadI, i_loadL, i_loadR, i_istore, i_lstore, i_astore, i_iinc, i_dup, i_dup2, i_pop, i_iadd, i_isub, i_imul, i_idiv, i_irem, i_ineg, i_iand, i_ior, i_ishl, i_ishr, i_lxor, i_ladd, i_lsub, i_lmul, i_ldiv, i_lrem, i_lneg, i_lshl, i_lcmp, i_i2l, i_l2i, i_i2b, i_i2s, i_ifeq, i_ifne, i_iflt, i_ifge, i_ifgt, i_ifle, i_cmpeq, i_cmpne, i_cmplt, i_cmpge, i_cmpgt, i_cmple, i_acmpeq, i_acmpne, i_ifnull, i_ifnonnull, i_getI, i_getR, i_putI, i_putZ, i_putR, i_ald, i_ldL, i_ldR, i_ast, i_stL, i_stR, i_alen, i_new, i_newa, i_iret, i_zret, i_lret, i_aret, i_vret, i_raise, i_throw, i_recv, i_objinit, i_tsw3, lget, lset, lput1, lput2, lkil, ltrim, largs, isL, takev, dropv, nthv, pushO, catv, gd, true_and, and_true, Option.some.injEq, Prod.mk.injEq, exists_eq_left', if_true, if_false, reduceCtorEq, Bool.false_eq_true, lcmp_ge, lcmp_lt, lcmp_le, lcmp_gt, lcmp_eq, true_or, or_true, not_true_eq_false, not_false_eq_true, false_implies, true_implies, List.length_cons, List.length_nil, M1, m1, m2, x1, e1, e45, e46]
            repeat (first | refine ⟨in_small (by omega) (by omega), ?_⟩ | (show (_ → _) ∧ (_ → _); first | refine ⟨by omega, fun _ => ?_⟩ | refine ⟨fun _ => ?_, by omega⟩) | refine ⟨by omega, ?_⟩ | refine ⟨⟨_, rfl, by assumption⟩, ?_⟩ | refine ⟨okT_I _, ?_⟩ | refine ⟨okT_S (by omega) (by omega), ?_⟩ | refine ⟨okT_B (by omega) (by omega), ?_⟩ | refine call0 (gd_of rfl) ?_)
            refine compare_at ho b0.1 t1 rfl t2.symm rfl hz fun v v1 v2 => ?_
            have ha := rank_anti ho t (tm p)
            simp only [P_X16_gatherColumns, i_kil, i_icon, i_lcon, i_null, i_loadI, i_loadL, i_loadR, i_istore, i_lstore, i_astore, i_iinc, i_dup, i_dup2, i_pop, i_iadd, i_isub, i_imul, i_idiv, i_irem, i_ineg, i_iand, i_ior, i_ishl, i_ishr, i_lxor, i_ladd, i_lsub, i_lmul, i_ldiv, i_lrem, i_lneg, i_lshl, i_lcmp, i_i2l, i_l2i, i_i2b, i_i2s, i_ifeq, i_ifne, i_iflt, i_ifge, i_ifgt, i_ifle, i_cmpeq, i_cmpne, i_cmplt, i_cmpge, i_cmpgt, i_cmple, i_acmpeq, i_acmpne, i_ifnull, i_ifnonnull, i_getI, i_getR, i_putI, i_putZ, i_putR, i_ald, i_ldL, i_ldR, i_ast, i_stL, i_stR, i_alen, i_new, i_newa, i_iret, i_zret, i_lret, i_aret, i_vret, i_raise, i_throw, i_recv, i_objinit, i_tsw3, lget, lset, lput1, lput2, lkil, ltrim, largs, isL, takev, dropv, nthv, pushO, catv, gd, true_and, and_true, Option.some.injEq, Prod.mk.injEq, exists_eq_left', if_true, if_false, reduceCtorEq, Bool.false_eq_true, lcmp_ge, lcmp_lt, lcmp_le, lcmp_gt, lcmp_eq, true_or, or_true, not_true_eq_false, not_false_eq_true, false_implies, true_implies, List.length_cons, List.length_nil, M1, m1, m2, x1, e1]
            refine ⟨fun w => fin (p + 1) D3 hp b1 b2 b4 b5 b6 fun _ => by rw [Nat.add_sub_cancel]; omega, fun w => ?_⟩
            repeat (first | refine ⟨in_small (by omega) (by omega), ?_⟩ | (show (_ → _) ∧ (_ → _); first | refine ⟨by omega, fun _ => ?_⟩ | refine ⟨fun _ => ?_, by omega⟩) | refine ⟨by omega, ?_⟩ | refine ⟨⟨_, rfl, by assumption⟩, ?_⟩ | refine ⟨okT_I _, ?_⟩ | refine ⟨okT_S (by omega) (by omega), ?_⟩ | refine ⟨okT_B (by omega) (by omega), ?_⟩ | refine call0 (gd_of rfl) ?_)
            rw [show ((p + 1 : Nat) : Int) + -1 = (p : Nat) by omega]
            have fr3 : ∀ a i, a ≠ M + 5697 → pmu D3 (M + 5697) ((p + 1 : Nat) : Int) (tcode (tm p)) a i = D3 a i := fun a i h => by simp only [pmu]; rw [if_neg (fun w => h w.1)]
            refine ihp _ (by omega) (fun a i a1 a2 a3 => by rw [fr3 a i a2]; exact b1 a i a1 a2 a3) (by rw [fr3 _ _ (by omega)]; exact b2) (fun i hi => ?_) (fun i hi hi2 => ?_) (fun i hi hi2 => ?_)
            · simp only [pmu, true_and]; rw [if_neg (by omega)]; exact b4 i (by omega)
            · simp only [pmu, true_and]
              by_cases y : i = p + 1
              · rw [if_pos (by omega), y, Nat.add_sub_cancel]
              · rw [if_neg (by omega)]; exact b5 i (by omega) hi2
            · by_cases y : i = p
              · rw [y]; have := v2.mp w; omega
              · exact b6 i (by omega) hi2
        repeat (first | refine ⟨in_small (by omega) (by omega), ?_⟩ | (show (_ → _) ∧ (_ → _); first | refine ⟨by omega, fun _ => ?_⟩ | refine ⟨fun _ => ?_, by omega⟩) | refine ⟨by omega, ?_⟩ | refine ⟨⟨_, rfl, by assumption⟩, ?_⟩ | refine ⟨okT_I _, ?_⟩ | refine ⟨okT_S (by omega) (by omega), ?_⟩ | refine ⟨okT_B (by omega) (by omega), ?_⟩ | refine call0 (gd_of rfl) ?_)
        exact shift n D1 (Nat.le_refl _) f1 f2 f4 (fun i hi hi2 => by omega) fun i hi hi2 => by omega
      · refine next D1 n tm f1 f2 ⟨fun i hi => by have := f3.1 i hi; exact ⟨this.1, this.2.1, by omega⟩, f3.2.1, fun t ht h1 h2 => f3.2.2 t ht h1 ?_⟩ f4
        have h3 := zdg_code ht
        rcases Int.lt_trichotomy (tcode t) z with w | w | w
        · exact w
        · rw [w] at h3; omega
        · omega
  refine wp_in ?_
  simp only [P_X16_gatherColumns, i_kil, i_icon, i_lcon, i_null, i_loadI, i_loadL, i_loadR, i_istore, i_lstore, i_astore, i_iinc, i_dup, i_dup2, i_pop, i_iadd, i_isub, i_imul, i_idiv, i_irem, i_ineg, i_iand, i_ior, i_ishl, i_ishr, i_lxor, i_ladd, i_lsub, i_lmul, i_ldiv, i_lrem, i_lneg, i_lshl, i_lcmp, i_i2l, i_l2i, i_i2b, i_i2s, i_ifeq, i_ifne, i_iflt, i_ifge, i_ifgt, i_ifle, i_cmpeq, i_cmpne, i_cmplt, i_cmpge, i_cmpgt, i_cmple, i_acmpeq, i_acmpne, i_ifnull, i_ifnonnull, i_getI, i_getR, i_putI, i_putZ, i_putR, i_ald, i_ldL, i_ldR, i_ast, i_stL, i_stR, i_alen, i_new, i_newa, i_iret, i_zret, i_lret, i_aret, i_vret, i_raise, i_throw, i_recv, i_objinit, i_tsw3, lget, lset, lput1, lput2, lkil, ltrim, largs, isL, takev, dropv, nthv, pushO, catv, gd, true_and, and_true, Option.some.injEq, Prod.mk.injEq, exists_eq_left', if_true, if_false, reduceCtorEq, Bool.false_eq_true, lcmp_ge, lcmp_lt, lcmp_le, lcmp_gt, lcmp_eq, true_or, or_true, not_true_eq_false, not_false_eq_true, false_implies, true_implies, List.length_cons, List.length_nil, M1]
  refine loop 4096 0 _ 0 (fun _ => 0) rfl (fun a i a1 a2 a3 => by simp only [pmu]; rw [if_neg (fun w => by omega)]) (by simp [pmu]) ⟨fun i hi => by omega, fun i j _ hj => by omega, fun t ht _ h => by have := tcode_lim ht; omega⟩ fun i hi => by omega
