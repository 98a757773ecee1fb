/-! reals of the component -/
-- needs: d9.chcomm2 79l.srch
set_option maxRecDepth 100000
set_option linter.unusedVariables false
def reS (S : Stat) (a : Nat) : Prop := S.1 a = some (13, 0) ∧ S.2.1 a 0 = some (a + 1) ∧ S.1 (a + 1) = some (100, 9) ∧ S.2.1 a 4 = some (a + 2) ∧ wS 3 S (a + 2) 32
/-- its numbers, their degree, how often it was halved, since, which span -/
def reD (D : Dat) (a : Nat) (f : Nat → Int) (d h s : Nat) (w : Int) : Prop := (∀ k : Nat, k < 9 → D (a + 1) k = f k) ∧ D a 1 = d ∧ D a 2 = h ∧ D a 3 = s ∧ wD 1 2 D (a + 2) w
theorem reD.congr {D D' : Dat} {a : Nat} {f : Nat → Int} {d h s : Nat} {w : Int} (k : reD D a f d h s w) (e : ∀ c i, a ≤ c → c ≤ a + 3 → D' c i = D c i) : reD D' a f d h s w := by
  obtain ⟨k1, k2, k3, k4, k5⟩ := k
  refine ⟨fun j hj => by rw [e _ _ (by omega) (by omega)]; exact k1 j hj, by rw [e _ _ (by omega) (by omega)]; exact k2, by rw [e _ _ (by omega) (by omega)]; exact k3, by rw [e _ _ (by omega) (by omega)]; exact k4, k5.congr (fun i => e _ i (by omega) (by omega)) fun i => e _ i (by omega) (by omega)⟩
def reO (a : Nat) (D D' : Dat) : Prop := ∀ c i, (c < a ∨ a + 3 < c) → D' c i = D c i
section REAL
variable {E : Ex} {B : Nat × Nat} {S : Stat} {D : Dat}
theorem sp_X13_be {a q d h s : Nat} {f : Nat → Int} {w : Int} (ha : reS S a) (hq : reS S q) (hne : a + 3 < q ∨ q + 3 < a) (hD : reD D q f d h s w) (hw : (w.natAbs : Int) < 1000000000 ^ 32)
    (K : ∀ D' : Dat, reO a D D' → reD D' a f d h s w → E (.inl none) B S D') : Wp P_X13_be E 0 [some (aR a), some (aR q)] [] B S D := by
  obtain ⟨a1, a2, a3, a4, a5⟩ := ha
  obtain ⟨q1, q2, q3, q4, q5⟩ := hq
  obtain ⟨k1, k2, k3, k4, k5⟩ := hD
  have a6 := a5.1
  have loop : ∀ (L j : Nat) (D1 : Dat), j + L = 9 → (∀ c i, c ≠ a + 1 → D1 c i = D c i) → (∀ k : Nat, k < j → D1 (a + 1) k = f k) → Wp P_X13_be E 1 [some (aR a), some (aR q), some (aI j)] [] B S D1 := by
    intro L
    induction L with
    | zero =>
      intro j D1 hj hfr hdone
      have e1 : ∀ D2 : Dat, (∀ i, D2 q i = D1 q i) → D2 q 1 = d ∧ D2 q 2 = h ∧ D2 q 3 = s := fun D2 w => by
        rw [w, w, w, hfr _ _ (by omega), hfr _ _ (by omega), hfr _ _ (by omega)]; exact ⟨k2, k3, k4⟩
      have n1 : D1 q 1 = d := by rw [hfr _ _ (by omega)]; exact k2
      have n2 : pmu D1 a 1 (d : Int) q 2 = h := by simp only [pmu]; rw [if_neg (by omega), hfr _ _ (by omega)]; exact k3
      have n3 : pmu (pmu D1 a 1 (d : Int)) a 2 (h : Int) q 3 = s := by simp only [pmu]; rw [if_neg (by omega), if_neg (by omega), hfr _ _ (by omega)]; exact k4
      refine wp_in ?_
      simp only [P_X13_be, i_kil, i_icon, i_lcon, i_null, i_loadI, i_loadL, i_loadR, i_istore, i_lstore, i_astore, i_iinc, i_dup, i_dup2, i_pop, i_iadd, i_isub, i_imul, i_idiv, i_irem, i_ineg, i_iand, i_ior, i_ishl, i_ishr, i_lxor, i_ladd, i_lsub, i_lmul, i_ldiv, i_lrem, i_lneg, i_lshl, i_lcmp, i_i2l, i_l2i, i_i2b, i_i2s, i_ifeq, i_ifne, i_iflt, i_ifge, i_ifgt, i_ifle, i_cmpeq, i_cmpne, i_cmplt, i_cmpge, i_cmpgt, i_cmple, i_acmpeq, i_acmpne, i_ifnull, i_ifnonnull, i_getI, i_getR, i_putI, i_putZ, i_putR, i_ald, i_ldL, i_ldR, i_ast, i_stL, i_stR, i_alen, i_new, i_newa, i_iret, i_zret, i_lret, i_aret, i_vret, i_raise, i_throw, i_recv, i_objinit, i_tsw3, lget, lset, lput1, lput2, lkil, ltrim, largs, isL, takev, dropv, nthv, pushO, catv, gd, true_and, and_true, Option.some.injEq, Prod.mk.injEq, exists_eq_left', if_true, if_false, reduceCtorEq, Bool.false_eq_true, lcmp_ge, lcmp_lt, lcmp_le, lcmp_gt, lcmp_eq, true_or, or_true, not_true_eq_false, not_false_eq_true, false_implies, true_implies, List.length_cons, List.length_nil, a1, q1, a4, q4, n1, n2, n3]
      repeat (first | refine ⟨in_small (by omega) (by omega), ?_⟩ | (show (_ → _) ∧ (_ → _); first | refine ⟨by omega, fun _ => ?_⟩ | refine ⟨fun _ => ?_, by omega⟩) | refine ⟨by omega, ?_⟩ | refine ⟨⟨_, rfl, by assumption⟩, ?_⟩ | refine ⟨okT_I _, ?_⟩ | refine ⟨okT_S (by omega) (by omega), ?_⟩ | refine ⟨okT_B (by omega) (by omega), ?_⟩ | refine call0 (gd_of rfl) ?_)
      refine sp_X3_be a5 q5 (by omega) (k5.congr (fun i => ?_) fun i => ?_) hw hw (by decide) fun D2 g1 g2 => ?_
      · simp only [pmu]; rw [if_neg (by omega), if_neg (by omega), if_neg (by omega), hfr _ _ (by omega)]
      · simp only [pmu]; rw [if_neg (by omega), if_neg (by omega), if_neg (by omega), hfr _ _ (by omega)]
      simp only [P_X13_be, i_kil, i_icon, i_lcon, i_null, i_loadI, i_loadL, i_loadR, i_istore, i_lstore, i_astore, i_iinc, i_dup, i_dup2, i_pop, i_iadd, i_isub, i_imul, i_idiv, i_irem, i_ineg, i_iand, i_ior, i_ishl, i_ishr, i_lxor, i_ladd, i_lsub, i_lmul, i_ldiv, i_lrem, i_lneg, i_lshl, i_lcmp, i_i2l, i_l2i, i_i2b, i_i2s, i_ifeq, i_ifne, i_iflt, i_ifge, i_ifgt, i_ifle, i_cmpeq, i_cmpne, i_cmplt, i_cmpge, i_cmpgt, i_cmple, i_acmpeq, i_acmpne, i_ifnull, i_ifnonnull, i_getI, i_getR, i_putI, i_putZ, i_putR, i_ald, i_ldL, i_ldR, i_ast, i_stL, i_stR, i_alen, i_new, i_newa, i_iret, i_zret, i_lret, i_aret, i_vret, i_raise, i_throw, i_recv, i_objinit, i_tsw3, lget, lset, lput1, lput2, lkil, ltrim, largs, isL, takev, dropv, nthv, pushO, catv, gd, true_and, and_true, Option.some.injEq, Prod.mk.injEq, exists_eq_left', if_true, if_false, reduceCtorEq, Bool.false_eq_true, lcmp_ge, lcmp_lt, lcmp_le, lcmp_gt, lcmp_eq, true_or, or_true, not_true_eq_false, not_false_eq_true, false_implies, true_implies, List.length_cons, List.length_nil]
      refine K D2 (fun c i c1 => ?_) ⟨fun k hk => ?_, ?_, ?_, ?_, g2⟩
      · rw [g1 c i (by omega) (by omega)]
        simp only [pmu]; rw [if_neg (by omega), if_neg (by omega), if_neg (by omega), hfr _ _ (by omega)]
      · rw [g1 _ _ (by omega) (by omega)]
        simp only [pmu]; rw [if_neg (by omega), if_neg (by omega), if_neg (by omega)]; exact hdone k (by omega)
      · rw [g1 _ _ (by omega) (by omega)]
        simp only [pmu]; rw [if_neg (by omega), if_neg (by omega), if_pos (by simp)]
      · rw [g1 _ _ (by omega) (by omega)]
        simp only [pmu]; rw [if_neg (by omega), if_pos (by simp)]
      · rw [g1 _ _ (by omega) (by omega)]
        simp only [pmu, and_self, if_true]
    | succ L ih =>
      intro j D1 hj hfr hdone
      have e1 : D1 (q + 1) j = f j := by rw [hfr _ _ (by omega)]; exact k1 j (by omega)
      refine wp_in ?_
      simp only [P_X13_be, i_kil, i_icon, i_lcon, i_null, i_loadI, i_loadL, i_loadR, i_istore, i_lstore, i_astore, i_iinc, i_dup, i_dup2, i_pop, i_iadd, i_isub, i_imul, i_idiv, i_irem, i_ineg, i_iand, i_ior, i_ishl, i_ishr, i_lxor, i_ladd, i_lsub, i_lmul, i_ldiv, i_lrem, i_lneg, i_lshl, i_lcmp, i_i2l, i_l2i, i_i2b, i_i2s, i_ifeq, i_ifne, i_iflt, i_ifge, i_ifgt, i_ifle, i_cmpeq, i_cmpne, i_cmplt, i_cmpge, i_cmpgt, i_cmple, i_acmpeq, i_acmpne, i_ifnull, i_ifnonnull, i_getI, i_getR, i_putI, i_putZ, i_putR, i_ald, i_ldL, i_ldR, i_ast, i_stL, i_stR, i_alen, i_new, i_newa, i_iret, i_zret, i_lret, i_aret, i_vret, i_raise, i_throw, i_recv, i_objinit, i_tsw3, lget, lset, lput1, lput2, lkil, ltrim, largs, isL, takev, dropv, nthv, pushO, catv, gd, true_and, and_true, Option.some.injEq, Prod.mk.injEq, exists_eq_left', if_true, if_false, reduceCtorEq, Bool.false_eq_true, lcmp_ge, lcmp_lt, lcmp_le, lcmp_gt, lcmp_eq, true_or, or_true, not_true_eq_false, not_false_eq_true, false_implies, true_implies, List.length_cons, List.length_nil, a1, q1, a2, q2, a3, q3, e1]
      repeat (first | refine ⟨in_small (by omega) (by omega), ?_⟩ | (show (_ → _) ∧ (_ → _); first | refine ⟨by omega, fun _ => ?_⟩ | refine ⟨fun _ => ?_, by omega⟩) | refine ⟨by omega, ?_⟩ | refine ⟨⟨_, rfl, by assumption⟩, ?_⟩ | refine ⟨okT_I _, ?_⟩ | refine ⟨okT_S (by omega) (by omega), ?_⟩ | refine ⟨okT_B (by omega) (by omega), ?_⟩ | refine call0 (gd_of rfl) ?_)
      refine ih (j + 1) _ (by omega) (fun c i c1 => ?_) fun k hk => ?_
      · simp only [pmu]; rw [if_neg (by omega)]; exact hfr c i c1
      · simp only [pmu]
        by_cases w : k = j
        · rw [if_pos (by subst w; simp), w]
        · rw [if_neg (by omega)]; exact hdone k (by omega)
  refine wp_in ?_
  simp only [P_X13_be, i_kil, i_icon, i_lcon, i_null, i_loadI, i_loadL, i_loadR, i_istore, i_lstore, i_astore, i_iinc, i_dup, i_dup2, i_pop, i_iadd, i_isub, i_imul, i_idiv, i_irem, i_ineg, i_iand, i_ior, i_ishl, i_ishr, i_lxor, i_ladd, i_lsub, i_lmul, i_ldiv, i_lrem, i_lneg, i_lshl, i_lcmp, i_i2l, i_l2i, i_i2b, i_i2s, i_ifeq, i_ifne, i_iflt, i_ifge, i_ifgt, i_ifle, i_cmpeq, i_cmpne, i_cmplt, i_cmpge, i_cmpgt, i_cmple, i_acmpeq, i_acmpne, i_ifnull, i_ifnonnull, i_getI, i_getR, i_putI, i_putZ, i_putR, i_ald, i_ldL, i_ldR, i_ast, i_stL, i_stR, i_alen, i_new, i_newa, i_iret, i_zret, i_lret, i_aret, i_vret, i_raise, i_throw, i_recv, i_objinit, i_tsw3, lget, lset, lput1, lput2, lkil, ltrim, largs, isL, takev, dropv, nthv, pushO, catv, gd, true_and, and_true, Option.some.injEq, Prod.mk.injEq, exists_eq_left', if_true, if_false, reduceCtorEq, Bool.false_eq_true, lcmp_ge, lcmp_lt, lcmp_le, lcmp_gt, lcmp_eq, true_or, or_true, not_true_eq_false, not_false_eq_true, false_implies, true_implies, List.length_cons, List.length_nil]
  exact loop 9 0 D (by omega) (fun _ _ _ => rfl) fun k hk => by omega
theorem sp_X13_bits {a h : Nat} (h1 : S.1 a = some (13, 0)) (h2 : D a 2 = h) (hh : h ≤ 1000000) (K : E (.inl (some (.inl ((h - 8 : Nat) : Int)))) B S D) : Wp P_X13_bits E 0 [some (aR a)] [] B S D := by
  refine wp_in ?_
  simp only [P_X13_bits, i_kil, i_icon, i_lcon, i_null, i_loadI, i_loadL, i_loadR, i_istore, i_lstore, i_astore, i_iinc, i_dup, i_dup2, i_pop, i_iadd, i_isub, i_imul, i_idiv, i_irem, i_ineg, i_iand, i_ior, i_ishl, i_ishr, i_lxor, i_ladd, i_lsub, i_lmul, i_ldiv, i_lrem, i_lneg, i_lshl, i_lcmp, i_i2l, i_l2i, i_i2b, i_i2s, i_ifeq, i_ifne, i_iflt, i_ifge, i_ifgt, i_ifle, i_cmpeq, i_cmpne, i_cmplt, i_cmpge, i_cmpgt, i_cmple, i_acmpeq, i_acmpne, i_ifnull, i_ifnonnull, i_getI, i_getR, i_putI, i_putZ, i_putR, i_ald, i_ldL, i_ldR, i_ast, i_stL, i_stR, i_alen, i_new, i_newa, i_iret, i_zret, i_lret, i_aret, i_vret, i_raise, i_throw, i_recv, i_objinit, i_tsw3, lget, lset, lput1, lput2, lkil, ltrim, largs, isL, takev, dropv, nthv, pushO, catv, gd, true_and, and_true, Option.some.injEq, Prod.mk.injEq, exists_eq_left', if_true, if_false, reduceCtorEq, Bool.false_eq_true, lcmp_ge, lcmp_lt, lcmp_le, lcmp_gt, lcmp_eq, true_or, or_true, not_true_eq_false, not_false_eq_true, false_implies, true_implies, List.length_cons, List.length_nil, h1, h2]
  repeat (first | refine ⟨in_small (by omega) (by omega), ?_⟩ | (show (_ → _) ∧ (_ → _); first | refine ⟨by omega, fun _ => ?_⟩ | refine ⟨fun _ => ?_, by omega⟩) | refine ⟨by omega, ?_⟩ | refine ⟨⟨_, rfl, by assumption⟩, ?_⟩ | refine ⟨okT_I _, ?_⟩ | refine ⟨okT_S (by omega) (by omega), ?_⟩ | refine ⟨okT_B (by omega) (by omega), ?_⟩ | refine call0 (gd_of rfl) ?_)
  refine sp_J9_max ?_
  simp only [P_X13_bits, i_kil, i_icon, i_lcon, i_null, i_loadI, i_loadL, i_loadR, i_istore, i_lstore, i_astore, i_iinc, i_dup, i_dup2, i_pop, i_iadd, i_isub, i_imul, i_idiv, i_irem, i_ineg, i_iand, i_ior, i_ishl, i_ishr, i_lxor, i_ladd, i_lsub, i_lmul, i_ldiv, i_lrem, i_lneg, i_lshl, i_lcmp, i_i2l, i_l2i, i_i2b, i_i2s, i_ifeq, i_ifne, i_iflt, i_ifge, i_ifgt, i_ifle, i_cmpeq, i_cmpne, i_cmplt, i_cmpge, i_cmpgt, i_cmple, i_acmpeq, i_acmpne, i_ifnull, i_ifnonnull, i_getI, i_getR, i_putI, i_putZ, i_putR, i_ald, i_ldL, i_ldR, i_ast, i_stL, i_stR, i_alen, i_new, i_newa, i_iret, i_zret, i_lret, i_aret, i_vret, i_raise, i_throw, i_recv, i_objinit, i_tsw3, lget, lset, lput1, lput2, lkil, ltrim, largs, isL, takev, dropv, nthv, pushO, catv, gd, true_and, and_true, Option.some.injEq, Prod.mk.injEq, exists_eq_left', if_true, if_false, reduceCtorEq, Bool.false_eq_true, lcmp_ge, lcmp_lt, lcmp_le, lcmp_gt, lcmp_eq, true_or, or_true, not_true_eq_false, not_false_eq_true, false_implies, true_implies, List.length_cons, List.length_nil]
  have e : (if (0 : Int) < (h : Int) - 8 then (h : Int) - 8 else 0) = ((h - 8 : Nat) : Int) := by split <;> omega
  rw [e]; exact K
/-- an end of a span, times 2 to the bits -/
def eI (h : Nat) (w : Int) : Int := w * ((2 ^ (8 - h) : Nat) : Int) - 128 * ((2 ^ (h - 8) : Nat) : Int)
theorem eI_pt (h : Nat) (w : Int) : ((eI h w : Int) : Rat) / (((2 ^ (h - 8) : Nat) : Int) : Rat) = rpt h w := by
  have p1 := r2_pos (h - 8)
  have p2 := r2_pos h
  have p3 := r2_pos (8 - h)
  unfold eI rpt
  rw [Rat.intCast_sub, Rat.intCast_mul, Rat.intCast_mul]
  have e : (((2 ^ (8 - h) : Nat) : Int) : Rat) * (((2 ^ h : Nat) : Int) : Rat) = 256 * (((2 ^ (h - 8) : Nat) : Int) : Rat) := by
    have h1 : 2 ^ (8 - h) * 2 ^ h = 256 * 2 ^ (h - 8) := by
      rw [show (256 : Nat) = 2 ^ 8 by decide, ← Nat.pow_add, ← Nat.pow_add]; congr 1; omega
    rw [← Rat.intCast_mul, show (256 : Rat) = (((256 : Nat) : Int) : Rat) from rfl, ← Rat.intCast_mul, ← Int.natCast_mul, ← Int.natCast_mul, h1]
  generalize (((2 ^ (h - 8) : Nat) : Int) : Rat) = X at *
  generalize (((2 ^ h : Nat) : Int) : Rat) = Y at *
  generalize (((2 ^ (8 - h) : Nat) : Int) : Rat) = Z at *
  obtain ⟨x1, x2⟩ := pos_inv p1
  obtain ⟨y1, y2⟩ := pos_inv p2
  rw [Rat.div_def, Rat.div_def, show ((128 : Int) : Rat) = 128 from rfl]
  have e2 : Z * X⁻¹ = 256 * Y⁻¹ := by
    have h1 : Z * Y * (X⁻¹ * Y⁻¹) = 256 * X * (X⁻¹ * Y⁻¹) := by rw [e]
    have h2 : Z * Y * (X⁻¹ * Y⁻¹) = Z * X⁻¹ * (Y⁻¹ * Y) := by grind
    have h3 : 256 * X * (X⁻¹ * Y⁻¹) = 256 * Y⁻¹ * (X⁻¹ * X) := by grind
    rw [h2, h3, x2, y2] at h1
    grind
  have h4 : ((w : Rat) * Z - 128 * X) * X⁻¹ = (w : Rat) * (Z * X⁻¹) - 128 * (X⁻¹ * X) := by grind
  rw [h4, e2, x2]; grind
theorem eI_abs {h : Nat} {w : Int} (h0 : 0 ≤ w) (h1 : w ≤ ((2 ^ h : Nat) : Int)) : (eI h w).natAbs ≤ 2 ^ (h - 8 + 7) := by
  unfold eI
  have e1 : w * ((2 ^ (8 - h) : Nat) : Int) ≤ ((2 ^ h : Nat) : Int) * ((2 ^ (8 - h) : Nat) : Int) := Int.mul_le_mul_of_nonneg_right h1 (Int.natCast_nonneg _)
  have e2 : ((2 ^ h : Nat) : Int) * ((2 ^ (8 - h) : Nat) : Int) = 256 * ((2 ^ (h - 8) : Nat) : Int) := by
    rw [← Int.natCast_mul, ← Nat.pow_add, show (256 : Int) = ((2 ^ 8 : Nat) : Int) from rfl, ← Int.natCast_mul, ← Nat.pow_add]
    congr 2; omega
  have e3 : 0 ≤ w * ((2 ^ (8 - h) : Nat) : Int) := Int.mul_nonneg h0 (Int.natCast_nonneg _)
  have e4 : 2 ^ (h - 8 + 7) = 128 * 2 ^ (h - 8) := by rw [Nat.pow_add, Nat.mul_comm]
  rw [e4]
  generalize w * ((2 ^ (8 - h) : Nat) : Int) = W at *
  generalize 2 ^ (h - 8) = X at *
  omega
set_option maxHeartbeats 2000000 in
theorem sp_X13_end {a h I H o : Nat} {w u v : Int} (ha : reS S a) (ho : S.1 o = some (2, 0)) (hI : wS 3 S I 160) (hH : wS 3 S H 160) (nIH : I + 1 < H ∨ H + 1 < I) (nI : I + 1 < a ∨ a + 3 < I) (nH : H + 1 < a ∨ a + 3 < H) (h2 : D a 2 = h) (hw : wD 1 2 D (a + 2) w) (h0 : 0 ≤ w) (h1 : w < ((2 ^ h : Nat) : Int)) (hh : h ≤ 460) (hu : (v = 0 ∧ u = 0) ∨ (v = 1 ∧ u = 1))
    (K : ∀ D' : Dat, (∀ c i, c ≠ I → c ≠ I + 1 → c ≠ H → c ≠ H + 1 → D' c i = D c i) → wD 1 2 D' I (eI h (w + u)) → E (.inl none) B S D') : Wp P_X13_end E 0 [some (aR a), some (aI v), some (aR I), some (aR H), some (aR o)] [] B S D := by
  obtain ⟨a1, a2, a3, a4, a5⟩ := ha
  have hI1 := hI.1
  have hH1 := hH.1
  have l460 : ((2 ^ 470 : Nat) : Int) < 1000000000 ^ 17 := two_pw (by decide)
  have lh : ((2 ^ h : Nat) : Int) ≤ ((2 ^ 460 : Nat) : Int) := Int.ofNat_le.mpr (pw_le2 hh)
  have l46 : ((2 ^ 460 : Nat) : Int) < 1000000000 ^ 16 := two_pw (by decide)
  have w32 : (w.natAbs : Int) < 1000000000 ^ 16 := by omega
  have p16 : (1000000000 : Int) ^ 16 ≤ 1000000000 ^ 32 := pw_mono (by decide)
  have p17 : (1000000000 : Int) ^ 17 ≤ 1000000000 ^ 160 := pw_mono (by decide)
  have p161 : (1000000000 : Int) ^ 16 ≤ 1000000000 ^ 160 := pw_mono (by decide)
  have p1 : (1 : Int) < 1000000000 ^ 16 := two_pw (x := 0) (p := 16) (by decide)
  have p116 : 2 * (1000000000 : Int) ^ 16 ≤ 1000000000 ^ 17 := by rw [pw_succ]; have := pw_pos 16; omega
  have hpos : ∀ n : Nat, (0 : Int) < ((2 ^ n : Nat) : Int) := fun n => Int.ofNat_lt.mpr (Nat.two_pow_pos n)
  -- behind the ends
  have fourth : ∀ (L j : Nat) (D1 : Dat), j + L = h - 8 → (∀ c i, c ≠ I → c ≠ I + 1 → c ≠ H → c ≠ H + 1 → D1 c i = D c i) → wD 1 2 D1 I ((w + u) * ((2 ^ (8 - h) : Nat) : Int)) → wD 1 2 D1 H (128 * ((2 ^ j : Nat) : Int)) → Wp P_X13_end E 3 [some (aR a), none, some (aR I), some (aR H), some (aR o), some (aI j)] [] B S D1 := by
    intro L
    induction L with
    | zero =>
      intro j D1 hj hfr hi hk
      have ej : j = h - 8 := by omega
      refine wp_in ?_
      simp only [P_X13_end, i_kil, i_icon, i_lcon, i_null, i_loadI, i_loadL, i_loadR, i_istore, i_lstore, i_astore, i_iinc, i_dup, i_dup2, i_pop, i_iadd, i_isub, i_imul, i_idiv, i_irem, i_ineg, i_iand, i_ior, i_ishl, i_ishr, i_lxor, i_ladd, i_lsub, i_lmul, i_ldiv, i_lrem, i_lneg, i_lshl, i_lcmp, i_i2l, i_l2i, i_i2b, i_i2s, i_ifeq, i_ifne, i_iflt, i_ifge, i_ifgt, i_ifle, i_cmpeq, i_cmpne, i_cmplt, i_cmpge, i_cmpgt, i_cmple, i_acmpeq, i_acmpne, i_ifnull, i_ifnonnull, i_getI, i_getR, i_putI, i_putZ, i_putR, i_ald, i_ldL, i_ldR, i_ast, i_stL, i_stR, i_alen, i_new, i_newa, i_iret, i_zret, i_lret, i_aret, i_vret, i_raise, i_throw, i_recv, i_objinit, i_tsw3, lget, lset, lput1, lput2, lkil, ltrim, largs, isL, takev, dropv, nthv, pushO, catv, gd, true_and, and_true, Option.some.injEq, Prod.mk.injEq, exists_eq_left', if_true, if_false, reduceCtorEq, Bool.false_eq_true, lcmp_ge, lcmp_lt, lcmp_le, lcmp_gt, lcmp_eq, true_or, or_true, not_true_eq_false, not_false_eq_true, false_implies, true_implies, List.length_cons, List.length_nil, a1]
      repeat (first | refine ⟨in_small (by omega) (by omega), ?_⟩ | (show (_ → _) ∧ (_ → _); first | refine ⟨by omega, fun _ => ?_⟩ | refine ⟨fun _ => ?_, by omega⟩) | refine ⟨by omega, ?_⟩ | refine ⟨⟨_, rfl, by assumption⟩, ?_⟩ | refine ⟨okT_I _, ?_⟩ | refine ⟨okT_S (by omega) (by omega), ?_⟩ | refine ⟨okT_B (by omega) (by omega), ?_⟩ | refine call0 (gd_of rfl) ?_)
      refine sp_X13_bits a1 (by rw [hfr _ _ (by omega) (by omega) (by omega) (by omega)]; exact h2) (by omega) ?_
      simp only [P_X13_end, i_kil, i_icon, i_lcon, i_null, i_loadI, i_loadL, i_loadR, i_istore, i_lstore, i_astore, i_iinc, i_dup, i_dup2, i_pop, i_iadd, i_isub, i_imul, i_idiv, i_irem, i_ineg, i_iand, i_ior, i_ishl, i_ishr, i_lxor, i_ladd, i_lsub, i_lmul, i_ldiv, i_lrem, i_lneg, i_lshl, i_lcmp, i_i2l, i_l2i, i_i2b, i_i2s, i_ifeq, i_ifne, i_iflt, i_ifge, i_ifgt, i_ifle, i_cmpeq, i_cmpne, i_cmplt, i_cmpge, i_cmpgt, i_cmple, i_acmpeq, i_acmpne, i_ifnull, i_ifnonnull, i_getI, i_getR, i_putI, i_putZ, i_putR, i_ald, i_ldL, i_ldR, i_ast, i_stL, i_stR, i_alen, i_new, i_newa, i_iret, i_zret, i_lret, i_aret, i_vret, i_raise, i_throw, i_recv, i_objinit, i_tsw3, lget, lset, lput1, lput2, lkil, ltrim, largs, isL, takev, dropv, nthv, pushO, catv, gd, true_and, and_true, Option.some.injEq, Prod.mk.injEq, exists_eq_left', if_true, if_false, reduceCtorEq, Bool.false_eq_true, lcmp_ge, lcmp_lt, lcmp_le, lcmp_gt, lcmp_eq, true_or, or_true, not_true_eq_false, not_false_eq_true, false_implies, true_implies, List.length_cons, List.length_nil, ho]
      refine ⟨fun _ => ?_, fun w => by omega⟩
      repeat (first | refine ⟨in_small (by omega) (by omega), ?_⟩ | (show (_ → _) ∧ (_ → _); first | refine ⟨by omega, fun _ => ?_⟩ | refine ⟨fun _ => ?_, by omega⟩) | refine ⟨by omega, ?_⟩ | refine ⟨⟨_, rfl, by assumption⟩, ?_⟩ | refine ⟨okT_I _, ?_⟩ | refine ⟨okT_S (by omega) (by omega), ?_⟩ | refine ⟨okT_B (by omega) (by omega), ?_⟩ | refine call0 (gd_of rfl) ?_)
      have b1 : ((w + u) * ((2 ^ (8 - h) : Nat) : Int)).natAbs ≤ 2 ^ 469 := by
        have e1 : (w + u) * ((2 ^ (8 - h) : Nat) : Int) ≤ ((2 ^ h : Nat) : Int) * ((2 ^ (8 - h) : Nat) : Int) := Int.mul_le_mul_of_nonneg_right (by omega) (Int.natCast_nonneg _)
        have e3 : 0 ≤ (w + u) * ((2 ^ (8 - h) : Nat) : Int) := Int.mul_nonneg (by omega) (Int.natCast_nonneg _)
        rw [← Int.natCast_mul, ← Nat.pow_add] at e1
        have e2 : 2 ^ (h + (8 - h)) ≤ 2 ^ 469 := pw_le2 (by omega)
        omega
      have b2 : (128 * ((2 ^ j : Nat) : Int)).natAbs ≤ 2 ^ 469 := by
        have e2 : 2 ^ (7 + j) ≤ 2 ^ 469 := pw_le2 (by omega)
        rw [Nat.pow_add] at e2
        have e5 : (2 : Nat) ^ 7 = 128 := by decide
        rw [e5] at e2
        have := hpos j
        omega
      have b3 : (2 : Nat) ^ 470 = 2 ^ 469 + 2 ^ 469 := by rw [show 470 = 469 + 1 from rfl, Nat.pow_succ]; omega
      have b4 : ((2 ^ 469 : Nat) : Int) + ((2 ^ 469 : Nat) : Int) < 1000000000 ^ 160 := by
        rw [b3] at l460
        generalize 2 ^ 469 = Q at *
        omega
      generalize 2 ^ 469 = Q at *
      refine sp_X2_add ho hI hI hH hi hk (.inr rfl) (by omega) (by omega) (by omega) (by decide) (by decide) (by decide) fun D2 g1 g2 => ?_
      simp only [P_X13_end, i_kil, i_icon, i_lcon, i_null, i_loadI, i_loadL, i_loadR, i_istore, i_lstore, i_astore, i_iinc, i_dup, i_dup2, i_pop, i_iadd, i_isub, i_imul, i_idiv, i_irem, i_ineg, i_iand, i_ior, i_ishl, i_ishr, i_lxor, i_ladd, i_lsub, i_lmul, i_ldiv, i_lrem, i_lneg, i_lshl, i_lcmp, i_i2l, i_l2i, i_i2b, i_i2s, i_ifeq, i_ifne, i_iflt, i_ifge, i_ifgt, i_ifle, i_cmpeq, i_cmpne, i_cmplt, i_cmpge, i_cmpgt, i_cmple, i_acmpeq, i_acmpne, i_ifnull, i_ifnonnull, i_getI, i_getR, i_putI, i_putZ, i_putR, i_ald, i_ldL, i_ldR, i_ast, i_stL, i_stR, i_alen, i_new, i_newa, i_iret, i_zret, i_lret, i_aret, i_vret, i_raise, i_throw, i_recv, i_objinit, i_tsw3, lget, lset, lput1, lput2, lkil, ltrim, largs, isL, takev, dropv, nthv, pushO, catv, gd, true_and, and_true, Option.some.injEq, Prod.mk.injEq, exists_eq_left', if_true, if_false, reduceCtorEq, Bool.false_eq_true, lcmp_ge, lcmp_lt, lcmp_le, lcmp_gt, lcmp_eq, true_or, or_true, not_true_eq_false, not_false_eq_true, false_implies, true_implies, List.length_cons, List.length_nil]
      refine K D2 (fun c i c1 c2 c3 c4 => by rw [g1 c i c1 c2]; exact hfr c i c1 c2 c3 c4) ?_
      have e : eI h (w + u) = (w + u) * ((2 ^ (8 - h) : Nat) : Int) + -1 * (128 * ((2 ^ j : Nat) : Int)) := by unfold eI; rw [← ej]; omega
      rw [e]; exact g2
    | succ L ih =>
      intro j D1 hj hfr hi hk
      refine wp_in ?_
      simp only [P_X13_end, i_kil, i_icon, i_lcon, i_null, i_loadI, i_loadL, i_loadR, i_istore, i_lstore, i_astore, i_iinc, i_dup, i_dup2, i_pop, i_iadd, i_isub, i_imul, i_idiv, i_irem, i_ineg, i_iand, i_ior, i_ishl, i_ishr, i_lxor, i_ladd, i_lsub, i_lmul, i_ldiv, i_lrem, i_lneg, i_lshl, i_lcmp, i_i2l, i_l2i, i_i2b, i_i2s, i_ifeq, i_ifne, i_iflt, i_ifge, i_ifgt, i_ifle, i_cmpeq, i_cmpne, i_cmplt, i_cmpge, i_cmpgt, i_cmple, i_acmpeq, i_acmpne, i_ifnull, i_ifnonnull, i_getI, i_getR, i_putI, i_putZ, i_putR, i_ald, i_ldL, i_ldR, i_ast, i_stL, i_stR, i_alen, i_new, i_newa, i_iret, i_zret, i_lret, i_aret, i_vret, i_raise, i_throw, i_recv, i_objinit, i_tsw3, lget, lset, lput1, lput2, lkil, ltrim, largs, isL, takev, dropv, nthv, pushO, catv, gd, true_and, and_true, Option.some.injEq, Prod.mk.injEq, exists_eq_left', if_true, if_false, reduceCtorEq, Bool.false_eq_true, lcmp_ge, lcmp_lt, lcmp_le, lcmp_gt, lcmp_eq, true_or, or_true, not_true_eq_false, not_false_eq_true, false_implies, true_implies, List.length_cons, List.length_nil, a1]
      repeat (first | refine ⟨in_small (by omega) (by omega), ?_⟩ | (show (_ → _) ∧ (_ → _); first | refine ⟨by omega, fun _ => ?_⟩ | refine ⟨fun _ => ?_, by omega⟩) | refine ⟨by omega, ?_⟩ | refine ⟨⟨_, rfl, by assumption⟩, ?_⟩ | refine ⟨okT_I _, ?_⟩ | refine ⟨okT_S (by omega) (by omega), ?_⟩ | refine ⟨okT_B (by omega) (by omega), ?_⟩ | refine call0 (gd_of rfl) ?_)
      refine sp_X13_bits a1 (by rw [hfr _ _ (by omega) (by omega) (by omega) (by omega)]; exact h2) (by omega) ?_
      simp only [P_X13_end, i_kil, i_icon, i_lcon, i_null, i_loadI, i_loadL, i_loadR, i_istore, i_lstore, i_astore, i_iinc, i_dup, i_dup2, i_pop, i_iadd, i_isub, i_imul, i_idiv, i_irem, i_ineg, i_iand, i_ior, i_ishl, i_ishr, i_lxor, i_ladd, i_lsub, i_lmul, i_ldiv, i_lrem, i_lneg, i_lshl, i_lcmp, i_i2l, i_l2i, i_i2b, i_i2s, i_ifeq, i_ifne, i_iflt, i_ifge, i_ifgt, i_ifle, i_cmpeq, i_cmpne, i_cmplt, i_cmpge, i_cmpgt, i_cmple, i_acmpeq, i_acmpne, i_ifnull, i_ifnonnull, i_getI, i_getR, i_putI, i_putZ, i_putR, i_ald, i_ldL, i_ldR, i_ast, i_stL, i_stR, i_alen, i_new, i_newa, i_iret, i_zret, i_lret, i_aret, i_vret, i_raise, i_throw, i_recv, i_objinit, i_tsw3, lget, lset, lput1, lput2, lkil, ltrim, largs, isL, takev, dropv, nthv, pushO, catv, gd, true_and, and_true, Option.some.injEq, Prod.mk.injEq, exists_eq_left', if_true, if_false, reduceCtorEq, Bool.false_eq_true, lcmp_ge, lcmp_lt, lcmp_le, lcmp_gt, lcmp_eq, true_or, or_true, not_true_eq_false, not_false_eq_true, false_implies, true_implies, List.length_cons, List.length_nil, hH1]
      refine ⟨fun w => by omega, fun _ => ?_⟩
      repeat (first | refine ⟨in_small (by omega) (by omega), ?_⟩ | (show (_ → _) ∧ (_ → _); first | refine ⟨by omega, fun _ => ?_⟩ | refine ⟨fun _ => ?_, by omega⟩) | refine ⟨by omega, ?_⟩ | refine ⟨⟨_, rfl, by assumption⟩, ?_⟩ | refine ⟨okT_I _, ?_⟩ | refine ⟨okT_S (by omega) (by omega), ?_⟩ | refine ⟨okT_B (by omega) (by omega), ?_⟩ | refine call0 (gd_of rfl) ?_)
      have e : 2 * (128 * ((2 ^ j : Nat) : Int)) + 0 = 128 * ((2 ^ (j + 1) : Nat) : Int) := by rw [Nat.pow_succ]; omega
      have b2 : 128 * ((2 ^ (j + 1) : Nat) : Int) ≤ ((2 ^ 469 : Nat) : Int) := by
        have e2 : 2 ^ (7 + (j + 1)) ≤ 2 ^ 469 := pw_le2 (by omega)
        rw [Nat.pow_add] at e2
        have e5 : (2 : Nat) ^ 7 = 128 := by decide
        rw [e5] at e2
        omega
      have b3 : ((2 ^ 469 : Nat) : Int) < 1000000000 ^ 160 := Int.lt_of_lt_of_le (two_pw (p := 17) (by decide)) p17
      refine sp_X3_twice hH hk (by have := hpos j; omega) (.inl rfl) (by rw [e]; generalize ((2 ^ 469 : Nat) : Int) = Q at *; omega) (by decide) fun D2 g1 g2 => ?_
      simp only [P_X13_end, i_kil, i_icon, i_lcon, i_null, i_loadI, i_loadL, i_loadR, i_istore, i_lstore, i_astore, i_iinc, i_dup, i_dup2, i_pop, i_iadd, i_isub, i_imul, i_idiv, i_irem, i_ineg, i_iand, i_ior, i_ishl, i_ishr, i_lxor, i_ladd, i_lsub, i_lmul, i_ldiv, i_lrem, i_lneg, i_lshl, i_lcmp, i_i2l, i_l2i, i_i2b, i_i2s, i_ifeq, i_ifne, i_iflt, i_ifge, i_ifgt, i_ifle, i_cmpeq, i_cmpne, i_cmplt, i_cmpge, i_cmpgt, i_cmple, i_acmpeq, i_acmpne, i_ifnull, i_ifnonnull, i_getI, i_getR, i_putI, i_putZ, i_putR, i_ald, i_ldL, i_ldR, i_ast, i_stL, i_stR, i_alen, i_new, i_newa, i_iret, i_zret, i_lret, i_aret, i_vret, i_raise, i_throw, i_recv, i_objinit, i_tsw3, lget, lset, lput1, lput2, lkil, ltrim, largs, isL, takev, dropv, nthv, pushO, catv, gd, true_and, and_true, Option.some.injEq, Prod.mk.injEq, exists_eq_left', if_true, if_false, reduceCtorEq, Bool.false_eq_true, lcmp_ge, lcmp_lt, lcmp_le, lcmp_gt, lcmp_eq, true_or, or_true, not_true_eq_false, not_false_eq_true, false_implies, true_implies, List.length_cons, List.length_nil]
      repeat (first | refine ⟨in_small (by omega) (by omega), ?_⟩ | (show (_ → _) ∧ (_ → _); first | refine ⟨by omega, fun _ => ?_⟩ | refine ⟨fun _ => ?_, by omega⟩) | refine ⟨by omega, ?_⟩ | refine ⟨⟨_, rfl, by assumption⟩, ?_⟩ | refine ⟨okT_I _, ?_⟩ | refine ⟨okT_S (by omega) (by omega), ?_⟩ | refine ⟨okT_B (by omega) (by omega), ?_⟩ | refine call0 (gd_of rfl) ?_)
      rw [e] at g2
      refine ih (j + 1) D2 (by omega) (fun c i c1 c2 c3 c4 => by rw [g1 c i c3 c4]; exact hfr c i c1 c2 c3 c4) (hi.congr (fun i => g1 _ i (by omega) (by omega)) fun i => g1 _ i (by omega) (by omega)) g2
  -- the end, times 2 as long as it was not halved 8 times
  have third : ∀ (L j : Nat) (D1 : Dat), j + L = 8 - h → (∀ c i, c ≠ I → c ≠ I + 1 → c ≠ H → c ≠ H + 1 → D1 c i = D c i) → wD 1 2 D1 I ((w + u) * ((2 ^ j : Nat) : Int)) → Wp P_X13_end E 2 [some (aR a), none, some (aR I), some (aR H), some (aR o), some (aI ((h : Int) + j))] [] B S D1 := by
    intro L
    induction L with
    | zero =>
      intro j D1 hj hfr hi
      have ej : j = 8 - h := by omega
      refine wp_in ?_
      simp only [P_X13_end, i_kil, i_icon, i_lcon, i_null, i_loadI, i_loadL, i_loadR, i_istore, i_lstore, i_astore, i_iinc, i_dup, i_dup2, i_pop, i_iadd, i_isub, i_imul, i_idiv, i_irem, i_ineg, i_iand, i_ior, i_ishl, i_ishr, i_lxor, i_ladd, i_lsub, i_lmul, i_ldiv, i_lrem, i_lneg, i_lshl, i_lcmp, i_i2l, i_l2i, i_i2b, i_i2s, i_ifeq, i_ifne, i_iflt, i_ifge, i_ifgt, i_ifle, i_cmpeq, i_cmpne, i_cmplt, i_cmpge, i_cmpgt, i_cmple, i_acmpeq, i_acmpne, i_ifnull, i_ifnonnull, i_getI, i_getR, i_putI, i_putZ, i_putR, i_ald, i_ldL, i_ldR, i_ast, i_stL, i_stR, i_alen, i_new, i_newa, i_iret, i_zret, i_lret, i_aret, i_vret, i_raise, i_throw, i_recv, i_objinit, i_tsw3, lget, lset, lput1, lput2, lkil, ltrim, largs, isL, takev, dropv, nthv, pushO, catv, gd, true_and, and_true, Option.some.injEq, Prod.mk.injEq, exists_eq_left', if_true, if_false, reduceCtorEq, Bool.false_eq_true, lcmp_ge, lcmp_lt, lcmp_le, lcmp_gt, lcmp_eq, true_or, or_true, not_true_eq_false, not_false_eq_true, false_implies, true_implies, List.length_cons, List.length_nil, hH1]
      refine ⟨fun _ => ?_, fun w => by omega⟩
      repeat (first | refine ⟨in_small (by omega) (by omega), ?_⟩ | (show (_ → _) ∧ (_ → _); first | refine ⟨by omega, fun _ => ?_⟩ | refine ⟨fun _ => ?_, by omega⟩) | refine ⟨by omega, ?_⟩ | refine ⟨⟨_, rfl, by assumption⟩, ?_⟩ | refine ⟨okT_I _, ?_⟩ | refine ⟨okT_S (by omega) (by omega), ?_⟩ | refine ⟨okT_B (by omega) (by omega), ?_⟩ | refine call0 (gd_of rfl) ?_)
      refine sp_X3_set hH (by decide) (by decide) (by omega) fun D2 g1 g2 => ?_
      simp only [P_X13_end, i_kil, i_icon, i_lcon, i_null, i_loadI, i_loadL, i_loadR, i_istore, i_lstore, i_astore, i_iinc, i_dup, i_dup2, i_pop, i_iadd, i_isub, i_imul, i_idiv, i_irem, i_ineg, i_iand, i_ior, i_ishl, i_ishr, i_lxor, i_ladd, i_lsub, i_lmul, i_ldiv, i_lrem, i_lneg, i_lshl, i_lcmp, i_i2l, i_l2i, i_i2b, i_i2s, i_ifeq, i_ifne, i_iflt, i_ifge, i_ifgt, i_ifle, i_cmpeq, i_cmpne, i_cmplt, i_cmpge, i_cmpgt, i_cmple, i_acmpeq, i_acmpne, i_ifnull, i_ifnonnull, i_getI, i_getR, i_putI, i_putZ, i_putR, i_ald, i_ldL, i_ldR, i_ast, i_stL, i_stR, i_alen, i_new, i_newa, i_iret, i_zret, i_lret, i_aret, i_vret, i_raise, i_throw, i_recv, i_objinit, i_tsw3, lget, lset, lput1, lput2, lkil, ltrim, largs, isL, takev, dropv, nthv, pushO, catv, gd, true_and, and_true, Option.some.injEq, Prod.mk.injEq, exists_eq_left', if_true, if_false, reduceCtorEq, Bool.false_eq_true, lcmp_ge, lcmp_lt, lcmp_le, lcmp_gt, lcmp_eq, true_or, or_true, not_true_eq_false, not_false_eq_true, false_implies, true_implies, List.length_cons, List.length_nil]
      refine fourth (h - 8) 0 D2 (by omega) (fun c i c1 c2 c3 c4 => by rw [g1 c i c3 c4]; exact hfr c i c1 c2 c3 c4) (by rw [← ej]; exact hi.congr (fun i => g1 _ i (by omega) (by omega)) fun i => g1 _ i (by omega) (by omega)) (by rw [Nat.pow_zero]; exact g2)
    | succ L ih =>
      intro j D1 hj hfr hi
      have e : 2 * ((w + u) * ((2 ^ j : Nat) : Int)) + 0 = (w + u) * ((2 ^ (j + 1) : Nat) : Int) := by
        rw [Nat.pow_succ, Int.natCast_mul]
        have : (w + u) * (((2 ^ j : Nat) : Int) * ((2 : Nat) : Int)) = 2 * ((w + u) * ((2 ^ j : Nat) : Int)) := by rw [← Int.mul_assoc, Int.mul_comm]; rfl
        rw [this]; omega
      have b1 : (w + u) * ((2 ^ (j + 1) : Nat) : Int) ≤ 256 * 256 := by
        have e1 : ((2 ^ h : Nat) : Int) ≤ ((2 ^ 8 : Nat) : Int) := Int.ofNat_le.mpr (pw_le2 (by omega))
        have e2 : ((2 ^ (j + 1) : Nat) : Int) ≤ ((2 ^ 8 : Nat) : Int) := Int.ofNat_le.mpr (pw_le2 (by omega))
        have e3 : ((2 ^ 8 : Nat) : Int) = 256 := by decide
        rw [e3] at e1 e2
        exact Int.mul_le_mul (by omega) e2 (Int.natCast_nonneg _) (by decide)
      have b0 : 0 ≤ (w + u) * ((2 ^ j : Nat) : Int) := Int.mul_nonneg (by omega) (Int.natCast_nonneg _)
      have b9 : (256 * 256 : Int) < 1000000000 ^ 1 := by decide
      have b10 : (1000000000 : Int) ^ 1 ≤ 1000000000 ^ 160 := pw_mono (by decide)
      refine wp_in ?_
      simp only [P_X13_end, i_kil, i_icon, i_lcon, i_null, i_loadI, i_loadL, i_loadR, i_istore, i_lstore, i_astore, i_iinc, i_dup, i_dup2, i_pop, i_iadd, i_isub, i_imul, i_idiv, i_irem, i_ineg, i_iand, i_ior, i_ishl, i_ishr, i_lxor, i_ladd, i_lsub, i_lmul, i_ldiv, i_lrem, i_lneg, i_lshl, i_lcmp, i_i2l, i_l2i, i_i2b, i_i2s, i_ifeq, i_ifne, i_iflt, i_ifge, i_ifgt, i_ifle, i_cmpeq, i_cmpne, i_cmplt, i_cmpge, i_cmpgt, i_cmple, i_acmpeq, i_acmpne, i_ifnull, i_ifnonnull, i_getI, i_getR, i_putI, i_putZ, i_putR, i_ald, i_ldL, i_ldR, i_ast, i_stL, i_stR, i_alen, i_new, i_newa, i_iret, i_zret, i_lret, i_aret, i_vret, i_raise, i_throw, i_recv, i_objinit, i_tsw3, lget, lset, lput1, lput2, lkil, ltrim, largs, isL, takev, dropv, nthv, pushO, catv, gd, true_and, and_true, Option.some.injEq, Prod.mk.injEq, exists_eq_left', if_true, if_false, reduceCtorEq, Bool.false_eq_true, lcmp_ge, lcmp_lt, lcmp_le, lcmp_gt, lcmp_eq, true_or, or_true, not_true_eq_false, not_false_eq_true, false_implies, true_implies, List.length_cons, List.length_nil, hI1]
      refine ⟨fun w => by omega, fun _ => ?_⟩
      repeat (first | refine ⟨in_small (by omega) (by omega), ?_⟩ | (show (_ → _) ∧ (_ → _); first | refine ⟨by omega, fun _ => ?_⟩ | refine ⟨fun _ => ?_, by omega⟩) | refine ⟨by omega, ?_⟩ | refine ⟨⟨_, rfl, by assumption⟩, ?_⟩ | refine ⟨okT_I _, ?_⟩ | refine ⟨okT_S (by omega) (by omega), ?_⟩ | refine ⟨okT_B (by omega) (by omega), ?_⟩ | refine call0 (gd_of rfl) ?_)
      refine sp_X3_twice hI hi b0 (.inl rfl) (by rw [e]; generalize (w + u) * ((2 ^ (j + 1) : Nat) : Int) = Q at *; omega) (by decide) fun D2 g1 g2 => ?_
      simp only [P_X13_end, i_kil, i_icon, i_lcon, i_null, i_loadI, i_loadL, i_loadR, i_istore, i_lstore, i_astore, i_iinc, i_dup, i_dup2, i_pop, i_iadd, i_isub, i_imul, i_idiv, i_irem, i_ineg, i_iand, i_ior, i_ishl, i_ishr, i_lxor, i_ladd, i_lsub, i_lmul, i_ldiv, i_lrem, i_lneg, i_lshl, i_lcmp, i_i2l, i_l2i, i_i2b, i_i2s, i_ifeq, i_ifne, i_iflt, i_ifge, i_ifgt, i_ifle, i_cmpeq, i_cmpne, i_cmplt, i_cmpge, i_cmpgt, i_cmple, i_acmpeq, i_acmpne, i_ifnull, i_ifnonnull, i_getI, i_getR, i_putI, i_putZ, i_putR, i_ald, i_ldL, i_ldR, i_ast, i_stL, i_stR, i_alen, i_new, i_newa, i_iret, i_zret, i_lret, i_aret, i_vret, i_raise, i_throw, i_recv, i_objinit, i_tsw3, lget, lset, lput1, lput2, lkil, ltrim, largs, isL, takev, dropv, nthv, pushO, catv, gd, true_and, and_true, Option.some.injEq, Prod.mk.injEq, exists_eq_left', if_true, if_false, reduceCtorEq, Bool.false_eq_true, lcmp_ge, lcmp_lt, lcmp_le, lcmp_gt, lcmp_eq, true_or, or_true, not_true_eq_false, not_false_eq_true, false_implies, true_implies, List.length_cons, List.length_nil]
      repeat (first | refine ⟨in_small (by omega) (by omega), ?_⟩ | (show (_ → _) ∧ (_ → _); first | refine ⟨by omega, fun _ => ?_⟩ | refine ⟨fun _ => ?_, by omega⟩) | refine ⟨by omega, ?_⟩ | refine ⟨⟨_, rfl, by assumption⟩, ?_⟩ | refine ⟨okT_I _, ?_⟩ | refine ⟨okT_S (by omega) (by omega), ?_⟩ | refine ⟨okT_B (by omega) (by omega), ?_⟩ | refine call0 (gd_of rfl) ?_)
      rw [e] at g2
      have := ih (j + 1) D2 (by omega) (fun c i c1 c2 c3 c4 => by rw [g1 c i c1 c2]; exact hfr c i c1 c2 c3 c4) g2
      rwa [show (h : Int) + ((j + 1 : Nat) : Int) = (h : Int) + j + 1 by omega] at this
  have second : ∀ D1 : Dat, (∀ c i, c ≠ I → c ≠ I + 1 → c ≠ H → c ≠ H + 1 → D1 c i = D c i) → wD 1 2 D1 I (w + u) → Wp P_X13_end E 1 [some (aR a), none, some (aR I), some (aR H), some (aR o)] [] B S D1 := fun D1 hfr hi => by
    have n2 : D1 a 2 = h := by rw [hfr _ _ (by omega) (by omega) (by omega) (by omega)]; exact h2
    refine wp_in ?_
    simp only [P_X13_end, i_kil, i_icon, i_lcon, i_null, i_loadI, i_loadL, i_loadR, i_istore, i_lstore, i_astore, i_iinc, i_dup, i_dup2, i_pop, i_iadd, i_isub, i_imul, i_idiv, i_irem, i_ineg, i_iand, i_ior, i_ishl, i_ishr, i_lxor, i_ladd, i_lsub, i_lmul, i_ldiv, i_lrem, i_lneg, i_lshl, i_lcmp, i_i2l, i_l2i, i_i2b, i_i2s, i_ifeq, i_ifne, i_iflt, i_ifge, i_ifgt, i_ifle, i_cmpeq, i_cmpne, i_cmplt, i_cmpge, i_cmpgt, i_cmple, i_acmpeq, i_acmpne, i_ifnull, i_ifnonnull, i_getI, i_getR, i_putI, i_putZ, i_putR, i_ald, i_ldL, i_ldR, i_ast, i_stL, i_stR, i_alen, i_new, i_newa, i_iret, i_zret, i_lret, i_aret, i_vret, i_raise, i_throw, i_recv, i_objinit, i_tsw3, lget, lset, lput1, lput2, lkil, ltrim, largs, isL, takev, dropv, nthv, pushO, catv, gd, true_and, and_true, Option.some.injEq, Prod.mk.injEq, exists_eq_left', if_true, if_false, reduceCtorEq, Bool.false_eq_true, lcmp_ge, lcmp_lt, lcmp_le, lcmp_gt, lcmp_eq, true_or, or_true, not_true_eq_false, not_false_eq_true, false_implies, true_implies, List.length_cons, List.length_nil, a1, n2]
    have := third (8 - h) 0 D1 (by omega) hfr (by rw [Nat.pow_zero]; have : (w + u) * ((1 : Nat) : Int) = w + u := by omega
                                                  rw [this]; exact hi)
    rwa [show (h : Int) + ((0 : Nat) : Int) = h by omega] at this
  refine wp_in ?_
  simp only [P_X13_end, i_kil, i_icon, i_lcon, i_null, i_loadI, i_loadL, i_loadR, i_istore, i_lstore, i_astore, i_iinc, i_dup, i_dup2, i_pop, i_iadd, i_isub, i_imul, i_idiv, i_irem, i_ineg, i_iand, i_ior, i_ishl, i_ishr, i_lxor, i_ladd, i_lsub, i_lmul, i_ldiv, i_lrem, i_lneg, i_lshl, i_lcmp, i_i2l, i_l2i, i_i2b, i_i2s, i_ifeq, i_ifne, i_iflt, i_ifge, i_ifgt, i_ifle, i_cmpeq, i_cmpne, i_cmplt, i_cmpge, i_cmpgt, i_cmple, i_acmpeq, i_acmpne, i_ifnull, i_ifnonnull, i_getI, i_getR, i_putI, i_putZ, i_putR, i_ald, i_ldL, i_ldR, i_ast, i_stL, i_stR, i_alen, i_new, i_newa, i_iret, i_zret, i_lret, i_aret, i_vret, i_raise, i_throw, i_recv, i_objinit, i_tsw3, lget, lset, lput1, lput2, lkil, ltrim, largs, isL, takev, dropv, nthv, pushO, catv, gd, true_and, and_true, Option.some.injEq, Prod.mk.injEq, exists_eq_left', if_true, if_false, reduceCtorEq, Bool.false_eq_true, lcmp_ge, lcmp_lt, lcmp_le, lcmp_gt, lcmp_eq, true_or, or_true, not_true_eq_false, not_false_eq_true, false_implies, true_implies, List.length_cons, List.length_nil, a1, a4, hI1]
  repeat (first | refine ⟨in_small (by omega) (by omega), ?_⟩ | (show (_ → _) ∧ (_ → _); first | refine ⟨by omega, fun _ => ?_⟩ | refine ⟨fun _ => ?_, by omega⟩) | refine ⟨by omega, ?_⟩ | refine ⟨⟨_, rfl, by assumption⟩, ?_⟩ | refine ⟨okT_I _, ?_⟩ | refine ⟨okT_S (by omega) (by omega), ?_⟩ | refine ⟨okT_B (by omega) (by omega), ?_⟩ | refine call0 (gd_of rfl) ?_)
  refine sp_X3_be hI a5 (by omega) hw (by omega) (by omega) (by decide) fun D1 g1 g2 => ?_
  simp only [P_X13_end, i_kil, i_icon, i_lcon, i_null, i_loadI, i_loadL, i_loadR, i_istore, i_lstore, i_astore, i_iinc, i_dup, i_dup2, i_pop, i_iadd, i_isub, i_imul, i_idiv, i_irem, i_ineg, i_iand, i_ior, i_ishl, i_ishr, i_lxor, i_ladd, i_lsub, i_lmul, i_ldiv, i_lrem, i_lneg, i_lshl, i_lcmp, i_i2l, i_l2i, i_i2b, i_i2s, i_ifeq, i_ifne, i_iflt, i_ifge, i_ifgt, i_ifle, i_cmpeq, i_cmpne, i_cmplt, i_cmpge, i_cmpgt, i_cmple, i_acmpeq, i_acmpne, i_ifnull, i_ifnonnull, i_getI, i_getR, i_putI, i_putZ, i_putR, i_ald, i_ldL, i_ldR, i_ast, i_stL, i_stR, i_alen, i_new, i_newa, i_iret, i_zret, i_lret, i_aret, i_vret, i_raise, i_throw, i_recv, i_objinit, i_tsw3, lget, lset, lput1, lput2, lkil, ltrim, largs, isL, takev, dropv, nthv, pushO, catv, gd, true_and, and_true, Option.some.injEq, Prod.mk.injEq, exists_eq_left', if_true, if_false, reduceCtorEq, Bool.false_eq_true, lcmp_ge, lcmp_lt, lcmp_le, lcmp_gt, lcmp_eq, true_or, or_true, not_true_eq_false, not_false_eq_true, false_implies, true_implies, List.length_cons, List.length_nil, hH1, ho]
  rcases hu with ⟨rfl, rfl⟩ | ⟨rfl, rfl⟩
  · refine ⟨fun _ => ?_, fun w => absurd rfl w⟩
    exact second D1 (fun c i c1 c2 _ _ => g1 c i c1 c2) (by rw [Int.add_zero]; exact g2)
  · refine ⟨fun w => absurd w (by decide), fun _ => ?_⟩
    repeat (first | refine ⟨in_small (by omega) (by omega), ?_⟩ | (show (_ → _) ∧ (_ → _); first | refine ⟨by omega, fun _ => ?_⟩ | refine ⟨fun _ => ?_, by omega⟩) | refine ⟨by omega, ?_⟩ | refine ⟨⟨_, rfl, by assumption⟩, ?_⟩ | refine ⟨okT_I _, ?_⟩ | refine ⟨okT_S (by omega) (by omega), ?_⟩ | refine ⟨okT_B (by omega) (by omega), ?_⟩ | refine call0 (gd_of rfl) ?_)
    refine sp_X3_set hH (by decide) (by decide) (by omega) fun D2 i1 i2 => ?_
    simp only [P_X13_end, i_kil, i_icon, i_lcon, i_null, i_loadI, i_loadL, i_loadR, i_istore, i_lstore, i_astore, i_iinc, i_dup, i_dup2, i_pop, i_iadd, i_isub, i_imul, i_idiv, i_irem, i_ineg, i_iand, i_ior, i_ishl, i_ishr, i_lxor, i_ladd, i_lsub, i_lmul, i_ldiv, i_lrem, i_lneg, i_lshl, i_lcmp, i_i2l, i_l2i, i_i2b, i_i2s, i_ifeq, i_ifne, i_iflt, i_ifge, i_ifgt, i_ifle, i_cmpeq, i_cmpne, i_cmplt, i_cmpge, i_cmpgt, i_cmple, i_acmpeq, i_acmpne, i_ifnull, i_ifnonnull, i_getI, i_getR, i_putI, i_putZ, i_putR, i_ald, i_ldL, i_ldR, i_ast, i_stL, i_stR, i_alen, i_new, i_newa, i_iret, i_zret, i_lret, i_aret, i_vret, i_raise, i_throw, i_recv, i_objinit, i_tsw3, lget, lset, lput1, lput2, lkil, ltrim, largs, isL, takev, dropv, nthv, pushO, catv, gd, true_and, and_true, Option.some.injEq, Prod.mk.injEq, exists_eq_left', if_true, if_false, reduceCtorEq, Bool.false_eq_true, lcmp_ge, lcmp_lt, lcmp_le, lcmp_gt, lcmp_eq, true_or, or_true, not_true_eq_false, not_false_eq_true, false_implies, true_implies, List.length_cons, List.length_nil, hH1, ho]
    repeat (first | refine ⟨in_small (by omega) (by omega), ?_⟩ | (show (_ → _) ∧ (_ → _); first | refine ⟨by omega, fun _ => ?_⟩ | refine ⟨fun _ => ?_, by omega⟩) | refine ⟨by omega, ?_⟩ | refine ⟨⟨_, rfl, by assumption⟩, ?_⟩ | refine ⟨okT_I _, ?_⟩ | refine ⟨okT_S (by omega) (by omega), ?_⟩ | refine ⟨okT_B (by omega) (by omega), ?_⟩ | refine call0 (gd_of rfl) ?_)
    refine sp_X2_add ho hI hI hH (g2.congr (fun i => i1 _ i (by omega) (by omega)) fun i => i1 _ i (by omega) (by omega)) i2 (.inl rfl) (by omega) (by omega) (by omega) (by decide) (by decide) (by decide) fun D3 j1 j2 => ?_
    simp only [P_X13_end, i_kil, i_icon, i_lcon, i_null, i_loadI, i_loadL, i_loadR, i_istore, i_lstore, i_astore, i_iinc, i_dup, i_dup2, i_pop, i_iadd, i_isub, i_imul, i_idiv, i_irem, i_ineg, i_iand, i_ior, i_ishl, i_ishr, i_lxor, i_ladd, i_lsub, i_lmul, i_ldiv, i_lrem, i_lneg, i_lshl, i_lcmp, i_i2l, i_l2i, i_i2b, i_i2s, i_ifeq, i_ifne, i_iflt, i_ifge, i_ifgt, i_ifle, i_cmpeq, i_cmpne, i_cmplt, i_cmpge, i_cmpgt, i_cmple, i_acmpeq, i_acmpne, i_ifnull, i_ifnonnull, i_getI, i_getR, i_putI, i_putZ, i_putR, i_ald, i_ldL, i_ldR, i_ast, i_stL, i_stR, i_alen, i_new, i_newa, i_iret, i_zret, i_lret, i_aret, i_vret, i_raise, i_throw, i_recv, i_objinit, i_tsw3, lget, lset, lput1, lput2, lkil, ltrim, largs, isL, takev, dropv, nthv, pushO, catv, gd, true_and, and_true, Option.some.injEq, Prod.mk.injEq, exists_eq_left', if_true, if_false, reduceCtorEq, Bool.false_eq_true, lcmp_ge, lcmp_lt, lcmp_le, lcmp_gt, lcmp_eq, true_or, or_true, not_true_eq_false, not_false_eq_true, false_implies, true_implies, List.length_cons, List.length_nil]
    refine second D3 (fun c i c1 c2 c3 c4 => by rw [j1 c i c1 c2, i1 c i c3 c4, g1 c i c1 c2]) ?_
    rw [show w + 1 * 1 = w + 1 by omega] at j2
    exact j2
theorem sp_X13_half {a h : Nat} {w u : Int} (ha : reS S a) (h2 : D a 2 = h) (hw : wD 1 2 D (a + 2) w) (h0 : 0 ≤ w) (h1 : w < ((2 ^ h : Nat) : Int)) (hh : h ≤ 460) (hu : u = 0 ∨ u = 1)
    (K : ∀ D' : Dat, (∀ c i, (c ≠ a ∨ i ≠ 2) → c ≠ a + 2 → c ≠ a + 3 → D' c i = D c i) → D' a 2 = ((h + 1 : Nat) : Int) → wD 1 2 D' (a + 2) (2 * w + u) → E (.inl none) B S D') : Wp P_X13_half E 0 [some (aR a), some (aI u)] [] B S D := by
  obtain ⟨a1, a2, a3, a4, a5⟩ := ha
  have a6 := a5.1
  have lh : ((2 ^ h : Nat) : Int) ≤ ((2 ^ 460 : Nat) : Int) := Int.ofNat_le.mpr (pw_le2 hh)
  have l46 : ((2 ^ 460 : Nat) : Int) < 1000000000 ^ 16 := two_pw (by decide)
  have p16 : (1000000000 : Int) ^ 17 ≤ 1000000000 ^ 32 := pw_mono (by decide)
  have p116 : 1000000000 * (1000000000 : Int) ^ 16 = 1000000000 ^ 17 := (pw_succ 16).symm
  refine wp_in ?_
  simp only [P_X13_half, i_kil, i_icon, i_lcon, i_null, i_loadI, i_loadL, i_loadR, i_istore, i_lstore, i_astore, i_iinc, i_dup, i_dup2, i_pop, i_iadd, i_isub, i_imul, i_idiv, i_irem, i_ineg, i_iand, i_ior, i_ishl, i_ishr, i_lxor, i_ladd, i_lsub, i_lmul, i_ldiv, i_lrem, i_lneg, i_lshl, i_lcmp, i_i2l, i_l2i, i_i2b, i_i2s, i_ifeq, i_ifne, i_iflt, i_ifge, i_ifgt, i_ifle, i_cmpeq, i_cmpne, i_cmplt, i_cmpge, i_cmpgt, i_cmple, i_acmpeq, i_acmpne, i_ifnull, i_ifnonnull, i_getI, i_getR, i_putI, i_putZ, i_putR, i_ald, i_ldL, i_ldR, i_ast, i_stL, i_stR, i_alen, i_new, i_newa, i_iret, i_zret, i_lret, i_aret, i_vret, i_raise, i_throw, i_recv, i_objinit, i_tsw3, lget, lset, lput1, lput2, lkil, ltrim, largs, isL, takev, dropv, nthv, pushO, catv, gd, true_and, and_true, Option.some.injEq, Prod.mk.injEq, exists_eq_left', if_true, if_false, reduceCtorEq, Bool.false_eq_true, lcmp_ge, lcmp_lt, lcmp_le, lcmp_gt, lcmp_eq, true_or, or_true, not_true_eq_false, not_false_eq_true, false_implies, true_implies, List.length_cons, List.length_nil, a1, h2, a4, a6]
  repeat (first | refine ⟨in_small (by omega) (by omega), ?_⟩ | (show (_ → _) ∧ (_ → _); first | refine ⟨by omega, fun _ => ?_⟩ | refine ⟨fun _ => ?_, by omega⟩) | refine ⟨by omega, ?_⟩ | refine ⟨⟨_, rfl, by assumption⟩, ?_⟩ | refine ⟨okT_I _, ?_⟩ | refine ⟨okT_S (by omega) (by omega), ?_⟩ | refine ⟨okT_B (by omega) (by omega), ?_⟩ | refine call0 (gd_of rfl) ?_)
  generalize ((2 ^ 460 : Nat) : Int) = Q at *
  generalize ((2 ^ h : Nat) : Int) = Q2 at *
  refine sp_X3_twice a5 (hw.congr (fun i => ?_) fun i => ?_) h0 hu (by omega) (by decide) fun D1 g1 g2 => ?_
  · simp only [pmu]; rw [if_neg (by omega)]
  · simp only [pmu]; rw [if_neg (by omega)]
  simp only [P_X13_half, i_kil, i_icon, i_lcon, i_null, i_loadI, i_loadL, i_loadR, i_istore, i_lstore, i_astore, i_iinc, i_dup, i_dup2, i_pop, i_iadd, i_isub, i_imul, i_idiv, i_irem, i_ineg, i_iand, i_ior, i_ishl, i_ishr, i_lxor, i_ladd, i_lsub, i_lmul, i_ldiv, i_lrem, i_lneg, i_lshl, i_lcmp, i_i2l, i_l2i, i_i2b, i_i2s, i_ifeq, i_ifne, i_iflt, i_ifge, i_ifgt, i_ifle, i_cmpeq, i_cmpne, i_cmplt, i_cmpge, i_cmpgt, i_cmple, i_acmpeq, i_acmpne, i_ifnull, i_ifnonnull, i_getI, i_getR, i_putI, i_putZ, i_putR, i_ald, i_ldL, i_ldR, i_ast, i_stL, i_stR, i_alen, i_new, i_newa, i_iret, i_zret, i_lret, i_aret, i_vret, i_raise, i_throw, i_recv, i_objinit, i_tsw3, lget, lset, lput1, lput2, lkil, ltrim, largs, isL, takev, dropv, nthv, pushO, catv, gd, true_and, and_true, Option.some.injEq, Prod.mk.injEq, exists_eq_left', if_true, if_false, reduceCtorEq, Bool.false_eq_true, lcmp_ge, lcmp_lt, lcmp_le, lcmp_gt, lcmp_eq, true_or, or_true, not_true_eq_false, not_false_eq_true, false_implies, true_implies, List.length_cons, List.length_nil]
  refine K D1 (fun c i c1 c2 c3 => ?_) ?_ g2
  · rw [g1 c i c2 c3]
    simp only [pmu]; rw [if_neg (by omega)]
  · rw [g1 _ _ (by omega) (by omega)]
    simp only [pmu, and_self, if_true]; omega
end REAL
