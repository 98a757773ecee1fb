/-! the model's calls: part -/
-- needs: ej.msign2
set_option maxRecDepth 100000
set_option linter.unusedVariables false
section MPT
variable {M N : Nat} {S : Stat} {s : Cst}
theorem row_cnt {D : Dat} {q n : Nat} {φ : Nat → Rat} {e : Nat → Nat} (h : mpD D q φ n e) : ∀ t, t ≤ 455 → ∃ j, j ≤ n ∧ pcnt φ t = n - j ∧ (∀ k, k < j → t ≤ e k) ∧ ∀ k, j ≤ k → k < n → e k < t := by
  obtain ⟨-, -, h3, h4, h5, -⟩ := h
  intro t
  induction t with
  | zero => exact fun _ => ⟨n, Nat.le_refl _, by show 0 = _; omega, fun k _ => Nat.zero_le _, fun k h1 h2 => by omega⟩
  | succ t ih =>
    intro ht
    obtain ⟨j, j1, j2, j3, j4⟩ := ih (by omega)
    rcases Classical.em (φ t = 0) with z | z
    · refine ⟨j, j1, ?_, fun k hk => ?_, fun k a1 a2 => Nat.lt_succ_of_lt (j4 k a1 a2)⟩
      · show pcnt φ t + (if φ t = 0 then 0 else 1) = _
        rw [if_pos z]; omega
      · have := j3 k hk
        rcases Nat.decEq (e k) t with y | y
        · omega
        · subst y; exact absurd z (h3 k (by omega)).2.2.2
    · obtain ⟨k, k1, k2⟩ : ∃ k, k < n ∧ e k = t := Classical.byContradiction fun y => z (h5 t (by omega) fun k hk w => y ⟨k, hk, w⟩)
      have k3 : k < j := Nat.lt_of_not_le fun y => by have := j4 k y k1; omega
      have k4 : k + 1 = j := by
        rcases Nat.lt_or_ge (k + 1) j with y | y
        · have a1 := h4 k (k + 1) (by omega) (by omega)
          have a2 := j3 (k + 1) y
          omega
        · omega
      refine ⟨k, by omega, ?_, fun k' hk => ?_, fun k' a1 a2 => ?_⟩
      · show pcnt φ t + (if φ t = 0 then 0 else 1) = _
        rw [if_neg z]; omega
      · have := h4 k' k hk k1
        omega
      · rcases Nat.decEq k' k with y | y
        · have := j4 k' (by omega) a2
          omega
        · subst y; omega
theorem row_at {D : Dat} {q n : Nat} {φ : Nat → Rat} {e : Nat → Nat} (h : mpD D q φ n e) {k : Nat} (hk : k < n) : pcnt φ (e k + 1) = n - k := by
  have he := (h.2.2.1 k hk).1
  obtain ⟨j, j1, j2, j3, j4⟩ := row_cnt h (e k + 1) (by omega)
  have h1 : j ≤ k := Nat.le_of_not_lt fun y => by have := j3 k y; omega
  have h2 : ¬ j < k := fun y => by
    have a1 := h.2.2.2.1 j k y hk
    have a2 := j4 j (Nat.le_refl _) (by omega)
    omega
  have : j = k := by omega
  subst this
  exact j2
theorem prt_at {D : Dat} {q n : Nat} {φ : Nat → Rat} {e : Nat → Nat} (h : mpD D q φ n e) {a m : Int} {k : Nat} (hk : k < n) : prtI φ a m (e k) = if a ≤ (k : Int) ∧ (k : Int) < a + m then φ (e k) else 0 := by
  have he := (h.2.2.1 k hk).1
  have h1 := row_at h hk
  have h2 := h.cnt
  unfold prtI
  rw [h1, ← h2]
  by_cases z : a ≤ (k : Int) ∧ (k : Int) < a + m
  · rw [if_pos z, if_pos ⟨by omega, by omega, he⟩]
  · rw [if_neg z, if_neg fun y => z ⟨by omega, by omega⟩]
theorem prt_phi {φ : Nat → Rat} {a m : Int} (h : phi φ) : phi (prtI φ a m) := by
  refine ⟨fun t ht => ?_, fun t ht => if_neg fun y => by omega⟩
  unfold prtI
  split
  · exact h.1 t ht
  · exact qfit_zero
theorem prt_row {D D' : Dat} {q q' n a m : Nat} {φ : Nat → Rat} {e : Nat → Nat} (h : mpD D q φ n e) (hm : a + m ≤ n) (h0 : D' q' 0 = (m : Int)) (hk : ∀ k, k < m → D' (q' + 1) k = tcode (e (a + k)) ∧ frD D' (q' + 3 + 2 * k) (q' + 124 + 2 * k) (φ (e (a + k)))) : mpD D' q' (prtI φ a m) m (fun k => e (a + k)) := by
  obtain ⟨h1, h2, h3, h4, h5, h6⟩ := id h
  refine ⟨by omega, h0, fun k h7 => ?_, fun j k a1 a2 => h4 _ _ (by omega) (by omega), fun t ht h7 => ?_, prt_phi h6⟩
  · obtain ⟨b1, b2⟩ := hk k h7
    have e1 := prt_at (a := a) (m := m) h (k := a + k) (by omega)
    rw [if_pos ⟨by omega, by omega⟩] at e1
    show e (a + k) < 455 ∧ D' (q' + 1) k = tcode (e (a + k)) ∧ frD D' (q' + 3 + 2 * k) (q' + 124 + 2 * k) (prtI φ a m (e (a + k))) ∧ prtI φ a m (e (a + k)) ≠ 0
    rw [e1]
    exact ⟨(h3 _ (by omega)).1, b1, b2, (h3 _ (by omega)).2.2.2⟩
  · rcases Classical.em (∃ k, k < n ∧ e k = t) with ⟨k, k1, k2⟩ | y
    · subst k2
      rw [prt_at h k1]
      refine if_neg fun y => ?_
      have : e (a + (k - a)) ≠ e k := h7 (k - a) (by omega)
      rw [show a + (k - a) = k by omega] at this
      exact this rfl
    · have z := h5 t ht fun k hk w => y ⟨k, hk, w⟩
      unfold prtI
      split
      · exact z
      · rfl
theorem foN_as {a b c : Nat} (h : foN a b ≠ 0) : foN a (foN b c) = foN a b := by
  unfold foN at h ⊢
  by_cases z : a = 0
  · rw [if_pos z] at h
    rw [if_pos z, if_pos z, if_neg h]
  · rw [if_neg z, if_neg z]
set_option maxHeartbeats 4000000 in
theorem mo_part {E : Ex} {B : Nat × Nat} {D : Dat} {x y a n : Int} (hI : moI S D M s) (hW : crW N s) (hN : N < 1000) (ia : inI a) (inn : inI n) (K : mK E B S D M (oPart x y a n s)) : Wp P_X16_part E 0 [some (aR M), some (aI x), some (aI y), some (aI a), some (aI n)] [] B S D := by
  have o := hI.1.o
  obtain ⟨c1, c2, c3⟩ := hI.1.h13
  obtain ⟨b1, b2⟩ := hI.1.h28
  obtain ⟨p1, p2, p3, p4, p5, p6, p7⟩ := id b2
  have p51 := p5.1
  have p71 := p7.1
  have hle : foN (lkN s x 1) (glN y) ≤ 3 := foN_le (by have := lkN_le s x 1; omega) (by have := glN_le y; omega)
  refine wp_in ?_
  simp only [P_X16_part, i_kil, i_icon, i_lcon, i_null, i_loadI, i_loadL, i_loadR, i_istore, i_lstore, i_astore, i_iinc, i_dup, i_dup2, i_pop, i_iadd, i_isub, i_imul, i_idiv, i_irem, i_ineg, i_iand, i_ior, i_ishl, i_ishr, i_lxor, i_ladd, i_lsub, i_lmul, i_ldiv, i_lrem, i_lneg, i_lshl, i_lcmp, i_i2l, i_l2i, i_i2b, i_i2s, i_ifeq, i_ifne, i_iflt, i_ifge, i_ifgt, i_ifle, i_cmpeq, i_cmpne, i_cmplt, i_cmpge, i_cmpgt, i_cmple, i_acmpeq, i_acmpne, i_ifnull, i_ifnonnull, i_getI, i_getR, i_putI, i_putZ, i_putR, i_ald, i_ldL, i_ldR, i_ast, i_stL, i_stR, i_alen, i_new, i_newa, i_iret, i_zret, i_lret, i_aret, i_vret, i_raise, i_throw, i_recv, i_objinit, i_tsw3, lget, lset, lput1, lput2, lkil, ltrim, largs, isL, takev, dropv, nthv, pushO, catv, gd, true_and, and_true, Option.some.injEq, Prod.mk.injEq, exists_eq_left', if_true, if_false, reduceCtorEq, Bool.false_eq_true, lcmp_ge, lcmp_lt, lcmp_le, lcmp_gt, lcmp_eq, true_or, or_true, not_true_eq_false, not_false_eq_true, false_implies, true_implies, List.length_cons, List.length_nil, o]
  repeat (first | refine ⟨in_small (by omega) (by omega), ?_⟩ | (show (_ → _) ∧ (_ → _); first | refine ⟨by omega, fun _ => ?_⟩ | refine ⟨fun _ => ?_, by omega⟩) | refine ⟨by omega, ?_⟩ | refine ⟨⟨_, rfl, by assumption⟩, ?_⟩ | refine ⟨okT_I _, ?_⟩ | refine call0 (gd_of rfl) ?_)
  refine mo_look (k := 1) hI rfl ?_
  simp only [P_X16_part, i_kil, i_icon, i_lcon, i_null, i_loadI, i_loadL, i_loadR, i_istore, i_lstore, i_astore, i_iinc, i_dup, i_dup2, i_pop, i_iadd, i_isub, i_imul, i_idiv, i_irem, i_ineg, i_iand, i_ior, i_ishl, i_ishr, i_lxor, i_ladd, i_lsub, i_lmul, i_ldiv, i_lrem, i_lneg, i_lshl, i_lcmp, i_i2l, i_l2i, i_i2b, i_i2s, i_ifeq, i_ifne, i_iflt, i_ifge, i_ifgt, i_ifle, i_cmpeq, i_cmpne, i_cmplt, i_cmpge, i_cmpgt, i_cmple, i_acmpeq, i_acmpne, i_ifnull, i_ifnonnull, i_getI, i_getR, i_putI, i_putZ, i_putR, i_ald, i_ldL, i_ldR, i_ast, i_stL, i_stR, i_alen, i_new, i_newa, i_iret, i_zret, i_lret, i_aret, i_vret, i_raise, i_throw, i_recv, i_objinit, i_tsw3, lget, lset, lput1, lput2, lkil, ltrim, largs, isL, takev, dropv, nthv, pushO, catv, gd, true_and, and_true, Option.some.injEq, Prod.mk.injEq, exists_eq_left', if_true, if_false, reduceCtorEq, Bool.false_eq_true, lcmp_ge, lcmp_lt, lcmp_le, lcmp_gt, lcmp_eq, true_or, or_true, not_true_eq_false, not_false_eq_true, false_implies, true_implies, List.length_cons, List.length_nil]
  repeat (first | refine ⟨in_small (by omega) (by omega), ?_⟩ | (show (_ → _) ∧ (_ → _); first | refine ⟨by omega, fun _ => ?_⟩ | refine ⟨fun _ => ?_, by omega⟩) | refine ⟨by omega, ?_⟩ | refine ⟨⟨_, rfl, by assumption⟩, ?_⟩ | refine ⟨okT_I _, ?_⟩ | refine call0 (gd_of rfl) ?_)
  refine sp_goal o ?_
  simp only [P_X16_part, i_kil, i_icon, i_lcon, i_null, i_loadI, i_loadL, i_loadR, i_istore, i_lstore, i_astore, i_iinc, i_dup, i_dup2, i_pop, i_iadd, i_isub, i_imul, i_idiv, i_irem, i_ineg, i_iand, i_ior, i_ishl, i_ishr, i_lxor, i_ladd, i_lsub, i_lmul, i_ldiv, i_lrem, i_lneg, i_lshl, i_lcmp, i_i2l, i_l2i, i_i2b, i_i2s, i_ifeq, i_ifne, i_iflt, i_ifge, i_ifgt, i_ifle, i_cmpeq, i_cmpne, i_cmplt, i_cmpge, i_cmpgt, i_cmple, i_acmpeq, i_acmpne, i_ifnull, i_ifnonnull, i_getI, i_getR, i_putI, i_putZ, i_putR, i_ald, i_ldL, i_ldR, i_ast, i_stL, i_stR, i_alen, i_new, i_newa, i_iret, i_zret, i_lret, i_aret, i_vret, i_raise, i_throw, i_recv, i_objinit, i_tsw3, lget, lset, lput1, lput2, lkil, ltrim, largs, isL, takev, dropv, nthv, pushO, catv, gd, true_and, and_true, Option.some.injEq, Prod.mk.injEq, exists_eq_left', if_true, if_false, reduceCtorEq, Bool.false_eq_true, lcmp_ge, lcmp_lt, lcmp_le, lcmp_gt, lcmp_eq, true_or, or_true, not_true_eq_false, not_false_eq_true, false_implies, true_implies, List.length_cons, List.length_nil]
  repeat (first | refine ⟨in_small (by omega) (by omega), ?_⟩ | (show (_ → _) ∧ (_ → _); first | refine ⟨by omega, fun _ => ?_⟩ | refine ⟨fun _ => ?_, by omega⟩) | refine ⟨by omega, ?_⟩ | refine ⟨⟨_, rfl, by assumption⟩, ?_⟩ | refine ⟨okT_I _, ?_⟩ | refine call0 (gd_of rfl) ?_)
  refine sp_firstOf2 ?_
  simp only [P_X16_part, i_kil, i_icon, i_lcon, i_null, i_loadI, i_loadL, i_loadR, i_istore, i_lstore, i_astore, i_iinc, i_dup, i_dup2, i_pop, i_iadd, i_isub, i_imul, i_idiv, i_irem, i_ineg, i_iand, i_ior, i_ishl, i_ishr, i_lxor, i_ladd, i_lsub, i_lmul, i_ldiv, i_lrem, i_lneg, i_lshl, i_lcmp, i_i2l, i_l2i, i_i2b, i_i2s, i_ifeq, i_ifne, i_iflt, i_ifge, i_ifgt, i_ifle, i_cmpeq, i_cmpne, i_cmplt, i_cmpge, i_cmpgt, i_cmple, i_acmpeq, i_acmpne, i_ifnull, i_ifnonnull, i_getI, i_getR, i_putI, i_putZ, i_putR, i_ald, i_ldL, i_ldR, i_ast, i_stL, i_stR, i_alen, i_new, i_newa, i_iret, i_zret, i_lret, i_aret, i_vret, i_raise, i_throw, i_recv, i_objinit, i_tsw3, lget, lset, lput1, lput2, lkil, ltrim, largs, isL, takev, dropv, nthv, pushO, catv, gd, true_and, and_true, Option.some.injEq, Prod.mk.injEq, exists_eq_left', if_true, if_false, reduceCtorEq, Bool.false_eq_true, lcmp_ge, lcmp_lt, lcmp_le, lcmp_gt, lcmp_eq, true_or, or_true, not_true_eq_false, not_false_eq_true, false_implies, true_implies, List.length_cons, List.length_nil, o, c1, c2]
  refine ⟨fun w0 => ?_, fun w0 => ?_⟩
  · have h00 : foN (lkN s x 1) (glN y) = 0 := by omega
    obtain ⟨h0, h0'⟩ := foN_0.mp h00
    obtain ⟨p, φ, hp, hp16, ht⟩ := lk1 h0
    obtain ⟨r, hr, hr16⟩ := gl_in h0'
    subst hp; subst hr
    obtain ⟨q1, q2, q3, q4⟩ := hI.poly hp16 ht
    obtain ⟨nn, e, hn⟩ := q1
    have hcn := hn.cnt
    have hc : D (M + 12195 + 244 * p) 0 = (nn : Int) := hn.2.1
    have h60 := hn.1
    obtain ⟨k1, k2, k3, k4, k5, k6, k7⟩ := id q3
    have k51 := k5.1
    have k71 := k7.1
    have one : ¬ n < 0 → ¬ (0 ≤ a ∧ a + n ≤ (nn : Int)) → Wp P_X16_part E 1 [some (aR M)] [] B S D := fun z1 z2 => by
      refine wp_in ?_
      simp only [P_X16_part, i_kil, i_icon, i_lcon, i_null, i_loadI, i_loadL, i_loadR, i_istore, i_lstore, i_astore, i_iinc, i_dup, i_dup2, i_pop, i_iadd, i_isub, i_imul, i_idiv, i_irem, i_ineg, i_iand, i_ior, i_ishl, i_ishr, i_lxor, i_ladd, i_lsub, i_lmul, i_ldiv, i_lrem, i_lneg, i_lshl, i_lcmp, i_i2l, i_l2i, i_i2b, i_i2s, i_ifeq, i_ifne, i_iflt, i_ifge, i_ifgt, i_ifle, i_cmpeq, i_cmpne, i_cmplt, i_cmpge, i_cmpgt, i_cmple, i_acmpeq, i_acmpne, i_ifnull, i_ifnonnull, i_getI, i_getR, i_putI, i_putZ, i_putR, i_ald, i_ldL, i_ldR, i_ast, i_stL, i_stR, i_alen, i_new, i_newa, i_iret, i_zret, i_lret, i_aret, i_vret, i_raise, i_throw, i_recv, i_objinit, i_tsw3, lget, lset, lput1, lput2, lkil, ltrim, largs, isL, takev, dropv, nthv, pushO, catv, gd, true_and, and_true, Option.some.injEq, Prod.mk.injEq, exists_eq_left', if_true, if_false, reduceCtorEq, Bool.false_eq_true, lcmp_ge, lcmp_lt, lcmp_le, lcmp_gt, lcmp_eq, true_or, or_true, not_true_eq_false, not_false_eq_true, false_implies, true_implies, List.length_cons, List.length_nil, o]
      repeat (first | refine ⟨in_small (by omega) (by omega), ?_⟩ | (show (_ → _) ∧ (_ → _); first | refine ⟨by omega, fun _ => ?_⟩ | refine ⟨fun _ => ?_, by omega⟩) | refine ⟨by omega, ?_⟩ | refine ⟨⟨_, rfl, by assumption⟩, ?_⟩ | refine ⟨okT_I _, ?_⟩ | refine call0 (gd_of rfl) ?_)
      refine mo_ans hI hW hN (k := 1) (by decide) rfl fun D' h1 h2 => ?_
      simp only [P_X16_part, i_kil, i_icon, i_lcon, i_null, i_loadI, i_loadL, i_loadR, i_istore, i_lstore, i_astore, i_iinc, i_dup, i_dup2, i_pop, i_iadd, i_isub, i_imul, i_idiv, i_irem, i_ineg, i_iand, i_ior, i_ishl, i_ishr, i_lxor, i_ladd, i_lsub, i_lmul, i_ldiv, i_lrem, i_lneg, i_lshl, i_lcmp, i_i2l, i_l2i, i_i2b, i_i2s, i_ifeq, i_ifne, i_iflt, i_ifge, i_ifgt, i_ifle, i_cmpeq, i_cmpne, i_cmplt, i_cmpge, i_cmpgt, i_cmple, i_acmpeq, i_acmpne, i_ifnull, i_ifnonnull, i_getI, i_getR, i_putI, i_putZ, i_putR, i_ald, i_ldL, i_ldR, i_ast, i_stL, i_stR, i_alen, i_new, i_newa, i_iret, i_zret, i_lret, i_aret, i_vret, i_raise, i_throw, i_recv, i_objinit, i_tsw3, lget, lset, lput1, lput2, lkil, ltrim, largs, isL, takev, dropv, nthv, pushO, catv, gd, true_and, and_true, Option.some.injEq, Prod.mk.injEq, exists_eq_left', if_true, if_false, reduceCtorEq, Bool.false_eq_true, lcmp_ge, lcmp_lt, lcmp_le, lcmp_gt, lcmp_eq, true_or, or_true, not_true_eq_false, not_false_eq_true, false_implies, true_implies, List.length_cons, List.length_nil]
      exact K D' _ _ (rR_q (by rw [if_neg z1]; exact foN_0.mpr ⟨h0, foN_0.mpr ⟨h0', rfl⟩⟩) ⟨φ, ht, .inr ⟨by rw [← hcn]; exact z2, rfl, rfl⟩⟩) h1 h2
    refine ⟨fun w1 => ⟨fun w2 => one (by omega) (by omega), fun w2 => ⟨by unfold inI at ia inn; unfold inL; omega, by omega, by omega, ?_⟩⟩, fun w1 => ?_⟩
    · rw [q2]
      simp only [P_X16_part, i_kil, i_icon, i_lcon, i_null, i_loadI, i_loadL, i_loadR, i_istore, i_lstore, i_astore, i_iinc, i_dup, i_dup2, i_pop, i_iadd, i_isub, i_imul, i_idiv, i_irem, i_ineg, i_iand, i_ior, i_ishl, i_ishr, i_lxor, i_ladd, i_lsub, i_lmul, i_ldiv, i_lrem, i_lneg, i_lshl, i_lcmp, i_i2l, i_l2i, i_i2b, i_i2s, i_ifeq, i_ifne, i_iflt, i_ifge, i_ifgt, i_ifle, i_cmpeq, i_cmpne, i_cmplt, i_cmpge, i_cmpgt, i_cmple, i_acmpeq, i_acmpne, i_ifnull, i_ifnonnull, i_getI, i_getR, i_putI, i_putZ, i_putR, i_ald, i_ldL, i_ldR, i_ast, i_stL, i_stR, i_alen, i_new, i_newa, i_iret, i_zret, i_lret, i_aret, i_vret, i_raise, i_throw, i_recv, i_objinit, i_tsw3, lget, lset, lput1, lput2, lkil, ltrim, largs, isL, takev, dropv, nthv, pushO, catv, gd, true_and, and_true, Option.some.injEq, Prod.mk.injEq, exists_eq_left', if_true, if_false, reduceCtorEq, Bool.false_eq_true, lcmp_ge, lcmp_lt, lcmp_le, lcmp_gt, lcmp_eq, true_or, or_true, not_true_eq_false, not_false_eq_true, false_implies, true_implies, List.length_cons, List.length_nil, q4, hc, b1, p1]
      refine ⟨fun w3 => ?_, fun w3 => one (by omega) (by omega)⟩
      have hfree : foN (lkN s p 1) (foN (glN r) (if n < 0 then 4 else 0)) = 0 := by rw [if_neg (by omega)]; exact foN_0.mpr ⟨h0, foN_0.mpr ⟨h0', rfl⟩⟩
      obtain ⟨m, hm⟩ : ∃ m : Nat, n = m := ⟨n.toNat, by omega⟩
      obtain ⟨aa, haa⟩ : ∃ m : Nat, a = m := ⟨a.toNat, by omega⟩
      subst hm; subst haa
      have loop : ∀ (L k : Nat) (D1 : Dat), k + L = m → (∀ c i, (c < M + 324 ∨ M + 567 < c) → D1 c i = D c i) → D1 (M + 324) 0 = m → (∀ j, j < k → D1 (M + 324 + 1) j = tcode (e (aa + j)) ∧ frD D1 (M + 324 + 3 + 2 * j) (M + 324 + 124 + 2 * j) (φ (e (aa + j)))) → Wp P_X16_part E 2 [some (aR M), some (aI (p : Int)), some (aI (r : Int)), some (aI (aa : Int)), some (aI (m : Int)), none, some (aI (k : Int))] [] B S D1 := by
        intro L
        induction L with
        | zero =>
          intro k D1 hk hO h0 hE
          have : k = m := by omega
          subst this
          have hrow := prt_row (D' := D1) (q' := M + 324) hn (a := aa) (m := k) (by omega) h0 hE
          have hpc := hrow.cnt
          refine wp_in ?_
          simp only [P_X16_part, i_kil, i_icon, i_lcon, i_null, i_loadI, i_loadL, i_loadR, i_istore, i_lstore, i_astore, i_iinc, i_dup, i_dup2, i_pop, i_iadd, i_isub, i_imul, i_idiv, i_irem, i_ineg, i_iand, i_ior, i_ishl, i_ishr, i_lxor, i_ladd, i_lsub, i_lmul, i_ldiv, i_lrem, i_lneg, i_lshl, i_lcmp, i_i2l, i_l2i, i_i2b, i_i2s, i_ifeq, i_ifne, i_iflt, i_ifge, i_ifgt, i_ifle, i_cmpeq, i_cmpne, i_cmplt, i_cmpge, i_cmpgt, i_cmple, i_acmpeq, i_acmpne, i_ifnull, i_ifnonnull, i_getI, i_getR, i_putI, i_putZ, i_putR, i_ald, i_ldL, i_ldR, i_ast, i_stL, i_stR, i_alen, i_new, i_newa, i_iret, i_zret, i_lret, i_aret, i_vret, i_raise, i_throw, i_recv, i_objinit, i_tsw3, lget, lset, lput1, lput2, lkil, ltrim, largs, isL, takev, dropv, nthv, pushO, catv, gd, true_and, and_true, Option.some.injEq, Prod.mk.injEq, exists_eq_left', if_true, if_false, reduceCtorEq, Bool.false_eq_true, lcmp_ge, lcmp_lt, lcmp_le, lcmp_gt, lcmp_eq, true_or, or_true, not_true_eq_false, not_false_eq_true, false_implies, true_implies, List.length_cons, List.length_nil, o, b1]
          repeat (first | refine ⟨in_small (by omega) (by omega), ?_⟩ | (show (_ → _) ∧ (_ → _); first | refine ⟨by omega, fun _ => ?_⟩ | refine ⟨fun _ => ?_, by omega⟩) | refine ⟨by omega, ?_⟩ | refine ⟨⟨_, rfl, by assumption⟩, ?_⟩ | refine ⟨okT_I _, ?_⟩ | refine call0 (gd_of rfl) ?_)
          obtain ⟨hI1, F1⟩ := hI.scr (D' := D1) hW (fun c i h1 h2 => by
            unfold sK at h1
            exact hO c i (by omega)) (hI.sm.cgr fun c i h => by unfold pSm at h; exact hO c i (by omega))
          refine mo_stand hI1 hW rfl hr16 b2 (by omega) ⟨_, _, hrow⟩ fun D' h1 h2 => ?_
          simp only [P_X16_part, i_kil, i_icon, i_lcon, i_null, i_loadI, i_loadL, i_loadR, i_istore, i_lstore, i_astore, i_iinc, i_dup, i_dup2, i_pop, i_iadd, i_isub, i_imul, i_idiv, i_irem, i_ineg, i_iand, i_ior, i_ishl, i_ishr, i_lxor, i_ladd, i_lsub, i_lmul, i_ldiv, i_lrem, i_lneg, i_lshl, i_lcmp, i_i2l, i_l2i, i_i2b, i_i2s, i_ifeq, i_ifne, i_iflt, i_ifge, i_ifgt, i_ifle, i_cmpeq, i_cmpne, i_cmplt, i_cmpge, i_cmpgt, i_cmple, i_acmpeq, i_acmpne, i_ifnull, i_ifnonnull, i_getI, i_getR, i_putI, i_putZ, i_putR, i_ald, i_ldL, i_ldR, i_ast, i_stL, i_stR, i_alen, i_new, i_newa, i_iret, i_zret, i_lret, i_aret, i_vret, i_raise, i_throw, i_recv, i_objinit, i_tsw3, lget, lset, lput1, lput2, lkil, ltrim, largs, isL, takev, dropv, nthv, pushO, catv, gd, true_and, and_true, Option.some.injEq, Prod.mk.injEq, exists_eq_left', if_true, if_false, reduceCtorEq, Bool.false_eq_true, lcmp_ge, lcmp_lt, lcmp_le, lcmp_gt, lcmp_eq, true_or, or_true, not_true_eq_false, not_false_eq_true, false_implies, true_implies, List.length_cons, List.length_nil]
          rw [← hpc]
          exact K D' _ _ (rR_q hfree ⟨φ, ht, .inl ⟨by omega, by omega, rfl, rfl⟩⟩) h1 (F1.tr h2)
        | succ L ih =>
          intro k D1 hk hO h0 hE
          obtain ⟨a1, a2, a3, a4⟩ := hn.2.2.1 (aa + k) (by omega)
          obtain ⟨m1, m2⟩ := p5.2 k (by omega)
          obtain ⟨m3, m4⟩ := p7.2 k (by omega)
          obtain ⟨m5, m6⟩ := k5.2 (aa + k) (by omega)
          obtain ⟨m7, m8⟩ := k7.2 (aa + k) (by omega)
          have ecast : ((aa + k : Nat) : Int) = (aa : Int) + (k : Int) := by omega
          rw [ecast] at m5 m7 a2
          have w1 := m2.1
          have w3 := m4.1
          have hf := hn.2.2.2.2.2.1 (e (aa + k)) a1
          have a21 : D1 (M + 12195 + 244 * p + 1) ((aa : Int) + (k : Int)) = tcode (e (aa + k)) := by rw [hO _ _ (by omega)]; exact a2
          have a31 : frD D1 (M + 12195 + 244 * p + 3 + 2 * (aa + k)) (M + 12195 + 244 * p + 124 + 2 * (aa + k)) (φ (e (aa + k))) := a3.congr fun c j hc => hO c j (by omega)
          refine wp_in ?_
          simp only [P_X16_part, i_kil, i_icon, i_lcon, i_null, i_loadI, i_loadL, i_loadR, i_istore, i_lstore, i_astore, i_iinc, i_dup, i_dup2, i_pop, i_iadd, i_isub, i_imul, i_idiv, i_irem, i_ineg, i_iand, i_ior, i_ishl, i_ishr, i_lxor, i_ladd, i_lsub, i_lmul, i_ldiv, i_lrem, i_lneg, i_lshl, i_lcmp, i_i2l, i_l2i, i_i2b, i_i2s, i_ifeq, i_ifne, i_iflt, i_ifge, i_ifgt, i_ifle, i_cmpeq, i_cmpne, i_cmplt, i_cmpge, i_cmpgt, i_cmple, i_acmpeq, i_acmpne, i_ifnull, i_ifnonnull, i_getI, i_getR, i_putI, i_putZ, i_putR, i_ald, i_ldL, i_ldR, i_ast, i_stL, i_stR, i_alen, i_new, i_newa, i_iret, i_zret, i_lret, i_aret, i_vret, i_raise, i_throw, i_recv, i_objinit, i_tsw3, lget, lset, lput1, lput2, lkil, ltrim, largs, isL, takev, dropv, nthv, pushO, catv, gd, true_and, and_true, Option.some.injEq, Prod.mk.injEq, exists_eq_left', if_true, if_false, reduceCtorEq, Bool.false_eq_true, lcmp_ge, lcmp_lt, lcmp_le, lcmp_gt, lcmp_eq, true_or, or_true, not_true_eq_false, not_false_eq_true, false_implies, true_implies, List.length_cons, List.length_nil, o, b1, c1, c2, q2, p1, p2, p3, p4, p51, m1, k1, k2, k3, k4, k51, m5, a21]
          refine ⟨fun z => by omega, fun _ => ?_⟩
          repeat (first | refine ⟨in_small (by omega) (by omega), ?_⟩ | (show (_ → _) ∧ (_ → _); first | refine ⟨by omega, fun _ => ?_⟩ | refine ⟨fun _ => ?_, by omega⟩) | refine ⟨by omega, ?_⟩ | refine ⟨⟨_, rfl, by assumption⟩, ?_⟩ | refine ⟨okT_I _, ?_⟩ | refine call0 (gd_of rfl) ?_)
          refine sp_X17_copy m2 m6 (a31.1.congr (fun j => pmu_ne (by omega)) (fun j => pmu_ne (by omega))) hf.n hf.n (by omega) fun D2 f1 f2 => ?_
          simp only [P_X16_part, i_kil, i_icon, i_lcon, i_null, i_loadI, i_loadL, i_loadR, i_istore, i_lstore, i_astore, i_iinc, i_dup, i_dup2, i_pop, i_iadd, i_isub, i_imul, i_idiv, i_irem, i_ineg, i_iand, i_ior, i_ishl, i_ishr, i_lxor, i_ladd, i_lsub, i_lmul, i_ldiv, i_lrem, i_lneg, i_lshl, i_lcmp, i_i2l, i_l2i, i_i2b, i_i2s, i_ifeq, i_ifne, i_iflt, i_ifge, i_ifgt, i_ifle, i_cmpeq, i_cmpne, i_cmplt, i_cmpge, i_cmpgt, i_cmple, i_acmpeq, i_acmpne, i_ifnull, i_ifnonnull, i_getI, i_getR, i_putI, i_putZ, i_putR, i_ald, i_ldL, i_ldR, i_ast, i_stL, i_stR, i_alen, i_new, i_newa, i_iret, i_zret, i_lret, i_aret, i_vret, i_raise, i_throw, i_recv, i_objinit, i_tsw3, lget, lset, lput1, lput2, lkil, ltrim, largs, isL, takev, dropv, nthv, pushO, catv, gd, true_and, and_true, Option.some.injEq, Prod.mk.injEq, exists_eq_left', if_true, if_false, reduceCtorEq, Bool.false_eq_true, lcmp_ge, lcmp_lt, lcmp_le, lcmp_gt, lcmp_eq, true_or, or_true, not_true_eq_false, not_false_eq_true, false_implies, true_implies, List.length_cons, List.length_nil, o, b1, c1, c2, q2, p1, p6, p71, m3, k1, k6, k71, m7]
          repeat (first | refine ⟨in_small (by omega) (by omega), ?_⟩ | (show (_ → _) ∧ (_ → _); first | refine ⟨by omega, fun _ => ?_⟩ | refine ⟨fun _ => ?_, by omega⟩) | refine ⟨by omega, ?_⟩ | refine ⟨⟨_, rfl, by assumption⟩, ?_⟩ | refine ⟨okT_I _, ?_⟩ | refine call0 (gd_of rfl) ?_)
          refine sp_X17_copy m4 m8 (a31.2.congr (fun j => by rw [f1 _ _ (by omega) (by omega)]; exact pmu_ne (by omega)) (fun j => by rw [f1 _ _ (by omega) (by omega)]; exact pmu_ne (by omega))) hf.d hf.d (by omega) fun D3 g1 g2 => ?_
          have fr : ∀ c j, c ≠ M + 324 + 3 + 2 * k → c ≠ M + 324 + 3 + 2 * k + 1 → c ≠ M + 324 + 124 + 2 * k → c ≠ M + 324 + 124 + 2 * k + 1 → (c ≠ M + 324 + 1 ∨ j ≠ (k : Int)) → D3 c j = D1 c j := fun c j y1 y2 y3 y4 y5 => by
            rw [g1 _ _ y3 y4, f1 _ _ y1 y2]
            exact pmu_ne (by omega)
          simp only [P_X16_part, i_kil, i_icon, i_lcon, i_null, i_loadI, i_loadL, i_loadR, i_istore, i_lstore, i_astore, i_iinc, i_dup, i_dup2, i_pop, i_iadd, i_isub, i_imul, i_idiv, i_irem, i_ineg, i_iand, i_ior, i_ishl, i_ishr, i_lxor, i_ladd, i_lsub, i_lmul, i_ldiv, i_lrem, i_lneg, i_lshl, i_lcmp, i_i2l, i_l2i, i_i2b, i_i2s, i_ifeq, i_ifne, i_iflt, i_ifge, i_ifgt, i_ifle, i_cmpeq, i_cmpne, i_cmplt, i_cmpge, i_cmpgt, i_cmple, i_acmpeq, i_acmpne, i_ifnull, i_ifnonnull, i_getI, i_getR, i_putI, i_putZ, i_putR, i_ald, i_ldL, i_ldR, i_ast, i_stL, i_stR, i_alen, i_new, i_newa, i_iret, i_zret, i_lret, i_aret, i_vret, i_raise, i_throw, i_recv, i_objinit, i_tsw3, lget, lset, lput1, lput2, lkil, ltrim, largs, isL, takev, dropv, nthv, pushO, catv, gd, true_and, and_true, Option.some.injEq, Prod.mk.injEq, exists_eq_left', if_true, if_false, reduceCtorEq, Bool.false_eq_true, lcmp_ge, lcmp_lt, lcmp_le, lcmp_gt, lcmp_eq, true_or, or_true, not_true_eq_false, not_false_eq_true, false_implies, true_implies, List.length_cons, List.length_nil]
          repeat (first | refine ⟨in_small (by omega) (by omega), ?_⟩ | (show (_ → _) ∧ (_ → _); first | refine ⟨by omega, fun _ => ?_⟩ | refine ⟨fun _ => ?_, by omega⟩) | refine ⟨by omega, ?_⟩ | refine ⟨⟨_, rfl, by assumption⟩, ?_⟩ | refine ⟨okT_I _, ?_⟩ | refine call0 (gd_of rfl) ?_)
          refine ih (k + 1) D3 (by omega) (fun c j hc => by rw [fr c j (by omega) (by omega) (by omega) (by omega) (by omega)]; exact hO c j hc) (by rw [fr _ _ (by omega) (by omega) (by omega) (by omega) (by omega)]; exact h0) fun j hj => ?_
          by_cases y : j = k
          · subst y
            refine ⟨?_, f2.congr (fun i => g1 _ _ (by omega) (by omega)) (fun i => g1 _ _ (by omega) (by omega)), g2⟩
            rw [g1 _ _ (by omega) (by omega), f1 _ _ (by omega) (by omega)]
            exact pmu_eq
          · obtain ⟨y1, y2⟩ := hE j (by omega)
            refine ⟨by rw [fr _ _ (by omega) (by omega) (by omega) (by omega) (by omega)]; exact y1, y2.congr fun c i hc => fr c i (by omega) (by omega) (by omega) (by omega) (by omega)⟩
      exact loop m 0 _ (by omega) (fun c i hc => pmu_ne (by omega)) pmu_eq fun j hj => absurd hj (Nat.not_lt_zero _)
    · repeat (first | refine ⟨in_small (by omega) (by omega), ?_⟩ | (show (_ → _) ∧ (_ → _); first | refine ⟨by omega, fun _ => ?_⟩ | refine ⟨fun _ => ?_, by omega⟩) | refine ⟨by omega, ?_⟩ | refine ⟨⟨_, rfl, by assumption⟩, ?_⟩ | refine ⟨okT_I _, ?_⟩ | refine call0 (gd_of rfl) ?_)
      refine mo_ans hI hW hN (k := 4) (by decide) rfl fun D' h1 h2 => ?_
      simp only [P_X16_part, i_kil, i_icon, i_lcon, i_null, i_loadI, i_loadL, i_loadR, i_istore, i_lstore, i_astore, i_iinc, i_dup, i_dup2, i_pop, i_iadd, i_isub, i_imul, i_idiv, i_irem, i_ineg, i_iand, i_ior, i_ishl, i_ishr, i_lxor, i_ladd, i_lsub, i_lmul, i_ldiv, i_lrem, i_lneg, i_lshl, i_lcmp, i_i2l, i_l2i, i_i2b, i_i2s, i_ifeq, i_ifne, i_iflt, i_ifge, i_ifgt, i_ifle, i_cmpeq, i_cmpne, i_cmplt, i_cmpge, i_cmpgt, i_cmple, i_acmpeq, i_acmpne, i_ifnull, i_ifnonnull, i_getI, i_getR, i_putI, i_putZ, i_putR, i_ald, i_ldL, i_ldR, i_ast, i_stL, i_stR, i_alen, i_new, i_newa, i_iret, i_zret, i_lret, i_aret, i_vret, i_raise, i_throw, i_recv, i_objinit, i_tsw3, lget, lset, lput1, lput2, lkil, ltrim, largs, isL, takev, dropv, nthv, pushO, catv, gd, true_and, and_true, Option.some.injEq, Prod.mk.injEq, exists_eq_left', if_true, if_false, reduceCtorEq, Bool.false_eq_true, lcmp_ge, lcmp_lt, lcmp_le, lcmp_gt, lcmp_eq, true_or, or_true, not_true_eq_false, not_false_eq_true, false_implies, true_implies, List.length_cons, List.length_nil]
      exact K D' _ _ (rR_f (by decide) (by rw [if_pos w1]; unfold foN; rw [if_pos h0, if_pos h0'])) h1 h2
  · repeat (first | refine ⟨in_small (by omega) (by omega), ?_⟩ | (show (_ → _) ∧ (_ → _); first | refine ⟨by omega, fun _ => ?_⟩ | refine ⟨fun _ => ?_, by omega⟩) | refine ⟨by omega, ?_⟩ | refine ⟨⟨_, rfl, by assumption⟩, ?_⟩ | refine ⟨okT_I _, ?_⟩ | refine call0 (gd_of rfl) ?_)
    refine mo_ans hI hW hN (k := foN (lkN s x 1) (glN y)) (by omega) rfl fun D' h1 h2 => ?_
    simp only [P_X16_part, i_kil, i_icon, i_lcon, i_null, i_loadI, i_loadL, i_loadR, i_istore, i_lstore, i_astore, i_iinc, i_dup, i_dup2, i_pop, i_iadd, i_isub, i_imul, i_idiv, i_irem, i_ineg, i_iand, i_ior, i_ishl, i_ishr, i_lxor, i_ladd, i_lsub, i_lmul, i_ldiv, i_lrem, i_lneg, i_lshl, i_lcmp, i_i2l, i_l2i, i_i2b, i_i2s, i_ifeq, i_ifne, i_iflt, i_ifge, i_ifgt, i_ifle, i_cmpeq, i_cmpne, i_cmplt, i_cmpge, i_cmpgt, i_cmple, i_acmpeq, i_acmpne, i_ifnull, i_ifnonnull, i_getI, i_getR, i_putI, i_putZ, i_putR, i_ald, i_ldL, i_ldR, i_ast, i_stL, i_stR, i_alen, i_new, i_newa, i_iret, i_zret, i_lret, i_aret, i_vret, i_raise, i_throw, i_recv, i_objinit, i_tsw3, lget, lset, lput1, lput2, lkil, ltrim, largs, isL, takev, dropv, nthv, pushO, catv, gd, true_and, and_true, Option.some.injEq, Prod.mk.injEq, exists_eq_left', if_true, if_false, reduceCtorEq, Bool.false_eq_true, lcmp_ge, lcmp_lt, lcmp_le, lcmp_gt, lcmp_eq, true_or, or_true, not_true_eq_false, not_false_eq_true, false_implies, true_implies, List.length_cons, List.length_nil]
    exact K D' _ _ (rR_f (by omega) (foN_as (by omega))) h1 h2
end MPT
