/-! the component's square: the span told -/
set_option maxRecDepth 100000
set_option linter.unusedVariables false
/-- a term's multiple of an ideal's polynomial, by terms -/
def mulV (I : Nat → Int) (u : Nat) : Nat → Int := fun t => if tx0 u ≤ tx0 t ∧ tx1 u ≤ tx1 t ∧ tx2 u ≤ tx2 t then I (tqu t u) else 0
def idW (I : Nat → Int) : Prop := (∀ t, t < 455 → ((I t).natAbs : Int) ≤ 99) ∧ ∀ t, t < 455 → I t ≠ 0 → tdg t ≤ 4
theorem mulV_w {I : Nat → Int} {u : Nat} (h : idW I) (hu : ∀ t, t < 455 → I t ≠ 0 → tdg t + tdg u ≤ 4) : spW (mulV I u) := by
  refine ⟨fun t ht => ?_, fun t ht hd => ?_⟩
  · unfold mulV; split
    · rename_i w; exact h.1 _ (tqu_tx ht w).2.2.2
    · decide
  · unfold mulV; split
    · rename_i w
      obtain ⟨a1, a2, a3, a4⟩ := tqu_tx (u := u) ht w
      refine Classical.byContradiction fun x => ?_
      have := hu _ a4 x
      unfold tdg at *
      omega
    · rfl
theorem mulV_mu {I : Nat → Int} {u s : Nat} (hu : u < 455) (hs : s < 455) (hd : tdg s + tdg u ≤ 12) : mulV I u (tmu s u) = I s := by
  obtain ⟨a1, a2, a3, a4⟩ := tmu_tx hd
  unfold mulV
  rw [if_pos ⟨by omega, by omega, by omega⟩]
  congr 1
  obtain ⟨b1, b2, b3, b4⟩ := tqu_tx (t := tmu s u) (u := u) a4 ⟨by omega, by omega, by omega⟩
  exact tx_ext b4 hs (by omega) (by omega) (by omega)
/-- columns told -/
def sqT (D : Dat) (q c g : Nat) (tc : Nat → Nat) : Prop := isCols c g tc ∧ ∀ i : Nat, i < 35 → D (q + 11) i = tc i ∧ D (q + 12) (tc i) = i
set_option maxHeartbeats 2000000 in
theorem sp_X7_multiple {E : Ex} {B : Nat × Nat} {S : Stat} {D : Dat} {q T o Ia c g k u : Nat} {tc : Nat → Nat} {st : spst} {I : Nat → Int} {xk xu : Int} (hq : sqS S q T o) (ho : rS S o) (hoq : o + 10 < q) (hT : tS S T) (hTD : tD D T) (lT : T + 18 < o) (hor : ordOK c g) (hTc : sqT D q c g tc) (hI : sqI D q tc st) (hO : spOK st) (hIa : S.1 Ia = some (100, 1820)) (lIa : Ia < o ∨ q + 159 < Ia) (hk : k < 4) (hI2 : ∀ t : Nat, t < 455 → D Ia (455 * (k : Int) + t) = I t) (hW : idW I) (hu : u < 455) (hdg : ∀ t, t < 455 → I t ≠ 0 → tdg t + tdg u ≤ 4) (hxk : xk = k) (hxu : xu = u)
    (K : ∀ D' : Dat, (∀ a i, a ≠ q + 17 → a ≠ q → a ≠ q + 1 → a ≠ q + 2 → a ≠ q + 3 → (a < q + 5 ∨ q + 10 < a) → a ≠ q + 13 → a ≠ q + 15 → a ≠ q + 16 → a ≠ q + 18 → a ≠ q + 19 → (a < q + 20 ∨ q + 159 < a) → (a ≤ o ∨ o + 10 < a) → D' a i = D a i) → (∀ i, i ≠ 15 → D' q i = D q i) → sqI D' q tc (spTake c g st (mulV I u) (k, u)) → E (.inl none) B S D') : Wp P_X7_multiple E 0 [some (aR q), some (aR Ia), some (aI xk), some (aI xu)] [] B S D := by
  subst hxk; subst hxu
  obtain ⟨hc, hcc⟩ := hTc
  obtain ⟨q1, q2, -, -, -, -, -, -, -, -, -, -, -, -, -, -, -, q18, q19, -, -, -, -, -, -, -, -, q28, q29, -⟩ := id hq
  have t1 := hT.1
  have fill : ∀ (L s : Nat) (D1 : Dat), s + L = 455 → (∀ a i, a ≠ q + 17 → D1 a i = D a i) → (∀ i : Nat, i < 35 → D1 (q + 17) i = if (tx0 u ≤ tx0 (tc i) ∧ tx1 u ≤ tx1 (tc i) ∧ tx2 u ≤ tx2 (tc i)) ∧ tqu (tc i) u < s then I (tqu (tc i) u) else 0) → Wp P_X7_multiple E 2 [some (aR q), some (aR Ia), some (aI k), some (aI u), some (aI s)] [] B S D1 := by
    intro L
    induction L with
    | zero =>
      intro s D1 hs h1 h2
      have : s = 455 := by omega
      subst this
      refine wp_in ?_
      simp only [P_X7_multiple, i_kil, i_icon, i_lcon, i_null, i_loadI, i_loadL, i_loadR, i_istore, i_lstore, i_astore, i_iinc, i_dup, i_dup2, i_pop, i_iadd, i_isub, i_imul, i_idiv, i_irem, i_ineg, i_iand, i_ior, i_ishl, i_ishr, i_lxor, i_ladd, i_lsub, i_lmul, i_ldiv, i_lrem, i_lneg, i_lshl, i_lcmp, i_i2l, i_l2i, i_i2b, i_i2s, i_ifeq, i_ifne, i_iflt, i_ifge, i_ifgt, i_ifle, i_cmpeq, i_cmpne, i_cmplt, i_cmpge, i_cmpgt, i_cmple, i_acmpeq, i_acmpne, i_ifnull, i_ifnonnull, i_getI, i_getR, i_putI, i_putZ, i_putR, i_ald, i_ldL, i_ldR, i_ast, i_stL, i_stR, i_alen, i_new, i_newa, i_iret, i_zret, i_lret, i_aret, i_vret, i_raise, i_throw, i_recv, i_objinit, i_tsw3, lget, lset, lput1, lput2, lkil, ltrim, largs, isL, takev, dropv, nthv, pushO, catv, gd, true_and, and_true, Option.some.injEq, Prod.mk.injEq, exists_eq_left', if_true, if_false, reduceCtorEq, Bool.false_eq_true, lcmp_ge, lcmp_lt, lcmp_le, lcmp_gt, lcmp_eq, true_or, or_true, not_true_eq_false, not_false_eq_true, false_implies, true_implies, List.length_cons, List.length_nil]
      repeat (first | refine ⟨in_small (by omega) (by omega), ?_⟩ | (show (_ → _) ∧ (_ → _); first | refine ⟨by omega, fun _ => ?_⟩ | refine ⟨fun _ => ?_, by omega⟩) | refine ⟨by omega, ?_⟩ | refine ⟨⟨_, rfl, by assumption⟩, ?_⟩ | refine ⟨okT_I _, ?_⟩ | refine ⟨okT_S (by omega) (by omega), ?_⟩ | refine ⟨okT_B (by omega) (by omega), ?_⟩ | refine call0 (gd_of rfl) ?_)
      have hI1 : sqI D1 q tc st := by
        obtain ⟨d, P, cl, ⟨d1, d2, d3, d4, d5, d6, d7, d8⟩, hR⟩ := hI
        exact ⟨d, P, cl, ⟨by rw [h1 _ _ (by omega)]; exact d1, d2, d3.congr (fun i => h1 _ _ (by omega)) (fun i => h1 _ _ (by omega)), d4, d5, fun r hr => by rw [h1 _ _ (by omega), h1 _ _ (by omega), h1 _ _ (by omega)]; exact d6 r hr, d7, d8.congr fun i => h1 _ _ (by omega)⟩, hR⟩
      refine take_rel (v := mulV I u) hq ho hoq hor hc hI1 hO (mulV_w hW hdg) (fun i hi => ?_) hk hu fun D2 f1 f2 f3 => ?_
      · rw [h2 i hi]
        unfold mulV
        by_cases w : tx0 u ≤ tx0 (tc i) ∧ tx1 u ≤ tx1 (tc i) ∧ tx2 u ≤ tx2 (tc i)
        · rw [if_pos ⟨w, (tqu_tx (hc.1 i hi).1 w).2.2.2⟩, if_pos w]
        · rw [if_neg (fun x => w x.1), if_neg w]
      · simp only [P_X7_multiple, i_kil, i_icon, i_lcon, i_null, i_loadI, i_loadL, i_loadR, i_istore, i_lstore, i_astore, i_iinc, i_dup, i_dup2, i_pop, i_iadd, i_isub, i_imul, i_idiv, i_irem, i_ineg, i_iand, i_ior, i_ishl, i_ishr, i_lxor, i_ladd, i_lsub, i_lmul, i_ldiv, i_lrem, i_lneg, i_lshl, i_lcmp, i_i2l, i_l2i, i_i2b, i_i2s, i_ifeq, i_ifne, i_iflt, i_ifge, i_ifgt, i_ifle, i_cmpeq, i_cmpne, i_cmplt, i_cmpge, i_cmpgt, i_cmple, i_acmpeq, i_acmpne, i_ifnull, i_ifnonnull, i_getI, i_getR, i_putI, i_putZ, i_putR, i_ald, i_ldL, i_ldR, i_ast, i_stL, i_stR, i_alen, i_new, i_newa, i_iret, i_zret, i_lret, i_aret, i_vret, i_raise, i_throw, i_recv, i_objinit, i_tsw3, lget, lset, lput1, lput2, lkil, ltrim, largs, isL, takev, dropv, nthv, pushO, catv, gd, true_and, and_true, Option.some.injEq, Prod.mk.injEq, exists_eq_left', if_true, if_false, reduceCtorEq, Bool.false_eq_true, lcmp_ge, lcmp_lt, lcmp_le, lcmp_gt, lcmp_eq, true_or, or_true, not_true_eq_false, not_false_eq_true, false_implies, true_implies, List.length_cons, List.length_nil]
        exact K D2 (fun a i a0 a1 a2 a3 a4 a5 a6 a7 a8 a9 a10 a11 a12 => by rw [f1 a i a1 a2 a3 a4 a5 a6 a7 a8 a9 a10 a11 a12]; exact h1 a i a0) (fun i hi => by rw [f2 i hi]; exact h1 _ _ (by omega)) f3
    | succ L ih =>
      intro s D1 hs h1 h2
      have e1 : D1 Ia (455 * (k : Int) + s) = I s := by rw [h1 _ _ (by omega)]; exact hI2 s (by omega)
      have next : ∀ D2 : Dat, (∀ a i, a ≠ q + 17 → D2 a i = D a i) → (∀ i : Nat, i < 35 → D2 (q + 17) i = if (tx0 u ≤ tx0 (tc i) ∧ tx1 u ≤ tx1 (tc i) ∧ tx2 u ≤ tx2 (tc i)) ∧ tqu (tc i) u < s + 1 then I (tqu (tc i) u) else 0) → Wp P_X7_multiple E 3 [some (aR q), some (aR Ia), some (aI k), some (aI u), some (aI s)] [] B S D2 := fun D2 a1 a2 => by
        refine wp_in ?_
        simp only [P_X7_multiple, i_kil, i_icon, i_lcon, i_null, i_loadI, i_loadL, i_loadR, i_istore, i_lstore, i_astore, i_iinc, i_dup, i_dup2, i_pop, i_iadd, i_isub, i_imul, i_idiv, i_irem, i_ineg, i_iand, i_ior, i_ishl, i_ishr, i_lxor, i_ladd, i_lsub, i_lmul, i_ldiv, i_lrem, i_lneg, i_lshl, i_lcmp, i_i2l, i_l2i, i_i2b, i_i2s, i_ifeq, i_ifne, i_iflt, i_ifge, i_ifgt, i_ifle, i_cmpeq, i_cmpne, i_cmplt, i_cmpge, i_cmpgt, i_cmple, i_acmpeq, i_acmpne, i_ifnull, i_ifnonnull, i_getI, i_getR, i_putI, i_putZ, i_putR, i_ald, i_ldL, i_ldR, i_ast, i_stL, i_stR, i_alen, i_new, i_newa, i_iret, i_zret, i_lret, i_aret, i_vret, i_raise, i_throw, i_recv, i_objinit, i_tsw3, lget, lset, lput1, lput2, lkil, ltrim, largs, isL, takev, dropv, nthv, pushO, catv, gd, true_and, and_true, Option.some.injEq, Prod.mk.injEq, exists_eq_left', if_true, if_false, reduceCtorEq, Bool.false_eq_true, lcmp_ge, lcmp_lt, lcmp_le, lcmp_gt, lcmp_eq, true_or, or_true, not_true_eq_false, not_false_eq_true, false_implies, true_implies, List.length_cons, List.length_nil]
        repeat (first | refine ⟨in_small (by omega) (by omega), ?_⟩ | (show (_ → _) ∧ (_ → _); first | refine ⟨by omega, fun _ => ?_⟩ | refine ⟨fun _ => ?_, by omega⟩) | refine ⟨by omega, ?_⟩ | refine ⟨⟨_, rfl, by assumption⟩, ?_⟩ | refine ⟨okT_I _, ?_⟩ | refine ⟨okT_S (by omega) (by omega), ?_⟩ | refine ⟨okT_B (by omega) (by omega), ?_⟩ | refine call0 (gd_of rfl) ?_)
        exact ih (s + 1) D2 (by omega) a1 a2
      have grow : ∀ i, i < 35 → ¬ ((tx0 u ≤ tx0 (tc i) ∧ tx1 u ≤ tx1 (tc i) ∧ tx2 u ≤ tx2 (tc i)) ∧ tqu (tc i) u = s) → (if (tx0 u ≤ tx0 (tc i) ∧ tx1 u ≤ tx1 (tc i) ∧ tx2 u ≤ tx2 (tc i)) ∧ tqu (tc i) u < s + 1 then I (tqu (tc i) u) else 0) = if (tx0 u ≤ tx0 (tc i) ∧ tx1 u ≤ tx1 (tc i) ∧ tx2 u ≤ tx2 (tc i)) ∧ tqu (tc i) u < s then I (tqu (tc i) u) else 0 := fun i hi hno => by
        by_cases w : (tx0 u ≤ tx0 (tc i) ∧ tx1 u ≤ tx1 (tc i) ∧ tx2 u ≤ tx2 (tc i)) ∧ tqu (tc i) u < s
        · rw [if_pos w, if_pos ⟨w.1, by omega⟩]
        · rw [if_neg w, if_neg (fun x => w ⟨x.1, by have : tqu (tc i) u ≠ s := fun y => hno ⟨x.1, y⟩; omega⟩)]
      refine wp_in ?_
      simp only [P_X7_multiple, i_kil, i_icon, i_lcon, i_null, i_loadI, i_loadL, i_loadR, i_istore, i_lstore, i_astore, i_iinc, i_dup, i_dup2, i_pop, i_iadd, i_isub, i_imul, i_idiv, i_irem, i_ineg, i_iand, i_ior, i_ishl, i_ishr, i_lxor, i_ladd, i_lsub, i_lmul, i_ldiv, i_lrem, i_lneg, i_lshl, i_lcmp, i_i2l, i_l2i, i_i2b, i_i2s, i_ifeq, i_ifne, i_iflt, i_ifge, i_ifgt, i_ifle, i_cmpeq, i_cmpne, i_cmplt, i_cmpge, i_cmpgt, i_cmple, i_acmpeq, i_acmpne, i_ifnull, i_ifnonnull, i_getI, i_getR, i_putI, i_putZ, i_putR, i_ald, i_ldL, i_ldR, i_ast, i_stL, i_stR, i_alen, i_new, i_newa, i_iret, i_zret, i_lret, i_aret, i_vret, i_raise, i_throw, i_recv, i_objinit, i_tsw3, lget, lset, lput1, lput2, lkil, ltrim, largs, isL, takev, dropv, nthv, pushO, catv, gd, true_and, and_true, Option.some.injEq, Prod.mk.injEq, exists_eq_left', if_true, if_false, reduceCtorEq, Bool.false_eq_true, lcmp_ge, lcmp_lt, lcmp_le, lcmp_gt, lcmp_eq, true_or, or_true, not_true_eq_false, not_false_eq_true, false_implies, true_implies, List.length_cons, List.length_nil, hIa, e1]
      repeat (first | refine ⟨in_small (by omega) (by omega), ?_⟩ | (show (_ → _) ∧ (_ → _); first | refine ⟨by omega, fun _ => ?_⟩ | refine ⟨fun _ => ?_, by omega⟩) | refine ⟨by omega, ?_⟩ | refine ⟨⟨_, rfl, by assumption⟩, ?_⟩ | refine ⟨okT_I _, ?_⟩ | refine ⟨okT_S (by omega) (by omega), ?_⟩ | refine ⟨okT_B (by omega) (by omega), ?_⟩ | refine call0 (gd_of rfl) ?_)
      refine ⟨fun h0 => next D1 h1 fun i hi => ?_, fun h0 => ?_⟩
      · rw [h2 i hi]
        by_cases w : (tx0 u ≤ tx0 (tc i) ∧ tx1 u ≤ tx1 (tc i) ∧ tx2 u ≤ tx2 (tc i)) ∧ tqu (tc i) u = s
        · rw [if_neg (fun x => by omega), if_pos ⟨w.1, by omega⟩, w.2, h0]
        · exact (grow i hi w).symm
      · have hd := hdg s (by omega) h0
        obtain ⟨m1, m2, m3, m4⟩ := tmu_tx (s := s) (b := u) (by omega)
        have hdm : tdg (tmu s u) ≤ 4 := by unfold tdg at *; omega
        obtain ⟨i0, hi0, ei0⟩ := hc.2.2 _ m4 hdm
        have e2 : D1 (q + 12) (tmu s u : Nat) = i0 := by rw [h1 _ _ (by omega), ← ei0]; exact (hcc i0 hi0).2
        simp only [P_X7_multiple, i_kil, i_icon, i_lcon, i_null, i_loadI, i_loadL, i_loadR, i_istore, i_lstore, i_astore, i_iinc, i_dup, i_dup2, i_pop, i_iadd, i_isub, i_imul, i_idiv, i_irem, i_ineg, i_iand, i_ior, i_ishl, i_ishr, i_lxor, i_ladd, i_lsub, i_lmul, i_ldiv, i_lrem, i_lneg, i_lshl, i_lcmp, i_i2l, i_l2i, i_i2b, i_i2s, i_ifeq, i_ifne, i_iflt, i_ifge, i_ifgt, i_ifle, i_cmpeq, i_cmpne, i_cmplt, i_cmpge, i_cmpgt, i_cmple, i_acmpeq, i_acmpne, i_ifnull, i_ifnonnull, i_getI, i_getR, i_putI, i_putZ, i_putR, i_ald, i_ldL, i_ldR, i_ast, i_stL, i_stR, i_alen, i_new, i_newa, i_iret, i_zret, i_lret, i_aret, i_vret, i_raise, i_throw, i_recv, i_objinit, i_tsw3, lget, lset, lput1, lput2, lkil, ltrim, largs, isL, takev, dropv, nthv, pushO, catv, gd, true_and, and_true, Option.some.injEq, Prod.mk.injEq, exists_eq_left', if_true, if_false, reduceCtorEq, Bool.false_eq_true, lcmp_ge, lcmp_lt, lcmp_le, lcmp_gt, lcmp_eq, true_or, or_true, not_true_eq_false, not_false_eq_true, false_implies, true_implies, List.length_cons, List.length_nil, q1, q2, q18, q19, q28, q29, t1]
        repeat (first | refine ⟨in_small (by omega) (by omega), ?_⟩ | (show (_ → _) ∧ (_ → _); first | refine ⟨by omega, fun _ => ?_⟩ | refine ⟨fun _ => ?_, by omega⟩) | refine ⟨by omega, ?_⟩ | refine ⟨⟨_, rfl, by assumption⟩, ?_⟩ | refine ⟨okT_I _, ?_⟩ | refine ⟨okT_S (by omega) (by omega), ?_⟩ | refine ⟨okT_B (by omega) (by omega), ?_⟩ | refine call0 (gd_of rfl) ?_)
        refine times_at hT (hTD.congr fun a i a1 a2 => h1 a i (by omega)) (t := s) (u := u) (by omega) hu (by omega) rfl rfl ?_
        simp only [P_X7_multiple, i_kil, i_icon, i_lcon, i_null, i_loadI, i_loadL, i_loadR, i_istore, i_lstore, i_astore, i_iinc, i_dup, i_dup2, i_pop, i_iadd, i_isub, i_imul, i_idiv, i_irem, i_ineg, i_iand, i_ior, i_ishl, i_ishr, i_lxor, i_ladd, i_lsub, i_lmul, i_ldiv, i_lrem, i_lneg, i_lshl, i_lcmp, i_i2l, i_l2i, i_i2b, i_i2s, i_ifeq, i_ifne, i_iflt, i_ifge, i_ifgt, i_ifle, i_cmpeq, i_cmpne, i_cmplt, i_cmpge, i_cmpgt, i_cmple, i_acmpeq, i_acmpne, i_ifnull, i_ifnonnull, i_getI, i_getR, i_putI, i_putZ, i_putR, i_ald, i_ldL, i_ldR, i_ast, i_stL, i_stR, i_alen, i_new, i_newa, i_iret, i_zret, i_lret, i_aret, i_vret, i_raise, i_throw, i_recv, i_objinit, i_tsw3, lget, lset, lput1, lput2, lkil, ltrim, largs, isL, takev, dropv, nthv, pushO, catv, gd, true_and, and_true, Option.some.injEq, Prod.mk.injEq, exists_eq_left', if_true, if_false, reduceCtorEq, Bool.false_eq_true, lcmp_ge, lcmp_lt, lcmp_le, lcmp_gt, lcmp_eq, true_or, or_true, not_true_eq_false, not_false_eq_true, false_implies, true_implies, List.length_cons, List.length_nil, q1, q18, q19, q28, q29, hIa, e1, e2]
        repeat (first | refine ⟨in_small (by omega) (by omega), ?_⟩ | (show (_ → _) ∧ (_ → _); first | refine ⟨by omega, fun _ => ?_⟩ | refine ⟨fun _ => ?_, by omega⟩) | refine ⟨by omega, ?_⟩ | refine ⟨⟨_, rfl, by assumption⟩, ?_⟩ | refine ⟨okT_I _, ?_⟩ | refine ⟨okT_S (by omega) (by omega), ?_⟩ | refine ⟨okT_B (by omega) (by omega), ?_⟩ | refine call0 (gd_of rfl) ?_)
        refine next _ (fun a i ha => by simp only [pmu]; rw [if_neg (fun w => ha w.1)]; exact h1 a i ha) fun i hi => ?_
        simp only [pmu, true_and]
        have eq0 : tqu (tmu s u) u = s := by
          obtain ⟨b1, b2, b3, b4⟩ := tqu_tx (t := tmu s u) (u := u) m4 ⟨by omega, by omega, by omega⟩
          exact tx_ext b4 (by omega) (by omega) (by omega) (by omega)
        by_cases w : i = i0
        · subst w
          rw [if_pos rfl, ei0, eq0, if_pos ⟨⟨by omega, by omega, by omega⟩, by omega⟩]
        · rw [if_neg (by omega), h2 i hi]
          refine (grow i hi fun x => ?_).symm
          have b := hc.1 i hi
          obtain ⟨y1, y2, y3, y4⟩ := tqu_tx (u := u) b.1 x.1
          rw [x.2] at y1 y2 y3
          obtain ⟨x1, x2, x3⟩ := x.1
          have : tc i = tmu s u := tx_ext b.1 m4 (by omega) (by omega) (by omega)
          exact w (hc.inj hor hi hi0 (by rw [this, ei0]))
  have zero : ∀ (L s : Nat) (D1 : Dat), s + L = 35 → (∀ a i, a ≠ q + 17 → D1 a i = D a i) → (∀ i : Nat, i < s → D1 (q + 17) i = 0) → Wp P_X7_multiple E 1 [some (aR q), some (aR Ia), some (aI k), some (aI u), some (aI s)] [] B S D1 := by
    intro L
    induction L with
    | zero =>
      intro s D1 hs h1 h2
      refine wp_in ?_
      simp only [P_X7_multiple, i_kil, i_icon, i_lcon, i_null, i_loadI, i_loadL, i_loadR, i_istore, i_lstore, i_astore, i_iinc, i_dup, i_dup2, i_pop, i_iadd, i_isub, i_imul, i_idiv, i_irem, i_ineg, i_iand, i_ior, i_ishl, i_ishr, i_lxor, i_ladd, i_lsub, i_lmul, i_ldiv, i_lrem, i_lneg, i_lshl, i_lcmp, i_i2l, i_l2i, i_i2b, i_i2s, i_ifeq, i_ifne, i_iflt, i_ifge, i_ifgt, i_ifle, i_cmpeq, i_cmpne, i_cmplt, i_cmpge, i_cmpgt, i_cmple, i_acmpeq, i_acmpne, i_ifnull, i_ifnonnull, i_getI, i_getR, i_putI, i_putZ, i_putR, i_ald, i_ldL, i_ldR, i_ast, i_stL, i_stR, i_alen, i_new, i_newa, i_iret, i_zret, i_lret, i_aret, i_vret, i_raise, i_throw, i_recv, i_objinit, i_tsw3, lget, lset, lput1, lput2, lkil, ltrim, largs, isL, takev, dropv, nthv, pushO, catv, gd, true_and, and_true, Option.some.injEq, Prod.mk.injEq, exists_eq_left', if_true, if_false, reduceCtorEq, Bool.false_eq_true, lcmp_ge, lcmp_lt, lcmp_le, lcmp_gt, lcmp_eq, true_or, or_true, not_true_eq_false, not_false_eq_true, false_implies, true_implies, List.length_cons, List.length_nil]
      repeat (first | refine ⟨in_small (by omega) (by omega), ?_⟩ | (show (_ → _) ∧ (_ → _); first | refine ⟨by omega, fun _ => ?_⟩ | refine ⟨fun _ => ?_, by omega⟩) | refine ⟨by omega, ?_⟩ | refine ⟨⟨_, rfl, by assumption⟩, ?_⟩ | refine ⟨okT_I _, ?_⟩ | refine ⟨okT_S (by omega) (by omega), ?_⟩ | refine ⟨okT_B (by omega) (by omega), ?_⟩ | refine call0 (gd_of rfl) ?_)
      exact fill 455 0 D1 rfl h1 fun i hi => by rw [if_neg (fun x => by omega)]; exact h2 i (by omega)
    | succ L ih =>
      intro s D1 hs h1 h2
      refine wp_in ?_
      simp only [P_X7_multiple, i_kil, i_icon, i_lcon, i_null, i_loadI, i_loadL, i_loadR, i_istore, i_lstore, i_astore, i_iinc, i_dup, i_dup2, i_pop, i_iadd, i_isub, i_imul, i_idiv, i_irem, i_ineg, i_iand, i_ior, i_ishl, i_ishr, i_lxor, i_ladd, i_lsub, i_lmul, i_ldiv, i_lrem, i_lneg, i_lshl, i_lcmp, i_i2l, i_l2i, i_i2b, i_i2s, i_ifeq, i_ifne, i_iflt, i_ifge, i_ifgt, i_ifle, i_cmpeq, i_cmpne, i_cmplt, i_cmpge, i_cmpgt, i_cmple, i_acmpeq, i_acmpne, i_ifnull, i_ifnonnull, i_getI, i_getR, i_putI, i_putZ, i_putR, i_ald, i_ldL, i_ldR, i_ast, i_stL, i_stR, i_alen, i_new, i_newa, i_iret, i_zret, i_lret, i_aret, i_vret, i_raise, i_throw, i_recv, i_objinit, i_tsw3, lget, lset, lput1, lput2, lkil, ltrim, largs, isL, takev, dropv, nthv, pushO, catv, gd, true_and, and_true, Option.some.injEq, Prod.mk.injEq, exists_eq_left', if_true, if_false, reduceCtorEq, Bool.false_eq_true, lcmp_ge, lcmp_lt, lcmp_le, lcmp_gt, lcmp_eq, true_or, or_true, not_true_eq_false, not_false_eq_true, false_implies, true_implies, List.length_cons, List.length_nil, q1, q28, q29]
      repeat (first | refine ⟨in_small (by omega) (by omega), ?_⟩ | (show (_ → _) ∧ (_ → _); first | refine ⟨by omega, fun _ => ?_⟩ | refine ⟨fun _ => ?_, by omega⟩) | refine ⟨by omega, ?_⟩ | refine ⟨⟨_, rfl, by assumption⟩, ?_⟩ | refine ⟨okT_I _, ?_⟩ | refine ⟨okT_S (by omega) (by omega), ?_⟩ | refine ⟨okT_B (by omega) (by omega), ?_⟩ | refine call0 (gd_of rfl) ?_)
      refine ih (s + 1) _ (by omega) (fun a i ha => by simp only [pmu]; rw [if_neg (fun w => ha w.1)]; exact h1 a i ha) fun i hi => ?_
      simp only [pmu, true_and]
      by_cases w : (i : Int) = s
      · rw [if_pos w]
      · rw [if_neg w]; exact h2 i (by omega)
  refine wp_in ?_
  simp only [P_X7_multiple, i_kil, i_icon, i_lcon, i_null, i_loadI, i_loadL, i_loadR, i_istore, i_lstore, i_astore, i_iinc, i_dup, i_dup2, i_pop, i_iadd, i_isub, i_imul, i_idiv, i_irem, i_ineg, i_iand, i_ior, i_ishl, i_ishr, i_lxor, i_ladd, i_lsub, i_lmul, i_ldiv, i_lrem, i_lneg, i_lshl, i_lcmp, i_i2l, i_l2i, i_i2b, i_i2s, i_ifeq, i_ifne, i_iflt, i_ifge, i_ifgt, i_ifle, i_cmpeq, i_cmpne, i_cmplt, i_cmpge, i_cmpgt, i_cmple, i_acmpeq, i_acmpne, i_ifnull, i_ifnonnull, i_getI, i_getR, i_putI, i_putZ, i_putR, i_ald, i_ldL, i_ldR, i_ast, i_stL, i_stR, i_alen, i_new, i_newa, i_iret, i_zret, i_lret, i_aret, i_vret, i_raise, i_throw, i_recv, i_objinit, i_tsw3, lget, lset, lput1, lput2, lkil, ltrim, largs, isL, takev, dropv, nthv, pushO, catv, gd, true_and, and_true, Option.some.injEq, Prod.mk.injEq, exists_eq_left', if_true, if_false, reduceCtorEq, Bool.false_eq_true, lcmp_ge, lcmp_lt, lcmp_le, lcmp_gt, lcmp_eq, true_or, or_true, not_true_eq_false, not_false_eq_true, false_implies, true_implies, List.length_cons, List.length_nil]
  exact zero 35 0 D rfl (fun _ _ _ => rfl) fun i hi => by omega
/-- terms in rising order -/
def isAsc (c g : Nat) (L : List Nat) : Prop := L.Pairwise (fun a b => 0 < rankI c g b a)
theorem asc_uniq {c g : Nat} (ho : ordOK c g) : ∀ {L L' : List Nat}, isAsc c g L → isAsc c g L' → (∀ t, t ∈ L ↔ t ∈ L') → L = L' := by
  intro L
  induction L with
  | nil =>
    intro L' _ _ h
    cases L' with
    | nil => rfl
    | cons b L' => have := (h b).mpr (List.mem_cons_self ..); simp at this
  | cons a L ih =>
    intro L' h1 h2 h
    cases L' with
    | nil => have := (h a).mp (List.mem_cons_self ..); simp at this
    | cons b L' =>
      obtain ⟨a1, a2⟩ := List.pairwise_cons.mp h1
      obtain ⟨b1, b2⟩ := List.pairwise_cons.mp h2
      have e : a = b := by
        have ha := (h a).mp (List.mem_cons_self ..)
        have hb := (h b).mpr (List.mem_cons_self ..)
        rcases List.mem_cons.mp ha with x | x
        · exact x
        · rcases List.mem_cons.mp hb with y | y
          · exact y.symm
          · have p1 := b1 a x
            have p2 := a1 b y
            have := rank_anti ho a b
            omega
      subst e
      congr 1
      refine ih a2 b2 fun t => ⟨fun ht => ?_, fun ht => ?_⟩
      · rcases List.mem_cons.mp ((h t).mp (List.mem_cons_of_mem _ ht)) with x | x
        · rw [x] at ht
          have := a1 a ht; rw [rank_self ho] at this; omega
        · exact x
      · rcases List.mem_cons.mp ((h t).mpr (List.mem_cons_of_mem _ ht)) with x | x
        · rw [x] at ht
          have := b1 a ht; rw [rank_self ho] at this; omega
        · exact x
theorem asc_snoc {c g : Nat} (ho : ordOK c g) {L : List Nat} {t : Nat} (h : isAsc c g L) (ht : ∀ u, u ∈ L → 0 < rankI c g t u) : isAsc c g (L ++ [t]) := by
  unfold isAsc
  rw [List.pairwise_append]
  refine ⟨h, List.pairwise_singleton .., fun a ha b hb => ?_⟩
  rw [List.mem_singleton.mp hb]
  exact ht a ha
def spF (c g : Nat) (I : Nat → Int) (k : Nat) (L : List Nat) (st : spst) : spst := L.foldl (fun st u => spTake c g st (mulV I u) (k, u)) st
def spst0 : spst := (0, fun _ _ => 0, fun _ => 0, 1, fun _ => (0, 0))
def idQ (I : Nat → Int) : Nat → Rat := fun t => (I t : Rat)
/-- what a term needs to be a multiplier -/
def spM (I : Nat → Int) (d : Int) (t : Nat) : Prop := t < 455 ∧ tdg t ≤ 4 ∧ (tdg t : Int) + degI (idQ I) 455 ≤ d
def spR (c g : Nat) (I : Nat → Nat → Int) (d : Int) : Nat → spst → Prop
  | 0, st => st = spst0
  | k + 1, st => ∃ st0 L, spR c g I d k st0 ∧ isAsc c g L ∧ (∀ t, t ∈ L ↔ spM (I k) d t) ∧ st = spF c g (I k) k L st0
theorem spR.uniq {c g : Nat} (ho : ordOK c g) {I : Nat → Nat → Int} {d : Int} : ∀ k st st', spR c g I d k st → spR c g I d k st' → st = st' := by
  intro k
  induction k with
  | zero => intro st st' h h'; rw [h, h']
  | succ k ih =>
    rintro st st' ⟨s0, L, h1, h2, h3, rfl⟩ ⟨s0', L', g1, g2, g3, rfl⟩
    have e1 := ih _ _ h1 g1
    have e2 := asc_uniq ho h2 g2 fun t => (h3 t).trans (g3 t).symm
    rw [e1, e2]
/-- rows in the order of their columns -/
def sqSo (D : Dat) (q : Nat) (P : Nat → Nat) (k : Nat) (σ : Nat → Nat) : Prop := (∀ i : Nat, i < k → D (q + 14) i = σ i ∧ σ i < k) ∧ ∀ i j, i < j → j < k → P (σ i) < P (σ j)
