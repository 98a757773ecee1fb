/-! the model's product: the inner loop -/
-- needs: el.mtpure
set_option maxRecDepth 100000
set_option linter.unusedVariables false
section MTI
variable {M N : Nat} {S : Stat}
def tmF (M : Nat) (D D' : Dat) : Prop := ∀ c i, (c ≤ M ∨ M + 20 < c) → (c < M + 568 ∨ M + 2392 < c) → (c < M + 4221 ∨ M + 4224 < c) → D' c i = D c i
theorem tcode_inI2 {t u : Nat} (h : t < 455) (h' : u < 455) : inI (tcode t + tcode u) := by
  have a := tcode_lim h
  have b := tcode_lim h'
  unfold inI
  omega
set_option maxHeartbeats 4000000 in
theorem times_inner {E : Ex} {B : Nat × Nat} {P Q i n n' r : Nat} {φ ψ χ : Nat → Rat} {e e' : Nat → Nat} {D0 : Dat} (hI : mfx S M) (hP : mpS S P) (hQ : mpS S Q) (lP : M + 12195 ≤ P) (lQ : M + 12195 ≤ Q) (hφ : mpD D0 P φ n e) (hψ : mpD D0 Q ψ n' e') (hi : i < n) (hdeg : ∀ j, j < n' → tdg (e i) + tdg (e' j) ≤ 12)
    (K : ∀ (D' : Dat) (g : Int), tmF M D0 D' → (∃ χ', smP D' (M + 568) χ') → ((g = 1 ∧ mk1 (φ (e i)) (e i) ψ χ 455 ∧ smP D' (M + 568) (mu1 (φ (e i)) (e i) ψ χ 455)) ∨ (g = 0 ∧ ¬ mk1 (φ (e i)) (e i) ψ χ 455)) → Wp P_X16_times E 5 [some (aR M), none, none, some (aI (r : Int)), none, some (aR P), some (aR Q), some (aI g), some (aI (i : Int))] [] B S D') :
    ∀ (L j : Nat) (D1 : Dat), j + L = n' → tmF M D0 D1 → mk1 (φ (e i)) (e i) ψ χ (rpos n' e' j) → smP D1 (M + 568) (mu1 (φ (e i)) (e i) ψ χ (rpos n' e' j)) → Wp P_X16_times E 4 [some (aR M), none, none, some (aI (r : Int)), none, some (aR P), some (aR Q), some (aI 1), some (aI (i : Int)), some (aI (j : Int))] [] B S D1 := by
  have o := hI.o
  have hmg := hI.mg
  obtain ⟨s1, s2⟩ := hI.h29
  obtain ⟨x1, x2⟩ := hI.h35
  obtain ⟨y1, y2⟩ := hI.h36
  obtain ⟨p1, p2, p3, p4, p5, p6, p7⟩ := id hP
  obtain ⟨q1, q2, q3, q4, q5, q6, q7⟩ := id hQ
  have p51 := p5.1
  have p71 := p7.1
  have q51 := q5.1
  have q71 := q7.1
  obtain ⟨a1, a2, a3, a4⟩ := hφ.2.2.1 i hi
  have hn60 := hφ.1
  have hn60' := hψ.1
  obtain ⟨m1, m2⟩ := p5.2 i (by omega)
  obtain ⟨m3, m4⟩ := p7.2 i (by omega)
  have hf := hφ.2.2.2.2.2.1 (e i) a1
  intro L
  induction L with
  | zero =>
    intro j D1 hj hF hk hs
    have : j = n' := by omega
    subst this
    have hc : D1 Q 0 = (j : Int) := by rw [hF _ _ (by omega) (by omega) (by omega)]; exact hψ.2.1
    rw [rpos_end (Nat.le_refl _)] at hk hs
    refine wp_in ?_
    simp only [P_X16_times, i_kil, i_icon, i_lcon, i_null, i_loadI, i_loadL, i_loadR, i_istore, i_lstore, i_astore, i_iinc, i_dup, i_dup2, i_pop, i_iadd, i_isub, i_imul, i_idiv, i_irem, i_ineg, i_iand, i_ior, i_ishl, i_ishr, i_lxor, i_ladd, i_lsub, i_lmul, i_ldiv, i_lrem, i_lneg, i_lshl, i_lcmp, i_i2l, i_l2i, i_i2b, i_i2s, i_ifeq, i_ifne, i_iflt, i_ifge, i_ifgt, i_ifle, i_cmpeq, i_cmpne, i_cmplt, i_cmpge, i_cmpgt, i_cmple, i_acmpeq, i_acmpne, i_ifnull, i_ifnonnull, i_getI, i_getR, i_putI, i_putZ, i_putR, i_ald, i_ldL, i_ldR, i_ast, i_stL, i_stR, i_alen, i_new, i_newa, i_iret, i_zret, i_lret, i_aret, i_vret, i_raise, i_throw, i_recv, i_objinit, i_tsw3, lget, lset, lput1, lput2, lkil, ltrim, largs, isL, takev, dropv, nthv, pushO, catv, gd, true_and, and_true, Option.some.injEq, Prod.mk.injEq, exists_eq_left', if_true, if_false, reduceCtorEq, Bool.false_eq_true, lcmp_ge, lcmp_lt, lcmp_le, lcmp_gt, lcmp_eq, true_or, or_true, not_true_eq_false, not_false_eq_true, false_implies, true_implies, List.length_cons, List.length_nil, q1, hc]
    repeat (first | refine ⟨in_small (by omega) (by omega), ?_⟩ | (show (_ → _) ∧ (_ → _); first | refine ⟨by omega, fun _ => ?_⟩ | refine ⟨fun _ => ?_, by omega⟩) | refine ⟨by omega, ?_⟩ | refine ⟨⟨_, rfl, by assumption⟩, ?_⟩ | refine ⟨okT_I _, ?_⟩ | refine call0 (gd_of rfl) ?_)
    exact K D1 1 hF ⟨_, hs⟩ (.inl ⟨rfl, hk, hs⟩)
  | succ L ih =>
    intro j D1 hj hF hk hs
    have hj' : j < n' := by omega
    have hc : D1 Q 0 = (n' : Int) := by rw [hF _ _ (by omega) (by omega) (by omega)]; exact hψ.2.1
    obtain ⟨b1, b2, b3, b4⟩ := hψ.2.2.1 j hj'
    obtain ⟨m5, m6⟩ := q5.2 j (by omega)
    obtain ⟨m7, m8⟩ := q7.2 j (by omega)
    have hg := hψ.2.2.2.2.2.1 (e' j) b1
    have a31 : frD D1 (P + 3 + 2 * i) (P + 124 + 2 * i) (φ (e i)) := a3.congr fun c j hc => hF c j (by omega) (by omega) (by omega)
    have b31 : frD D1 (Q + 3 + 2 * j) (Q + 124 + 2 * j) (ψ (e' j)) := b3.congr fun c j hc => hF c j (by omega) (by omega) (by omega)
    have a21 : D1 (P + 1) (i : Int) = tcode (e i) := by rw [hF _ _ (by omega) (by omega) (by omega)]; exact a2
    have b21 : D1 (Q + 1) (j : Int) = tcode (e' j) := by rw [hF _ _ (by omega) (by omega) (by omega)]; exact b2
    obtain ⟨st1, st2⟩ := mu1_step hψ (x := φ (e i)) (t := e i) (χ := χ) hj'
    refine wp_in ?_
    simp only [P_X16_times, i_kil, i_icon, i_lcon, i_null, i_loadI, i_loadL, i_loadR, i_istore, i_lstore, i_astore, i_iinc, i_dup, i_dup2, i_pop, i_iadd, i_isub, i_imul, i_idiv, i_irem, i_ineg, i_iand, i_ior, i_ishl, i_ishr, i_lxor, i_ladd, i_lsub, i_lmul, i_ldiv, i_lrem, i_lneg, i_lshl, i_lcmp, i_i2l, i_l2i, i_i2b, i_i2s, i_ifeq, i_ifne, i_iflt, i_ifge, i_ifgt, i_ifle, i_cmpeq, i_cmpne, i_cmplt, i_cmpge, i_cmpgt, i_cmple, i_acmpeq, i_acmpne, i_ifnull, i_ifnonnull, i_getI, i_getR, i_putI, i_putZ, i_putR, i_ald, i_ldL, i_ldR, i_ast, i_stL, i_stR, i_alen, i_new, i_newa, i_iret, i_zret, i_lret, i_aret, i_vret, i_raise, i_throw, i_recv, i_objinit, i_tsw3, lget, lset, lput1, lput2, lkil, ltrim, largs, isL, takev, dropv, nthv, pushO, catv, gd, true_and, and_true, Option.some.injEq, Prod.mk.injEq, exists_eq_left', if_true, if_false, reduceCtorEq, Bool.false_eq_true, lcmp_ge, lcmp_lt, lcmp_le, lcmp_gt, lcmp_eq, true_or, or_true, not_true_eq_false, not_false_eq_true, false_implies, true_implies, List.length_cons, List.length_nil, q1, hc, o, x1, p1, p4, p51, m1, q4, q51, m5]
    repeat (first | refine ⟨in_small (by omega) (by omega), ?_⟩ | (show (_ → _) ∧ (_ → _); first | refine ⟨by omega, fun _ => ?_⟩ | refine ⟨fun _ => ?_, by omega⟩) | refine ⟨by omega, ?_⟩ | refine ⟨⟨_, rfl, by assumption⟩, ?_⟩ | refine ⟨okT_I _, ?_⟩ | refine call0 (gd_of rfl) ?_)
    refine sp_X16_multiply (p := 14) (q := 14) x2 m2 m6 o hmg.1.2.1 hmg.1.2.2.1 (by omega) (by omega) (by omega) a31.1 b31.1 hf.n hg.n (by omega) (by omega) (by omega) (by omega) (by omega) (by omega) (by omega) fun D2 c1 c2 => ?_
    simp only [P_X16_times, i_kil, i_icon, i_lcon, i_null, i_loadI, i_loadL, i_loadR, i_istore, i_lstore, i_astore, i_iinc, i_dup, i_dup2, i_pop, i_iadd, i_isub, i_imul, i_idiv, i_irem, i_ineg, i_iand, i_ior, i_ishl, i_ishr, i_lxor, i_ladd, i_lsub, i_lmul, i_ldiv, i_lrem, i_lneg, i_lshl, i_lcmp, i_i2l, i_l2i, i_i2b, i_i2s, i_ifeq, i_ifne, i_iflt, i_ifge, i_ifgt, i_ifle, i_cmpeq, i_cmpne, i_cmplt, i_cmpge, i_cmpgt, i_cmple, i_acmpeq, i_acmpne, i_ifnull, i_ifnonnull, i_getI, i_getR, i_putI, i_putZ, i_putR, i_ald, i_ldL, i_ldR, i_ast, i_stL, i_stR, i_alen, i_new, i_newa, i_iret, i_zret, i_lret, i_aret, i_vret, i_raise, i_throw, i_recv, i_objinit, i_tsw3, lget, lset, lput1, lput2, lkil, ltrim, largs, isL, takev, dropv, nthv, pushO, catv, gd, true_and, and_true, Option.some.injEq, Prod.mk.injEq, exists_eq_left', if_true, if_false, reduceCtorEq, Bool.false_eq_true, lcmp_ge, lcmp_lt, lcmp_le, lcmp_gt, lcmp_eq, true_or, or_true, not_true_eq_false, not_false_eq_true, false_implies, true_implies, List.length_cons, List.length_nil, o, y1, p1, p6, p71, m3, q1, q6, q71, m7]
    repeat (first | refine ⟨in_small (by omega) (by omega), ?_⟩ | (show (_ → _) ∧ (_ → _); first | refine ⟨by omega, fun _ => ?_⟩ | refine ⟨fun _ => ?_, by omega⟩) | refine ⟨by omega, ?_⟩ | refine ⟨⟨_, rfl, by assumption⟩, ?_⟩ | refine ⟨okT_I _, ?_⟩ | refine call0 (gd_of rfl) ?_)
    refine sp_X16_multiply (p := 14) (q := 14) y2 m4 m8 o hmg.1.2.1 hmg.1.2.2.1 (by omega) (by omega) (by omega) (a31.2.congr (fun z => c1 _ _ (by omega) (by omega) (by omega)) (fun z => c1 _ _ (by omega) (by omega) (by omega))) (b31.2.congr (fun z => c1 _ _ (by omega) (by omega) (by omega)) (fun z => c1 _ _ (by omega) (by omega) (by omega))) hf.d hg.d (by omega) (by omega) (by omega) (by omega) (by omega) (by omega) (by omega) fun D3 d1 d2 => ?_
    have hF3 : tmF M D0 D3 := fun c z h1 h2 h3 => by rw [d1 c z (by omega) (by omega) (by omega), c1 c z (by omega) (by omega) (by omega)]; exact hF c z h1 h2 h3
    have a23 : D3 (P + 1) (i : Int) = tcode (e i) := by rw [hF3 _ _ (by omega) (by omega) (by omega)]; exact a2
    have b23 : D3 (Q + 1) (j : Int) = tcode (e' j) := by rw [hF3 _ _ (by omega) (by omega) (by omega)]; exact b2
    have hd2 := hdeg j hj'
    simp only [P_X16_times, i_kil, i_icon, i_lcon, i_null, i_loadI, i_loadL, i_loadR, i_istore, i_lstore, i_astore, i_iinc, i_dup, i_dup2, i_pop, i_iadd, i_isub, i_imul, i_idiv, i_irem, i_ineg, i_iand, i_ior, i_ishl, i_ishr, i_lxor, i_ladd, i_lsub, i_lmul, i_ldiv, i_lrem, i_lneg, i_lshl, i_lcmp, i_i2l, i_l2i, i_i2b, i_i2s, i_ifeq, i_ifne, i_iflt, i_ifge, i_ifgt, i_ifle, i_cmpeq, i_cmpne, i_cmplt, i_cmpge, i_cmpgt, i_cmple, i_acmpeq, i_acmpne, i_ifnull, i_ifnonnull, i_getI, i_getR, i_putI, i_putZ, i_putR, i_ald, i_ldL, i_ldR, i_ast, i_stL, i_stR, i_alen, i_new, i_newa, i_iret, i_zret, i_lret, i_aret, i_vret, i_raise, i_throw, i_recv, i_objinit, i_tsw3, lget, lset, lput1, lput2, lkil, ltrim, largs, isL, takev, dropv, nthv, pushO, catv, gd, true_and, and_true, Option.some.injEq, Prod.mk.injEq, exists_eq_left', if_true, if_false, reduceCtorEq, Bool.false_eq_true, lcmp_ge, lcmp_lt, lcmp_le, lcmp_gt, lcmp_eq, true_or, or_true, not_true_eq_false, not_false_eq_true, false_implies, true_implies, List.length_cons, List.length_nil, o, s1, x1, y1, p1, p2, p3, q1, q2, q3, a23, b23]
    repeat (first | refine ⟨in_small (by omega) (by omega), ?_⟩ | (show (_ → _) ∧ (_ → _); first | refine ⟨by omega, fun _ => ?_⟩ | refine ⟨fun _ => ?_, by omega⟩) | refine ⟨by omega, ?_⟩ | refine ⟨⟨_, rfl, by assumption⟩, ?_⟩ | refine ⟨okT_I _, ?_⟩ | refine call0 (gd_of rfl) ?_)
    have em : ((1 : Int) : Rat) * Rat.divInt ((φ (e i)).num * (ψ (e' j)).num) (((φ (e i)).den : Int) * ((ψ (e' j)).den : Int)) = ψ (e' j) * φ (e i) := by
      rw [rat_mul, show ((1 : Int) : Rat) = 1 from rfl, Rat.one_mul, Rat.mul_comm]
    have hdn : ((φ (e i)).den : Int) * ((ψ (e' j)).den : Int) ≠ 0 := Int.mul_ne_zero (by have := (φ (e i)).den_pos; omega) (by have := (ψ (e' j)).den_pos; omega)
    have s9 : smP D3 (M + 568) (mu1 (φ (e i)) (e i) ψ χ (rpos n' e' j)) := hs.congr fun c z h1 h2 => by rw [d1 c z (by omega) (by omega) (by omega), c1 c z (by omega) (by omega) (by omega)]
    refine ⟨tcode_inI2 a1 b1, ⟨_, rfl, o⟩, call0 (gd_of rfl) ?_⟩
    refine sp_X16_gather (t := tmu (e i) (e' j)) (p := 14 + 14) (q := 14 + 14) (sg := 1) hmg s2 (by omega) s9 (tmu_tx hd2).2.2.2 (by rw [tcode_mu hd2]) x2 y2 (by omega) (by omega) (by omega) (by omega) (c2.congr (fun z => d1 _ _ (by omega) (by omega) (by omega)) (fun z => d1 _ _ (by omega) (by omega) (by omega))) d2 hdn (.inl rfl) (pw_mul hf.n hg.n) (pw_mul hf.d hg.d) (by omega) (by omega) (by omega) (by omega) (by omega) (by omega) (fun D4 l1 l2 l3 => ?_) (fun D4 l1 l2 l3 => ?_)
    · rw [em] at l2 l3
      simp only [P_X16_times, i_kil, i_icon, i_lcon, i_null, i_loadI, i_loadL, i_loadR, i_istore, i_lstore, i_astore, i_iinc, i_dup, i_dup2, i_pop, i_iadd, i_isub, i_imul, i_idiv, i_irem, i_ineg, i_iand, i_ior, i_ishl, i_ishr, i_lxor, i_ladd, i_lsub, i_lmul, i_ldiv, i_lrem, i_lneg, i_lshl, i_lcmp, i_i2l, i_l2i, i_i2b, i_i2s, i_ifeq, i_ifne, i_iflt, i_ifge, i_ifgt, i_ifle, i_cmpeq, i_cmpne, i_cmplt, i_cmpge, i_cmpgt, i_cmple, i_acmpeq, i_acmpne, i_ifnull, i_ifnonnull, i_getI, i_getR, i_putI, i_putZ, i_putR, i_ald, i_ldL, i_ldR, i_ast, i_stL, i_stR, i_alen, i_new, i_newa, i_iret, i_zret, i_lret, i_aret, i_vret, i_raise, i_throw, i_recv, i_objinit, i_tsw3, lget, lset, lput1, lput2, lkil, ltrim, largs, isL, takev, dropv, nthv, pushO, catv, gd, true_and, and_true, Option.some.injEq, Prod.mk.injEq, exists_eq_left', if_true, if_false, reduceCtorEq, Bool.false_eq_true, lcmp_ge, lcmp_lt, lcmp_le, lcmp_gt, lcmp_eq, true_or, or_true, not_true_eq_false, not_false_eq_true, false_implies, true_implies, List.length_cons, List.length_nil]
      repeat (first | refine ⟨in_small (by omega) (by omega), ?_⟩ | (show (_ → _) ∧ (_ → _); first | refine ⟨by omega, fun _ => ?_⟩ | refine ⟨fun _ => ?_, by omega⟩) | refine ⟨by omega, ?_⟩ | refine ⟨⟨_, rfl, by assumption⟩, ?_⟩ | refine ⟨okT_I _, ?_⟩ | refine call0 (gd_of rfl) ?_)
      refine ih (j + 1) D4 (by omega) (fun c z h1 h2 h3 => by rw [l1 c z (by omega) h1]; exact hF3 c z h1 h2 h3) (st2.mpr ⟨hk, l2⟩) ?_
      rw [st1]; exact l3
    · rw [em] at l2
      have hno : ¬ mk1 (φ (e i)) (e i) ψ χ 455 := fun w => l2 (st2.mp fun z hz => w z (Nat.lt_of_lt_of_le hz rpos_le)).2
      have hF4 : tmF M D0 D4 := fun c z h1 h2 h3 => by rw [l1 c z (by omega) h1]; exact hF3 c z h1 h2 h3
      have hc4 : D4 Q 0 = (n' : Int) := by rw [hF4 _ _ (by omega) (by omega) (by omega)]; exact hψ.2.1
      simp only [P_X16_times, i_kil, i_icon, i_lcon, i_null, i_loadI, i_loadL, i_loadR, i_istore, i_lstore, i_astore, i_iinc, i_dup, i_dup2, i_pop, i_iadd, i_isub, i_imul, i_idiv, i_irem, i_ineg, i_iand, i_ior, i_ishl, i_ishr, i_lxor, i_ladd, i_lsub, i_lmul, i_ldiv, i_lrem, i_lneg, i_lshl, i_lcmp, i_i2l, i_l2i, i_i2b, i_i2s, i_ifeq, i_ifne, i_iflt, i_ifge, i_ifgt, i_ifle, i_cmpeq, i_cmpne, i_cmplt, i_cmpge, i_cmpgt, i_cmple, i_acmpeq, i_acmpne, i_ifnull, i_ifnonnull, i_getI, i_getR, i_putI, i_putZ, i_putR, i_ald, i_ldL, i_ldR, i_ast, i_stL, i_stR, i_alen, i_new, i_newa, i_iret, i_zret, i_lret, i_aret, i_vret, i_raise, i_throw, i_recv, i_objinit, i_tsw3, lget, lset, lput1, lput2, lkil, ltrim, largs, isL, takev, dropv, nthv, pushO, catv, gd, true_and, and_true, Option.some.injEq, Prod.mk.injEq, exists_eq_left', if_true, if_false, reduceCtorEq, Bool.false_eq_true, lcmp_ge, lcmp_lt, lcmp_le, lcmp_gt, lcmp_eq, true_or, or_true, not_true_eq_false, not_false_eq_true, false_implies, true_implies, List.length_cons, List.length_nil]
      repeat (first | refine ⟨in_small (by omega) (by omega), ?_⟩ | (show (_ → _) ∧ (_ → _); first | refine ⟨by omega, fun _ => ?_⟩ | refine ⟨fun _ => ?_, by omega⟩) | refine ⟨by omega, ?_⟩ | refine ⟨⟨_, rfl, by assumption⟩, ?_⟩ | refine ⟨okT_I _, ?_⟩ | refine call0 (gd_of rfl) ?_)
      refine wp_in ?_
      simp only [P_X16_times, i_kil, i_icon, i_lcon, i_null, i_loadI, i_loadL, i_loadR, i_istore, i_lstore, i_astore, i_iinc, i_dup, i_dup2, i_pop, i_iadd, i_isub, i_imul, i_idiv, i_irem, i_ineg, i_iand, i_ior, i_ishl, i_ishr, i_lxor, i_ladd, i_lsub, i_lmul, i_ldiv, i_lrem, i_lneg, i_lshl, i_lcmp, i_i2l, i_l2i, i_i2b, i_i2s, i_ifeq, i_ifne, i_iflt, i_ifge, i_ifgt, i_ifle, i_cmpeq, i_cmpne, i_cmplt, i_cmpge, i_cmpgt, i_cmple, i_acmpeq, i_acmpne, i_ifnull, i_ifnonnull, i_getI, i_getR, i_putI, i_putZ, i_putR, i_ald, i_ldL, i_ldR, i_ast, i_stL, i_stR, i_alen, i_new, i_newa, i_iret, i_zret, i_lret, i_aret, i_vret, i_raise, i_throw, i_recv, i_objinit, i_tsw3, lget, lset, lput1, lput2, lkil, ltrim, largs, isL, takev, dropv, nthv, pushO, catv, gd, true_and, and_true, Option.some.injEq, Prod.mk.injEq, exists_eq_left', if_true, if_false, reduceCtorEq, Bool.false_eq_true, lcmp_ge, lcmp_lt, lcmp_le, lcmp_gt, lcmp_eq, true_or, or_true, not_true_eq_false, not_false_eq_true, false_implies, true_implies, List.length_cons, List.length_nil, q1, hc4]
      exact ⟨fun _ => K D4 0 hF4 ⟨_, l3⟩ (.inr ⟨rfl, hno⟩), fun _ => K D4 0 hF4 ⟨_, l3⟩ (.inr ⟨rfl, hno⟩)⟩
end MTI
