/-! the model's span asked: leads, powers, free terms -/
set_option maxRecDepth 100000
set_option linter.unusedVariables false
/-- the model holds a span -/
def msE (D : Dat) (M c g d n : Nat) (tc : Nat → Nat) (st : spst) (σ : Nat → Nat) : Prop := mcD D M c g d n tc ∧ spOK st ∧ spL c g st ∧ spSo c g st σ ∧ (∃ V pm, msI D M n d tc st V pm) ∧ ∀ k : Nat, k < st.1 → D (M + 10780) k = σ k ∧ mpP D (M + 19027 + 244 * k) (spEl st σ k)
section ASK
variable {D : Dat} {M c g d n : Nat} {tc : Nat → Nat} {st : spst} {σ : Nat → Nat}
theorem msE.lead (h : msE D M c g d n tc st σ) {k : Nat} (hk : k < st.1) : ∃ x : Nat, D (M + 10780) k = σ k ∧ D (M + 10778) (σ k) = x ∧ x < 35 ∧ D (M + 5697) x = tcode (spLd st σ k) ∧ σ k < 35 ∧ k < 35 := by
  obtain ⟨⟨c1, c2, c3⟩, h2, h3, h4, ⟨V, pm, s1, s2, s3, s4⟩, h6⟩ := h
  have hs := h4.1 k hk
  obtain ⟨-, -, ⟨x3, x4⟩, x5, -⟩ := s4 _ hs
  have := c1.2.2.2
  have := h2.1
  refine ⟨pm (σ k), (h6 k hk).1, x5, by omega, ?_, by omega, by omega⟩
  rw [(c3 _ x3).1, x4]; rfl
theorem msE.rows (h : msE D M c g d n tc st σ) : D M 57 = st.1 := h.2.2.2.2.1.elim fun V w => w.elim fun pm s => s.2.1
theorem mlead_at {E : Ex} {B : Nat × Nat} {S : Stat} {k : Nat} {x : Int} (hM : mtS S M) (h : msE D M c g d n tc st σ) (hk : k < st.1) (hx : x = k) (K : E (.inl (some (.inl (tcode (spLd st σ k))))) B S D) : Wp P_X16_leadOf E 0 [some (aR M), some (aI x)] [] B S D := by
  subst hx
  obtain ⟨hm, hg, -, -, ⟨o1, o2⟩⟩ := hM
  obtain ⟨-, -, hcs, -, ⟨p1, p2⟩, -⟩ := hm
  obtain ⟨M1, c1, c2, c3, c4'⟩ := hcs
  obtain ⟨y, y1, y2, y3, y4, y5, y6⟩ := h.lead hk
  refine wp_in ?_
  simp only [P_X16_leadOf, i_kil, i_icon, i_lcon, i_null, i_loadI, i_loadL, i_loadR, i_istore, i_lstore, i_astore, i_iinc, i_dup, i_dup2, i_pop, i_iadd, i_isub, i_imul, i_idiv, i_irem, i_ineg, i_iand, i_ior, i_ishl, i_ishr, i_lxor, i_ladd, i_lsub, i_lmul, i_ldiv, i_lrem, i_lneg, i_lshl, i_lcmp, i_i2l, i_l2i, i_i2b, i_i2s, i_ifeq, i_ifne, i_iflt, i_ifge, i_ifgt, i_ifle, i_cmpeq, i_cmpne, i_cmplt, i_cmpge, i_cmpgt, i_cmple, i_acmpeq, i_acmpne, i_ifnull, i_ifnonnull, i_getI, i_getR, i_putI, i_putZ, i_putR, i_ald, i_ldL, i_ldR, i_ast, i_stL, i_stR, i_alen, i_new, i_newa, i_iret, i_zret, i_lret, i_aret, i_vret, i_raise, i_throw, i_recv, i_objinit, i_tsw3, lget, lset, lput1, lput2, lkil, ltrim, largs, isL, takev, dropv, nthv, pushO, catv, gd, true_and, and_true, Option.some.injEq, Prod.mk.injEq, exists_eq_left', if_true, if_false, reduceCtorEq, Bool.false_eq_true, lcmp_ge, lcmp_lt, lcmp_le, lcmp_gt, lcmp_eq, true_or, or_true, not_true_eq_false, not_false_eq_true, false_implies, true_implies, List.length_cons, List.length_nil, M1, o1, o2, p1, p2, c1, c2, y1, y2, y4]
  repeat (first | refine ⟨in_small (by omega) (by omega), ?_⟩ | (show (_ → _) ∧ (_ → _); first | refine ⟨by omega, fun _ => ?_⟩ | refine ⟨fun _ => ?_, by omega⟩) | refine ⟨by omega, ?_⟩ | refine ⟨⟨_, rfl, by assumption⟩, ?_⟩ | refine ⟨okT_I _, ?_⟩ | refine ⟨okT_S (by omega) (by omega), ?_⟩ | refine ⟨okT_B (by omega) (by omega), ?_⟩ | refine call0 (gd_of rfl) ?_)
  exact K
/-- a letter's power -/
def txp (l e : Nat) : Nat := tn (if l = 0 then e else 0) (if l = 1 then e else 0) (if l = 2 then e else 0)
theorem txp_all : ∀ l : Fin 3, ∀ e : Fin 5, shlI ((e : Nat) : Int) (4 * ((l : Nat) : Int)) = tcode (txp l e) ∧ txp l e < 455 := by decide +kernel
theorem txp_div : ∀ l : Fin 3, ∀ e : Fin 5, tdv (txp l e) (spPw l) := by
  intro l e
  have h1 : (if (l : Nat) = 0 then (e : Nat) else 0) + (if (l : Nat) = 1 then (e : Nat) else 0) + (if (l : Nat) = 2 then (e : Nat) else 0) ≤ 12 := by split <;> split <;> split <;> omega
  obtain ⟨a1, a2, a3⟩ := tn_tx h1
  obtain ⟨b1, b2, b3⟩ := tn_tx (spPw_le l.2)
  unfold tdv txp spPw
  rw [a1, a2, a3, b1, b2, b3]
  refine ⟨?_, ?_, ?_⟩ <;> split <;> omega
theorem txp_of {l u : Nat} (hl : l < 3) (hu : u < 455) (h : tdv u (spPw l)) : ∃ e, e < 5 ∧ u = txp l e := by
  obtain ⟨b1, b2, b3⟩ := tn_tx (spPw_le hl)
  unfold tdv spPw at h
  rw [b1, b2, b3] at h
  have hl' : l = 0 ∨ l = 1 ∨ l = 2 := by omega
  rcases hl' with rfl | rfl | rfl
  · simp only [if_true, show ¬ ((0 : Nat) = 1) by decide, show ¬ ((0 : Nat) = 2) by decide, if_false] at h
    refine ⟨tx0 u, by omega, ?_⟩
    obtain ⟨a1, a2, a3⟩ := tn_tx (a := tx0 u) (b := 0) (c := 0) (by omega)
    have eu : u = tn (tx0 u) 0 0 := tx_ext hu (tn_lt (by omega)) (by omega) (by omega) (by omega)
    exact eu
  · simp only [if_true, show ¬ ((1 : Nat) = 0) by decide, show ¬ ((1 : Nat) = 2) by decide, if_false] at h
    refine ⟨tx1 u, by omega, ?_⟩
    obtain ⟨a1, a2, a3⟩ := tn_tx (a := 0) (b := tx1 u) (c := 0) (by omega)
    have eu : u = tn 0 (tx1 u) 0 := tx_ext hu (tn_lt (by omega)) (by omega) (by omega) (by omega)
    exact eu
  · simp only [if_true, show ¬ ((2 : Nat) = 0) by decide, show ¬ ((2 : Nat) = 1) by decide, if_false] at h
    refine ⟨tx2 u, by omega, ?_⟩
    obtain ⟨a1, a2, a3⟩ := tn_tx (a := 0) (b := 0) (c := tx2 u) (by omega)
    have eu : u = tn 0 0 (tx2 u) := tx_ext hu (tn_lt (by omega)) (by omega) (by omega) (by omega)
    exact eu
set_option maxHeartbeats 1000000 in
theorem sp_X16_powerOf {E : Ex} {B : Nat × Nat} {S : Stat} {l : Nat} {xl : Int} (hM : mtS S M) (h : msE D M c g d n tc st σ) (hl : l < 3) (hx : xl = l)
    (K : ∀ v : Int, (v < 0 ↔ spFree st σ (spPw l)) → E (.inl (some (.inl v))) B S D) : Wp P_X16_powerOf E 0 [some (aR M), some (aI xl)] [] B S D := by
  subst hx
  have M1 := hM.1.2.2.1.1
  have e57 := h.rows
  have hk35 := h.2.1.1
  have hlt : ∀ k, k < st.1 → spLd st σ k < 455 := fun k hk => (spLd_lt h.2.1 h.2.2.2.1 hk).1
  have outer : ∀ (L e : Nat), e + L = 5 → (∀ a, a < e → ∀ k, k < st.1 → spLd st σ k ≠ txp l a) → Wp P_X16_powerOf E 1 [some (aR M), some (aI l), some (aI e)] [] B S D := by
    intro L
    induction L with
    | zero =>
      intro e he h0
      have : e = 5 := by omega
      subst this
      refine wp_in ?_
      simp only [P_X16_powerOf, i_kil, i_icon, i_lcon, i_null, i_loadI, i_loadL, i_loadR, i_istore, i_lstore, i_astore, i_iinc, i_dup, i_dup2, i_pop, i_iadd, i_isub, i_imul, i_idiv, i_irem, i_ineg, i_iand, i_ior, i_ishl, i_ishr, i_lxor, i_ladd, i_lsub, i_lmul, i_ldiv, i_lrem, i_lneg, i_lshl, i_lcmp, i_i2l, i_l2i, i_i2b, i_i2s, i_ifeq, i_ifne, i_iflt, i_ifge, i_ifgt, i_ifle, i_cmpeq, i_cmpne, i_cmplt, i_cmpge, i_cmpgt, i_cmple, i_acmpeq, i_acmpne, i_ifnull, i_ifnonnull, i_getI, i_getR, i_putI, i_putZ, i_putR, i_ald, i_ldL, i_ldR, i_ast, i_stL, i_stR, i_alen, i_new, i_newa, i_iret, i_zret, i_lret, i_aret, i_vret, i_raise, i_throw, i_recv, i_objinit, i_tsw3, lget, lset, lput1, lput2, lkil, ltrim, largs, isL, takev, dropv, nthv, pushO, catv, gd, true_and, and_true, Option.some.injEq, Prod.mk.injEq, exists_eq_left', if_true, if_false, reduceCtorEq, Bool.false_eq_true, lcmp_ge, lcmp_lt, lcmp_le, lcmp_gt, lcmp_eq, true_or, or_true, not_true_eq_false, not_false_eq_true, false_implies, true_implies, List.length_cons, List.length_nil]
      repeat (first | refine ⟨in_small (by omega) (by omega), ?_⟩ | (show (_ → _) ∧ (_ → _); first | refine ⟨by omega, fun _ => ?_⟩ | refine ⟨fun _ => ?_, by omega⟩) | refine ⟨by omega, ?_⟩ | refine ⟨⟨_, rfl, by assumption⟩, ?_⟩ | refine ⟨okT_I _, ?_⟩ | refine ⟨okT_S (by omega) (by omega), ?_⟩ | refine ⟨okT_B (by omega) (by omega), ?_⟩ | refine call0 (gd_of rfl) ?_)
      refine K (-1) ⟨fun _ k hk hd => ?_, fun _ => by decide⟩
      obtain ⟨e, he, w⟩ := txp_of hl (hlt k hk) hd
      exact h0 e he k hk w
    | succ L ih =>
      intro e he h0
      have inner : ∀ (L2 k : Nat), k + L2 = st.1 → (∀ j, j < k → spLd st σ j ≠ txp l e) → Wp P_X16_powerOf E 2 [some (aR M), some (aI l), some (aI e), some (aI k)] [] B S D := by
        intro L2
        induction L2 with
        | zero =>
          intro k hk h1
          refine wp_in ?_
          simp only [P_X16_powerOf, i_kil, i_icon, i_lcon, i_null, i_loadI, i_loadL, i_loadR, i_istore, i_lstore, i_astore, i_iinc, i_dup, i_dup2, i_pop, i_iadd, i_isub, i_imul, i_idiv, i_irem, i_ineg, i_iand, i_ior, i_ishl, i_ishr, i_lxor, i_ladd, i_lsub, i_lmul, i_ldiv, i_lrem, i_lneg, i_lshl, i_lcmp, i_i2l, i_l2i, i_i2b, i_i2s, i_ifeq, i_ifne, i_iflt, i_ifge, i_ifgt, i_ifle, i_cmpeq, i_cmpne, i_cmplt, i_cmpge, i_cmpgt, i_cmple, i_acmpeq, i_acmpne, i_ifnull, i_ifnonnull, i_getI, i_getR, i_putI, i_putZ, i_putR, i_ald, i_ldL, i_ldR, i_ast, i_stL, i_stR, i_alen, i_new, i_newa, i_iret, i_zret, i_lret, i_aret, i_vret, i_raise, i_throw, i_recv, i_objinit, i_tsw3, lget, lset, lput1, lput2, lkil, ltrim, largs, isL, takev, dropv, nthv, pushO, catv, gd, true_and, and_true, Option.some.injEq, Prod.mk.injEq, exists_eq_left', if_true, if_false, reduceCtorEq, Bool.false_eq_true, lcmp_ge, lcmp_lt, lcmp_le, lcmp_gt, lcmp_eq, true_or, or_true, not_true_eq_false, not_false_eq_true, false_implies, true_implies, List.length_cons, List.length_nil, M1, e57]
          repeat (first | refine ⟨in_small (by omega) (by omega), ?_⟩ | (show (_ → _) ∧ (_ → _); first | refine ⟨by omega, fun _ => ?_⟩ | refine ⟨fun _ => ?_, by omega⟩) | refine ⟨by omega, ?_⟩ | refine ⟨⟨_, rfl, by assumption⟩, ?_⟩ | refine ⟨okT_I _, ?_⟩ | refine ⟨okT_S (by omega) (by omega), ?_⟩ | refine ⟨okT_B (by omega) (by omega), ?_⟩ | refine call0 (gd_of rfl) ?_)
          refine ih (e + 1) (by omega) fun a ha j hj => ?_
          by_cases w : a = e
          · rw [w]; exact h1 j (by omega)
          · exact h0 a (by omega) j hj
        | succ L2 ih2 =>
          intro k hk h1
          obtain ⟨t1, t2⟩ := txp_all ⟨l, hl⟩ ⟨e, by omega⟩
          refine wp_in ?_
          simp only [P_X16_powerOf, i_kil, i_icon, i_lcon, i_null, i_loadI, i_loadL, i_loadR, i_istore, i_lstore, i_astore, i_iinc, i_dup, i_dup2, i_pop, i_iadd, i_isub, i_imul, i_idiv, i_irem, i_ineg, i_iand, i_ior, i_ishl, i_ishr, i_lxor, i_ladd, i_lsub, i_lmul, i_ldiv, i_lrem, i_lneg, i_lshl, i_lcmp, i_i2l, i_l2i, i_i2b, i_i2s, i_ifeq, i_ifne, i_iflt, i_ifge, i_ifgt, i_ifle, i_cmpeq, i_cmpne, i_cmplt, i_cmpge, i_cmpgt, i_cmple, i_acmpeq, i_acmpne, i_ifnull, i_ifnonnull, i_getI, i_getR, i_putI, i_putZ, i_putR, i_ald, i_ldL, i_ldR, i_ast, i_stL, i_stR, i_alen, i_new, i_newa, i_iret, i_zret, i_lret, i_aret, i_vret, i_raise, i_throw, i_recv, i_objinit, i_tsw3, lget, lset, lput1, lput2, lkil, ltrim, largs, isL, takev, dropv, nthv, pushO, catv, gd, true_and, and_true, Option.some.injEq, Prod.mk.injEq, exists_eq_left', if_true, if_false, reduceCtorEq, Bool.false_eq_true, lcmp_ge, lcmp_lt, lcmp_le, lcmp_gt, lcmp_eq, true_or, or_true, not_true_eq_false, not_false_eq_true, false_implies, true_implies, List.length_cons, List.length_nil, M1, e57]
          repeat (first | refine ⟨in_small (by omega) (by omega), ?_⟩ | (show (_ → _) ∧ (_ → _); first | refine ⟨by omega, fun _ => ?_⟩ | refine ⟨fun _ => ?_, by omega⟩) | refine ⟨by omega, ?_⟩ | refine ⟨⟨_, rfl, by assumption⟩, ?_⟩ | refine ⟨okT_I _, ?_⟩ | refine ⟨okT_S (by omega) (by omega), ?_⟩ | refine ⟨okT_B (by omega) (by omega), ?_⟩ | refine call0 (gd_of rfl) ?_)
          refine mlead_at (k := k) hM h (by omega) rfl ?_
          simp only [P_X16_powerOf, i_kil, i_icon, i_lcon, i_null, i_loadI, i_loadL, i_loadR, i_istore, i_lstore, i_astore, i_iinc, i_dup, i_dup2, i_pop, i_iadd, i_isub, i_imul, i_idiv, i_irem, i_ineg, i_iand, i_ior, i_ishl, i_ishr, i_lxor, i_ladd, i_lsub, i_lmul, i_ldiv, i_lrem, i_lneg, i_lshl, i_lcmp, i_i2l, i_l2i, i_i2b, i_i2s, i_ifeq, i_ifne, i_iflt, i_ifge, i_ifgt, i_ifle, i_cmpeq, i_cmpne, i_cmplt, i_cmpge, i_cmpgt, i_cmple, i_acmpeq, i_acmpne, i_ifnull, i_ifnonnull, i_getI, i_getR, i_putI, i_putZ, i_putR, i_ald, i_ldL, i_ldR, i_ast, i_stL, i_stR, i_alen, i_new, i_newa, i_iret, i_zret, i_lret, i_aret, i_vret, i_raise, i_throw, i_recv, i_objinit, i_tsw3, lget, lset, lput1, lput2, lkil, ltrim, largs, isL, takev, dropv, nthv, pushO, catv, gd, true_and, and_true, Option.some.injEq, Prod.mk.injEq, exists_eq_left', if_true, if_false, reduceCtorEq, Bool.false_eq_true, lcmp_ge, lcmp_lt, lcmp_le, lcmp_gt, lcmp_eq, true_or, or_true, not_true_eq_false, not_false_eq_true, false_implies, true_implies, List.length_cons, List.length_nil, t1]
          repeat (first | refine ⟨in_small (by omega) (by omega), ?_⟩ | (show (_ → _) ∧ (_ → _); first | refine ⟨by omega, fun _ => ?_⟩ | refine ⟨fun _ => ?_, by omega⟩) | refine ⟨by omega, ?_⟩ | refine ⟨⟨_, rfl, by assumption⟩, ?_⟩ | refine ⟨okT_I _, ?_⟩ | refine ⟨okT_S (by omega) (by omega), ?_⟩ | refine ⟨okT_B (by omega) (by omega), ?_⟩ | refine call0 (gd_of rfl) ?_)
          refine ⟨fun hne => ?_, fun heq => ?_⟩
          · repeat (first | refine ⟨in_small (by omega) (by omega), ?_⟩ | (show (_ → _) ∧ (_ → _); first | refine ⟨by omega, fun _ => ?_⟩ | refine ⟨fun _ => ?_, by omega⟩) | refine ⟨by omega, ?_⟩ | refine ⟨⟨_, rfl, by assumption⟩, ?_⟩ | refine ⟨okT_I _, ?_⟩ | refine ⟨okT_S (by omega) (by omega), ?_⟩ | refine ⟨okT_B (by omega) (by omega), ?_⟩ | refine call0 (gd_of rfl) ?_)
            refine ih2 (k + 1) (by omega) fun j hj => ?_
            by_cases w : j = k
            · rw [w]; exact fun q => hne (by rw [q])
            · exact h1 j (by omega)
          · refine K e ⟨fun q => by omega, fun q => ?_⟩
            have hc := tcode_inj (hlt k (by omega)) t2 heq
            exact absurd (by rw [hc]; exact txp_div ⟨l, hl⟩ ⟨e, by omega⟩) (q k (by omega))
      refine wp_in ?_
      simp only [P_X16_powerOf, i_kil, i_icon, i_lcon, i_null, i_loadI, i_loadL, i_loadR, i_istore, i_lstore, i_astore, i_iinc, i_dup, i_dup2, i_pop, i_iadd, i_isub, i_imul, i_idiv, i_irem, i_ineg, i_iand, i_ior, i_ishl, i_ishr, i_lxor, i_ladd, i_lsub, i_lmul, i_ldiv, i_lrem, i_lneg, i_lshl, i_lcmp, i_i2l, i_l2i, i_i2b, i_i2s, i_ifeq, i_ifne, i_iflt, i_ifge, i_ifgt, i_ifle, i_cmpeq, i_cmpne, i_cmplt, i_cmpge, i_cmpgt, i_cmple, i_acmpeq, i_acmpne, i_ifnull, i_ifnonnull, i_getI, i_getR, i_putI, i_putZ, i_putR, i_ald, i_ldL, i_ldR, i_ast, i_stL, i_stR, i_alen, i_new, i_newa, i_iret, i_zret, i_lret, i_aret, i_vret, i_raise, i_throw, i_recv, i_objinit, i_tsw3, lget, lset, lput1, lput2, lkil, ltrim, largs, isL, takev, dropv, nthv, pushO, catv, gd, true_and, and_true, Option.some.injEq, Prod.mk.injEq, exists_eq_left', if_true, if_false, reduceCtorEq, Bool.false_eq_true, lcmp_ge, lcmp_lt, lcmp_le, lcmp_gt, lcmp_eq, true_or, or_true, not_true_eq_false, not_false_eq_true, false_implies, true_implies, List.length_cons, List.length_nil]
      repeat (first | refine ⟨in_small (by omega) (by omega), ?_⟩ | (show (_ → _) ∧ (_ → _); first | refine ⟨by omega, fun _ => ?_⟩ | refine ⟨fun _ => ?_, by omega⟩) | refine ⟨by omega, ?_⟩ | refine ⟨⟨_, rfl, by assumption⟩, ?_⟩ | refine ⟨okT_I _, ?_⟩ | refine ⟨okT_S (by omega) (by omega), ?_⟩ | refine ⟨okT_B (by omega) (by omega), ?_⟩ | refine call0 (gd_of rfl) ?_)
      exact inner st.1 0 (by omega) fun j hj => by omega
  refine wp_in ?_
  simp only [P_X16_powerOf, i_kil, i_icon, i_lcon, i_null, i_loadI, i_loadL, i_loadR, i_istore, i_lstore, i_astore, i_iinc, i_dup, i_dup2, i_pop, i_iadd, i_isub, i_imul, i_idiv, i_irem, i_ineg, i_iand, i_ior, i_ishl, i_ishr, i_lxor, i_ladd, i_lsub, i_lmul, i_ldiv, i_lrem, i_lneg, i_lshl, i_lcmp, i_i2l, i_l2i, i_i2b, i_i2s, i_ifeq, i_ifne, i_iflt, i_ifge, i_ifgt, i_ifle, i_cmpeq, i_cmpne, i_cmplt, i_cmpge, i_cmpgt, i_cmple, i_acmpeq, i_acmpne, i_ifnull, i_ifnonnull, i_getI, i_getR, i_putI, i_putZ, i_putR, i_ald, i_ldL, i_ldR, i_ast, i_stL, i_stR, i_alen, i_new, i_newa, i_iret, i_zret, i_lret, i_aret, i_vret, i_raise, i_throw, i_recv, i_objinit, i_tsw3, lget, lset, lput1, lput2, lkil, ltrim, largs, isL, takev, dropv, nthv, pushO, catv, gd, true_and, and_true, Option.some.injEq, Prod.mk.injEq, exists_eq_left', if_true, if_false, reduceCtorEq, Bool.false_eq_true, lcmp_ge, lcmp_lt, lcmp_le, lcmp_gt, lcmp_eq, true_or, or_true, not_true_eq_false, not_false_eq_true, false_implies, true_implies, List.length_cons, List.length_nil]
  exact outer 5 0 rfl fun a ha => by omega
end ASK
