/-! the model's span asked: free terms counted, rows without letters, minimal rows -/
set_option maxRecDepth 100000
set_option linter.unusedVariables false
/-- what is counted, in a row -/
theorem isCnt.list {Q : Nat → Prop} : ∀ n r, isCnt Q n r → ∃ h g : Nat → Nat, (∀ i, i < r → h i < n ∧ Q (h i)) ∧ (∀ i j, i < j → j < r → h i < h j) ∧ (∀ z, z < n → Q z → g z < r ∧ h (g z) = z) := by
  intro n
  induction n with
  | zero =>
    intro r hr
    have : r = 0 := hr
    subst this
    exact ⟨fun _ => 0, fun _ => 0, fun i hi => by omega, fun i j _ hj => by omega, fun z hz => by omega⟩
  | succ n ih =>
    rintro r ⟨r0, h1, h2⟩
    obtain ⟨h, g, a1, a2, a3⟩ := ih r0 h1
    rcases h2 with ⟨q, rfl⟩ | ⟨q, rfl⟩
    · refine ⟨fun i => if i = r0 then n else h i, fun z => if z = n then r0 else g z, fun i hi => ?_, fun i j hij hj => ?_, fun z hz hq => ?_⟩
      · show (if i = r0 then n else h i) < n + 1 ∧ Q (if i = r0 then n else h i)
        by_cases w : i = r0
        · rw [if_pos w]; exact ⟨by omega, q⟩
        · rw [if_neg w]
          have := a1 i (by omega)
          exact ⟨by omega, this.2⟩
      · show (if i = r0 then n else h i) < (if j = r0 then n else h j)
        rw [if_neg (show ¬ i = r0 by omega)]
        by_cases w : j = r0
        · rw [if_pos w]; exact (a1 i (by omega)).1
        · rw [if_neg w]; exact a2 i j hij (by omega)
      · show (if z = n then r0 else g z) < r0 + 1 ∧ (if (if z = n then r0 else g z) = r0 then n else h (if z = n then r0 else g z)) = z
        by_cases w : z = n
        · rw [if_pos w, if_pos rfl]; exact ⟨by omega, w.symm⟩
        · rw [if_neg w]
          obtain ⟨b1, b2⟩ := a3 z (by omega) hq
          rw [if_neg (show ¬ g z = r0 by omega)]
          exact ⟨by omega, b2⟩
    · refine ⟨h, g, fun i hi => ?_, a2, fun z hz hq => ?_⟩
      · have := a1 i hi; exact ⟨by omega, this.2⟩
      · refine a3 z ?_ hq
        by_cases w : z = n
        · rw [w] at hq; exact absurd hq q
        · omega
theorem isCnt.le_of {Q Q' : Nat → Prop} {n m r r' : Nat} (h : isCnt Q n r) (h' : isCnt Q' m r') (f : Nat → Nat) (hf : ∀ t, t < n → Q t → f t < m ∧ Q' (f t)) (hi : ∀ t u, t < n → u < n → Q t → Q u → f t = f u → t = u) : r ≤ r' := by
  obtain ⟨a, -, a1, a2, -⟩ := h.list
  obtain ⟨b, g, b1, b2, b3⟩ := h'.list
  rcases Nat.lt_or_ge r' r with w | w
  · exfalso
    obtain ⟨i, j, hij, hj, he⟩ := pigeon r' r (fun i => g (f (a i))) w fun i hi => by
      have x := a1 i hi
      have y := hf _ x.1 x.2
      exact (b3 _ y.1 y.2).1
    have he' : g (f (a i)) = g (f (a j)) := he
    have xi := a1 i (by omega)
    have xj := a1 j hj
    have yi := hf _ xi.1 xi.2
    have yj := hf _ xj.1 xj.2
    have e1 := (b3 _ yi.1 yi.2).2
    have e2 := (b3 _ yj.1 yj.2).2
    rw [he', e2] at e1
    have := hi _ _ xi.1 xj.1 xi.2 xj.2 e1.symm
    have := a2 i j hij hj
    omega
  · exact w
theorem isCnt.ex {Q : Nat → Prop} : ∀ n, ∃ r, isCnt Q n r := by
  intro n
  induction n with
  | zero => exact ⟨0, rfl⟩
  | succ n ih =>
    obtain ⟨r, hr⟩ := ih
    by_cases w : Q n
    · exact ⟨r + 1, r, hr, .inl ⟨w, rfl⟩⟩
    · exact ⟨r, r, hr, .inr ⟨w, rfl⟩⟩
/-- a code of a free term -/
def cfree (st : spst) (σ : Nat → Nat) (z : Nat) : Prop := ∃ t, t < 455 ∧ tcode t = z ∧ spFree st σ t ∧ tx0 t ≤ 4 ∧ tx1 t ≤ 4 ∧ tx2 t ≤ 4
theorem pw_free {st : spst} {σ : Nat → Nat} {c g : Nat} (hO : spOK st) (hs : spSo c g st σ) (hn : ∀ l, l < 3 → ¬ spFree st σ (spPw l)) {t : Nat} (ht : t < 455) (hf : spFree st σ t) : tx0 t ≤ 4 ∧ tx1 t ≤ 4 ∧ tx2 t ≤ 4 := by
  have key : ∀ l, l < 3 → ∃ k, k < st.1 ∧ tdv (spLd st σ k) (spPw l) := fun l hl => Classical.byContradiction fun w => hn l hl fun k hk hd => w ⟨k, hk, hd⟩
  have fin : ∀ l : Nat, l < 3 → txl l t ≤ 4 := fun l hl => by
    obtain ⟨k, hk, hd⟩ := key l hl
    have h := hf k hk
    obtain ⟨b1, b2, b3⟩ := tn_tx (spPw_le hl)
    unfold tdv spPw at hd
    rw [b1, b2, b3] at hd
    unfold tdv at h
    have hl' : l = 0 ∨ l = 1 ∨ l = 2 := by omega
    rcases hl' with rfl | rfl | rfl
    · simp only [if_true, show ¬ ((0 : Nat) = 1) by decide, show ¬ ((0 : Nat) = 2) by decide, if_false] at hd
      show tx0 t ≤ 4
      omega
    · simp only [if_true, show ¬ ((1 : Nat) = 0) by decide, show ¬ ((1 : Nat) = 2) by decide, if_false] at hd
      show tx1 t ≤ 4
      omega
    · simp only [if_true, show ¬ ((2 : Nat) = 0) by decide, show ¬ ((2 : Nat) = 1) by decide, if_false] at hd
      show tx2 t ≤ 4
      omega
  exact ⟨fin 0 (by omega), fin 1 (by omega), fin 2 (by omega)⟩
theorem cfree_cnt {st : spst} {σ : Nat → Nat} {c g r : Nat} (hO : spOK st) (hs : spSo c g st σ) (hn : ∀ l, l < 3 → ¬ spFree st σ (spPw l)) (h : isCnt (cfree st σ) 4096 r) : isCnt (spFree st σ) 455 r := by
  obtain ⟨r', h'⟩ := isCnt.ex (Q := spFree st σ) 455
  have a : r' ≤ r := h'.le_of h (fun t => (tcode t).toNat) (fun t ht hq => by
    have l := tcode_lim ht
    have e : tcode t = ((tcode t).toNat : Nat) := by omega
    exact ⟨by show (tcode t).toNat < 4096; omega, t, ht, e, hq, pw_free hO hs hn ht hq⟩) fun t u ht hu _ _ e => by
      have l := tcode_lim ht
      have l' := tcode_lim hu
      have e' : (tcode t).toNat = (tcode u).toNat := e
      exact tcode_inj ht hu (by omega)
  have w : ∀ z, ∃ t, cfree st σ z → t < 455 ∧ tcode t = z ∧ spFree st σ t := fun z => by
    by_cases q : cfree st σ z
    · obtain ⟨t, t1, t2, t3, -⟩ := q
      exact ⟨t, fun _ => ⟨t1, t2, t3⟩⟩
    · exact ⟨0, fun x => absurd x q⟩
  obtain ⟨f, hf⟩ := Classical.skolem.mp w
  have b : r ≤ r' := h.le_of h' f (fun z _ hq => ⟨(hf z hq).1, (hf z hq).2.2⟩) fun z y _ _ hz hy e => by
    have e1 := (hf z hz).2.1
    have e2 := (hf y hy).2.1
    rw [e, e2] at e1
    omega
  rw [Nat.le_antisymm b a]; exact h'
section ASK
variable {D : Dat} {M c g d n : Nat} {tc : Nat → Nat} {st : spst} {σ : Nat → Nat}
set_option maxHeartbeats 2000000 in
theorem sp_X16_many2 {E : Ex} {B : Nat × Nat} {S : Stat} (hM : mtS S M) (h : msE D M c g d n tc st σ) (hn : ∀ l, l < 3 → ¬ spFree st σ (spPw l))
    (K : ∀ r : Nat, isCnt (spFree st σ) 455 r → E (.inl (some (.inl (r : Int)))) B S D) : Wp P_X16_many E 2 [some (aR M), some (aI 0), some (aI 0)] [] B S D := by
  have M1 := hM.1.2.2.1.1
  have e57 := h.rows
  have hk35 := h.2.1.1
  have hlt : ∀ k, k < st.1 → spLd st σ k < 455 := fun k hk => (spLd_lt h.2.1 h.2.2.2.1 hk).1
  have loop : ∀ (L z r : Nat), z + L = 4096 → isCnt (cfree st σ) z r → Wp P_X16_many E 2 [some (aR M), some (aI r), some (aI z)] [] B S D := by
    intro L
    induction L with
    | zero =>
      intro z r hz hr
      have : z = 4096 := by omega
      subst this
      refine wp_in ?_
      simp only [P_X16_many, i_kil, i_icon, i_lcon, i_null, i_loadI, i_loadL, i_loadR, i_istore, i_lstore, i_astore, i_iinc, i_dup, i_dup2, i_pop, i_iadd, i_isub, i_imul, i_idiv, i_irem, i_ineg, i_iand, i_ior, i_ishl, i_ishr, i_lxor, i_ladd, i_lsub, i_lmul, i_ldiv, i_lrem, i_lneg, i_lshl, i_lcmp, i_i2l, i_l2i, i_i2b, i_i2s, i_ifeq, i_ifne, i_iflt, i_ifge, i_ifgt, i_ifle, i_cmpeq, i_cmpne, i_cmplt, i_cmpge, i_cmpgt, i_cmple, i_acmpeq, i_acmpne, i_ifnull, i_ifnonnull, i_getI, i_getR, i_putI, i_putZ, i_putR, i_ald, i_ldL, i_ldR, i_ast, i_stL, i_stR, i_alen, i_new, i_newa, i_iret, i_zret, i_lret, i_aret, i_vret, i_raise, i_throw, i_recv, i_objinit, i_tsw3, lget, lset, lput1, lput2, lkil, ltrim, largs, isL, takev, dropv, nthv, pushO, catv, gd, true_and, and_true, Option.some.injEq, Prod.mk.injEq, exists_eq_left', if_true, if_false, reduceCtorEq, Bool.false_eq_true, lcmp_ge, lcmp_lt, lcmp_le, lcmp_gt, lcmp_eq, true_or, or_true, not_true_eq_false, not_false_eq_true, false_implies, true_implies, List.length_cons, List.length_nil]
      repeat (first | refine ⟨in_small (by omega) (by omega), ?_⟩ | (show (_ → _) ∧ (_ → _); first | refine ⟨by omega, fun _ => ?_⟩ | refine ⟨fun _ => ?_, by omega⟩) | refine ⟨by omega, ?_⟩ | refine ⟨⟨_, rfl, by assumption⟩, ?_⟩ | refine ⟨okT_I _, ?_⟩ | refine ⟨okT_S (by omega) (by omega), ?_⟩ | refine ⟨okT_B (by omega) (by omega), ?_⟩ | refine call0 (gd_of rfl) ?_)
      exact K r (cfree_cnt h.2.1 h.2.2.2.1 hn hr)
    | succ L ih =>
      intro z r hz hr
      have hrz := hr.le
      have next : ∀ r', ((cfree st σ z ∧ r' = r + 1) ∨ (¬ cfree st σ z ∧ r' = r)) → Wp P_X16_many E 7 [some (aR M), some (aI r'), some (aI z)] [] B S D := fun r' hr' => by
        refine wp_in ?_
        simp only [P_X16_many, i_kil, i_icon, i_lcon, i_null, i_loadI, i_loadL, i_loadR, i_istore, i_lstore, i_astore, i_iinc, i_dup, i_dup2, i_pop, i_iadd, i_isub, i_imul, i_idiv, i_irem, i_ineg, i_iand, i_ior, i_ishl, i_ishr, i_lxor, i_ladd, i_lsub, i_lmul, i_ldiv, i_lrem, i_lneg, i_lshl, i_lcmp, i_i2l, i_l2i, i_i2b, i_i2s, i_ifeq, i_ifne, i_iflt, i_ifge, i_ifgt, i_ifle, i_cmpeq, i_cmpne, i_cmplt, i_cmpge, i_cmpgt, i_cmple, i_acmpeq, i_acmpne, i_ifnull, i_ifnonnull, i_getI, i_getR, i_putI, i_putZ, i_putR, i_ald, i_ldL, i_ldR, i_ast, i_stL, i_stR, i_alen, i_new, i_newa, i_iret, i_zret, i_lret, i_aret, i_vret, i_raise, i_throw, i_recv, i_objinit, i_tsw3, lget, lset, lput1, lput2, lkil, ltrim, largs, isL, takev, dropv, nthv, pushO, catv, gd, true_and, and_true, Option.some.injEq, Prod.mk.injEq, exists_eq_left', if_true, if_false, reduceCtorEq, Bool.false_eq_true, lcmp_ge, lcmp_lt, lcmp_le, lcmp_gt, lcmp_eq, true_or, or_true, not_true_eq_false, not_false_eq_true, false_implies, true_implies, List.length_cons, List.length_nil]
        repeat (first | refine ⟨in_small (by omega) (by omega), ?_⟩ | (show (_ → _) ∧ (_ → _); first | refine ⟨by omega, fun _ => ?_⟩ | refine ⟨fun _ => ?_, by omega⟩) | refine ⟨by omega, ?_⟩ | refine ⟨⟨_, rfl, by assumption⟩, ?_⟩ | refine ⟨okT_I _, ?_⟩ | refine ⟨okT_S (by omega) (by omega), ?_⟩ | refine ⟨okT_B (by omega) (by omega), ?_⟩ | refine call0 (gd_of rfl) ?_)
        exact ih (z + 1) r' (by omega) ⟨r, hr, hr'⟩
      have big : (4 < (z : Int) % 16 ∨ 4 < (z : Int) / 16 % 16 ∨ 4 < (z : Int) / 256) → ¬ cfree st σ z := fun hb ⟨t, t1, t2, _, t4⟩ => by
        have hx := tx_le t1
        unfold tcode at t2
        omega
      refine wp_in ?_
      simp only [P_X16_many, i_kil, i_icon, i_lcon, i_null, i_loadI, i_loadL, i_loadR, i_istore, i_lstore, i_astore, i_iinc, i_dup, i_dup2, i_pop, i_iadd, i_isub, i_imul, i_idiv, i_irem, i_ineg, i_iand, i_ior, i_ishl, i_ishr, i_lxor, i_ladd, i_lsub, i_lmul, i_ldiv, i_lrem, i_lneg, i_lshl, i_lcmp, i_i2l, i_l2i, i_i2b, i_i2s, i_ifeq, i_ifne, i_iflt, i_ifge, i_ifgt, i_ifle, i_cmpeq, i_cmpne, i_cmplt, i_cmpge, i_cmpgt, i_cmple, i_acmpeq, i_acmpne, i_ifnull, i_ifnonnull, i_getI, i_getR, i_putI, i_putZ, i_putR, i_ald, i_ldL, i_ldR, i_ast, i_stL, i_stR, i_alen, i_new, i_newa, i_iret, i_zret, i_lret, i_aret, i_vret, i_raise, i_throw, i_recv, i_objinit, i_tsw3, lget, lset, lput1, lput2, lkil, ltrim, largs, isL, takev, dropv, nthv, pushO, catv, gd, true_and, and_true, Option.some.injEq, Prod.mk.injEq, exists_eq_left', if_true, if_false, reduceCtorEq, Bool.false_eq_true, lcmp_ge, lcmp_lt, lcmp_le, lcmp_gt, lcmp_eq, true_or, or_true, not_true_eq_false, not_false_eq_true, false_implies, true_implies, List.length_cons, List.length_nil]
      repeat (first | refine ⟨in_small (by omega) (by omega), ?_⟩ | (show (_ → _) ∧ (_ → _); first | refine ⟨by omega, fun _ => ?_⟩ | refine ⟨fun _ => ?_, by omega⟩) | refine ⟨by omega, ?_⟩ | refine ⟨⟨_, rfl, by assumption⟩, ?_⟩ | refine ⟨okT_I _, ?_⟩ | refine ⟨okT_S (by omega) (by omega), ?_⟩ | refine ⟨okT_B (by omega) (by omega), ?_⟩ | refine call0 (gd_of rfl) ?_)
      refine xexp_at (l := 0) (z := z) ⟨by omega, by omega⟩ (by omega) rfl ?_
      simp only [P_X16_many, i_kil, i_icon, i_lcon, i_null, i_loadI, i_loadL, i_loadR, i_istore, i_lstore, i_astore, i_iinc, i_dup, i_dup2, i_pop, i_iadd, i_isub, i_imul, i_idiv, i_irem, i_ineg, i_iand, i_ior, i_ishl, i_ishr, i_lxor, i_ladd, i_lsub, i_lmul, i_ldiv, i_lrem, i_lneg, i_lshl, i_lcmp, i_i2l, i_l2i, i_i2b, i_i2s, i_ifeq, i_ifne, i_iflt, i_ifge, i_ifgt, i_ifle, i_cmpeq, i_cmpne, i_cmplt, i_cmpge, i_cmpgt, i_cmple, i_acmpeq, i_acmpne, i_ifnull, i_ifnonnull, i_getI, i_getR, i_putI, i_putZ, i_putR, i_ald, i_ldL, i_ldR, i_ast, i_stL, i_stR, i_alen, i_new, i_newa, i_iret, i_zret, i_lret, i_aret, i_vret, i_raise, i_throw, i_recv, i_objinit, i_tsw3, lget, lset, lput1, lput2, lkil, ltrim, largs, isL, takev, dropv, nthv, pushO, catv, gd, true_and, and_true, Option.some.injEq, Prod.mk.injEq, exists_eq_left', if_true, if_false, reduceCtorEq, Bool.false_eq_true, lcmp_ge, lcmp_lt, lcmp_le, lcmp_gt, lcmp_eq, true_or, or_true, not_true_eq_false, not_false_eq_true, false_implies, true_implies, List.length_cons, List.length_nil]
      refine ⟨fun w => next r (.inr ⟨big (by omega), rfl⟩), fun w0 => ?_⟩
      repeat (first | refine ⟨in_small (by omega) (by omega), ?_⟩ | (show (_ → _) ∧ (_ → _); first | refine ⟨by omega, fun _ => ?_⟩ | refine ⟨fun _ => ?_, by omega⟩) | refine ⟨by omega, ?_⟩ | refine ⟨⟨_, rfl, by assumption⟩, ?_⟩ | refine ⟨okT_I _, ?_⟩ | refine ⟨okT_S (by omega) (by omega), ?_⟩ | refine ⟨okT_B (by omega) (by omega), ?_⟩ | refine call0 (gd_of rfl) ?_)
      refine xexp_at (l := 1) (z := z) ⟨by omega, by omega⟩ (by omega) rfl ?_
      simp only [P_X16_many, i_kil, i_icon, i_lcon, i_null, i_loadI, i_loadL, i_loadR, i_istore, i_lstore, i_astore, i_iinc, i_dup, i_dup2, i_pop, i_iadd, i_isub, i_imul, i_idiv, i_irem, i_ineg, i_iand, i_ior, i_ishl, i_ishr, i_lxor, i_ladd, i_lsub, i_lmul, i_ldiv, i_lrem, i_lneg, i_lshl, i_lcmp, i_i2l, i_l2i, i_i2b, i_i2s, i_ifeq, i_ifne, i_iflt, i_ifge, i_ifgt, i_ifle, i_cmpeq, i_cmpne, i_cmplt, i_cmpge, i_cmpgt, i_cmple, i_acmpeq, i_acmpne, i_ifnull, i_ifnonnull, i_getI, i_getR, i_putI, i_putZ, i_putR, i_ald, i_ldL, i_ldR, i_ast, i_stL, i_stR, i_alen, i_new, i_newa, i_iret, i_zret, i_lret, i_aret, i_vret, i_raise, i_throw, i_recv, i_objinit, i_tsw3, lget, lset, lput1, lput2, lkil, ltrim, largs, isL, takev, dropv, nthv, pushO, catv, gd, true_and, and_true, Option.some.injEq, Prod.mk.injEq, exists_eq_left', if_true, if_false, reduceCtorEq, Bool.false_eq_true, lcmp_ge, lcmp_lt, lcmp_le, lcmp_gt, lcmp_eq, true_or, or_true, not_true_eq_false, not_false_eq_true, false_implies, true_implies, List.length_cons, List.length_nil]
      refine ⟨fun w => next r (.inr ⟨big (by omega), rfl⟩), fun w1 => ?_⟩
      repeat (first | refine ⟨in_small (by omega) (by omega), ?_⟩ | (show (_ → _) ∧ (_ → _); first | refine ⟨by omega, fun _ => ?_⟩ | refine ⟨fun _ => ?_, by omega⟩) | refine ⟨by omega, ?_⟩ | refine ⟨⟨_, rfl, by assumption⟩, ?_⟩ | refine ⟨okT_I _, ?_⟩ | refine ⟨okT_S (by omega) (by omega), ?_⟩ | refine ⟨okT_B (by omega) (by omega), ?_⟩ | refine call0 (gd_of rfl) ?_)
      refine xexp_at (l := 2) (z := z) ⟨by omega, by omega⟩ (by omega) rfl ?_
      simp only [P_X16_many, i_kil, i_icon, i_lcon, i_null, i_loadI, i_loadL, i_loadR, i_istore, i_lstore, i_astore, i_iinc, i_dup, i_dup2, i_pop, i_iadd, i_isub, i_imul, i_idiv, i_irem, i_ineg, i_iand, i_ior, i_ishl, i_ishr, i_lxor, i_ladd, i_lsub, i_lmul, i_ldiv, i_lrem, i_lneg, i_lshl, i_lcmp, i_i2l, i_l2i, i_i2b, i_i2s, i_ifeq, i_ifne, i_iflt, i_ifge, i_ifgt, i_ifle, i_cmpeq, i_cmpne, i_cmplt, i_cmpge, i_cmpgt, i_cmple, i_acmpeq, i_acmpne, i_ifnull, i_ifnonnull, i_getI, i_getR, i_putI, i_putZ, i_putR, i_ald, i_ldL, i_ldR, i_ast, i_stL, i_stR, i_alen, i_new, i_newa, i_iret, i_zret, i_lret, i_aret, i_vret, i_raise, i_throw, i_recv, i_objinit, i_tsw3, lget, lset, lput1, lput2, lkil, ltrim, largs, isL, takev, dropv, nthv, pushO, catv, gd, true_and, and_true, Option.some.injEq, Prod.mk.injEq, exists_eq_left', if_true, if_false, reduceCtorEq, Bool.false_eq_true, lcmp_ge, lcmp_lt, lcmp_le, lcmp_gt, lcmp_eq, true_or, or_true, not_true_eq_false, not_false_eq_true, false_implies, true_implies, List.length_cons, List.length_nil]
      refine ⟨fun w2 => ?_, fun w => next r (.inr ⟨big (by omega), rfl⟩)⟩
      obtain ⟨t, t1, t2, t3⟩ := zdg_term (z := z) ⟨by omega, by omega⟩ (by unfold zdg; omega)
      have hx := tx_le t1
      have ht4 : tx0 t ≤ 4 ∧ tx1 t ≤ 4 ∧ tx2 t ≤ 4 := by
        unfold tcode at t2
        omega
      have hiff : cfree st σ z ↔ spFree st σ t := ⟨fun ⟨u, u1, u2, u3, _⟩ => by rw [tcode_inj t1 u1 (by rw [t2, u2])]; exact u3, fun q => ⟨t, t1, t2, q, ht4⟩⟩
      have five : ∀ v : Int, (v = 0 ∨ v = 1) → (v = 1 ↔ spFree st σ t) → Wp P_X16_many E 5 [some (aR M), some (aI r), some (aI z), some (aI v)] [] B S D := fun v v1 v2 => by
        refine wp_in ?_
        simp only [P_X16_many, i_kil, i_icon, i_lcon, i_null, i_loadI, i_loadL, i_loadR, i_istore, i_lstore, i_astore, i_iinc, i_dup, i_dup2, i_pop, i_iadd, i_isub, i_imul, i_idiv, i_irem, i_ineg, i_iand, i_ior, i_ishl, i_ishr, i_lxor, i_ladd, i_lsub, i_lmul, i_ldiv, i_lrem, i_lneg, i_lshl, i_lcmp, i_i2l, i_l2i, i_i2b, i_i2s, i_ifeq, i_ifne, i_iflt, i_ifge, i_ifgt, i_ifle, i_cmpeq, i_cmpne, i_cmplt, i_cmpge, i_cmpgt, i_cmple, i_acmpeq, i_acmpne, i_ifnull, i_ifnonnull, i_getI, i_getR, i_putI, i_putZ, i_putR, i_ald, i_ldL, i_ldR, i_ast, i_stL, i_stR, i_alen, i_new, i_newa, i_iret, i_zret, i_lret, i_aret, i_vret, i_raise, i_throw, i_recv, i_objinit, i_tsw3, lget, lset, lput1, lput2, lkil, ltrim, largs, isL, takev, dropv, nthv, pushO, catv, gd, true_and, and_true, Option.some.injEq, Prod.mk.injEq, exists_eq_left', if_true, if_false, reduceCtorEq, Bool.false_eq_true, lcmp_ge, lcmp_lt, lcmp_le, lcmp_gt, lcmp_eq, true_or, or_true, not_true_eq_false, not_false_eq_true, false_implies, true_implies, List.length_cons, List.length_nil]
        refine ⟨fun q => ?_, fun q => ?_⟩
        · refine wp_in ?_
          simp only [P_X16_many, i_kil, i_icon, i_lcon, i_null, i_loadI, i_loadL, i_loadR, i_istore, i_lstore, i_astore, i_iinc, i_dup, i_dup2, i_pop, i_iadd, i_isub, i_imul, i_idiv, i_irem, i_ineg, i_iand, i_ior, i_ishl, i_ishr, i_lxor, i_ladd, i_lsub, i_lmul, i_ldiv, i_lrem, i_lneg, i_lshl, i_lcmp, i_i2l, i_l2i, i_i2b, i_i2s, i_ifeq, i_ifne, i_iflt, i_ifge, i_ifgt, i_ifle, i_cmpeq, i_cmpne, i_cmplt, i_cmpge, i_cmpgt, i_cmple, i_acmpeq, i_acmpne, i_ifnull, i_ifnonnull, i_getI, i_getR, i_putI, i_putZ, i_putR, i_ald, i_ldL, i_ldR, i_ast, i_stL, i_stR, i_alen, i_new, i_newa, i_iret, i_zret, i_lret, i_aret, i_vret, i_raise, i_throw, i_recv, i_objinit, i_tsw3, lget, lset, lput1, lput2, lkil, ltrim, largs, isL, takev, dropv, nthv, pushO, catv, gd, true_and, and_true, Option.some.injEq, Prod.mk.injEq, exists_eq_left', if_true, if_false, reduceCtorEq, Bool.false_eq_true, lcmp_ge, lcmp_lt, lcmp_le, lcmp_gt, lcmp_eq, true_or, or_true, not_true_eq_false, not_false_eq_true, false_implies, true_implies, List.length_cons, List.length_nil]
          repeat (first | refine ⟨in_small (by omega) (by omega), ?_⟩ | (show (_ → _) ∧ (_ → _); first | refine ⟨by omega, fun _ => ?_⟩ | refine ⟨fun _ => ?_, by omega⟩) | refine ⟨by omega, ?_⟩ | refine ⟨⟨_, rfl, by assumption⟩, ?_⟩ | refine ⟨okT_I _, ?_⟩ | refine ⟨okT_S (by omega) (by omega), ?_⟩ | refine ⟨okT_B (by omega) (by omega), ?_⟩ | refine call0 (gd_of rfl) ?_)
          exact next r (.inr ⟨fun x => by have := v2.mpr (hiff.mp x); omega, rfl⟩)
        · refine wp_in ?_
          simp only [P_X16_many, i_kil, i_icon, i_lcon, i_null, i_loadI, i_loadL, i_loadR, i_istore, i_lstore, i_astore, i_iinc, i_dup, i_dup2, i_pop, i_iadd, i_isub, i_imul, i_idiv, i_irem, i_ineg, i_iand, i_ior, i_ishl, i_ishr, i_lxor, i_ladd, i_lsub, i_lmul, i_ldiv, i_lrem, i_lneg, i_lshl, i_lcmp, i_i2l, i_l2i, i_i2b, i_i2s, i_ifeq, i_ifne, i_iflt, i_ifge, i_ifgt, i_ifle, i_cmpeq, i_cmpne, i_cmplt, i_cmpge, i_cmpgt, i_cmple, i_acmpeq, i_acmpne, i_ifnull, i_ifnonnull, i_getI, i_getR, i_putI, i_putZ, i_putR, i_ald, i_ldL, i_ldR, i_ast, i_stL, i_stR, i_alen, i_new, i_newa, i_iret, i_zret, i_lret, i_aret, i_vret, i_raise, i_throw, i_recv, i_objinit, i_tsw3, lget, lset, lput1, lput2, lkil, ltrim, largs, isL, takev, dropv, nthv, pushO, catv, gd, true_and, and_true, Option.some.injEq, Prod.mk.injEq, exists_eq_left', if_true, if_false, reduceCtorEq, Bool.false_eq_true, lcmp_ge, lcmp_lt, lcmp_le, lcmp_gt, lcmp_eq, true_or, or_true, not_true_eq_false, not_false_eq_true, false_implies, true_implies, List.length_cons, List.length_nil]
          repeat (first | refine ⟨in_small (by omega) (by omega), ?_⟩ | (show (_ → _) ∧ (_ → _); first | refine ⟨by omega, fun _ => ?_⟩ | refine ⟨fun _ => ?_, by omega⟩) | refine ⟨by omega, ?_⟩ | refine ⟨⟨_, rfl, by assumption⟩, ?_⟩ | refine ⟨okT_I _, ?_⟩ | refine ⟨okT_S (by omega) (by omega), ?_⟩ | refine ⟨okT_B (by omega) (by omega), ?_⟩ | refine call0 (gd_of rfl) ?_)
          exact next (r + 1) (.inl ⟨hiff.mpr (v2.mp (by omega)), rfl⟩)
      have rows : ∀ (L2 k : Nat) (v : Int), k + L2 = st.1 → (v = 0 ∨ v = 1) → (v = 1 ↔ ∀ j, j < k → ¬ tdv (spLd st σ j) t) → Wp P_X16_many E 3 [some (aR M), some (aI r), some (aI z), some (aI v), some (aI k)] [] B S D := by
        intro L2
        induction L2 with
        | zero =>
          intro k v hk v1 v2
          have : k = st.1 := by omega
          subst this
          refine wp_in ?_
          simp only [P_X16_many, i_kil, i_icon, i_lcon, i_null, i_loadI, i_loadL, i_loadR, i_istore, i_lstore, i_astore, i_iinc, i_dup, i_dup2, i_pop, i_iadd, i_isub, i_imul, i_idiv, i_irem, i_ineg, i_iand, i_ior, i_ishl, i_ishr, i_lxor, i_ladd, i_lsub, i_lmul, i_ldiv, i_lrem, i_lneg, i_lshl, i_lcmp, i_i2l, i_l2i, i_i2b, i_i2s, i_ifeq, i_ifne, i_iflt, i_ifge, i_ifgt, i_ifle, i_cmpeq, i_cmpne, i_cmplt, i_cmpge, i_cmpgt, i_cmple, i_acmpeq, i_acmpne, i_ifnull, i_ifnonnull, i_getI, i_getR, i_putI, i_putZ, i_putR, i_ald, i_ldL, i_ldR, i_ast, i_stL, i_stR, i_alen, i_new, i_newa, i_iret, i_zret, i_lret, i_aret, i_vret, i_raise, i_throw, i_recv, i_objinit, i_tsw3, lget, lset, lput1, lput2, lkil, ltrim, largs, isL, takev, dropv, nthv, pushO, catv, gd, true_and, and_true, Option.some.injEq, Prod.mk.injEq, exists_eq_left', if_true, if_false, reduceCtorEq, Bool.false_eq_true, lcmp_ge, lcmp_lt, lcmp_le, lcmp_gt, lcmp_eq, true_or, or_true, not_true_eq_false, not_false_eq_true, false_implies, true_implies, List.length_cons, List.length_nil, M1, e57]
          repeat (first | refine ⟨in_small (by omega) (by omega), ?_⟩ | (show (_ → _) ∧ (_ → _); first | refine ⟨by omega, fun _ => ?_⟩ | refine ⟨fun _ => ?_, by omega⟩) | refine ⟨by omega, ?_⟩ | refine ⟨⟨_, rfl, by assumption⟩, ?_⟩ | refine ⟨okT_I _, ?_⟩ | refine ⟨okT_S (by omega) (by omega), ?_⟩ | refine ⟨okT_B (by omega) (by omega), ?_⟩ | refine call0 (gd_of rfl) ?_)
          exact five v v1 v2
        | succ L2 ih2 =>
          intro k v hk v1 v2
          have four : ∀ v' : Int, (v' = 0 ∨ v' = 1) → (v' = 1 ↔ ∀ j, j < k + 1 → ¬ tdv (spLd st σ j) t) → Wp P_X16_many E 4 [some (aR M), some (aI r), some (aI z), none, some (aI k)] [.inl v'] B S D := fun v' a1 a2 => by
            refine wp_in ?_
            simp only [P_X16_many, i_kil, i_icon, i_lcon, i_null, i_loadI, i_loadL, i_loadR, i_istore, i_lstore, i_astore, i_iinc, i_dup, i_dup2, i_pop, i_iadd, i_isub, i_imul, i_idiv, i_irem, i_ineg, i_iand, i_ior, i_ishl, i_ishr, i_lxor, i_ladd, i_lsub, i_lmul, i_ldiv, i_lrem, i_lneg, i_lshl, i_lcmp, i_i2l, i_l2i, i_i2b, i_i2s, i_ifeq, i_ifne, i_iflt, i_ifge, i_ifgt, i_ifle, i_cmpeq, i_cmpne, i_cmplt, i_cmpge, i_cmpgt, i_cmple, i_acmpeq, i_acmpne, i_ifnull, i_ifnonnull, i_getI, i_getR, i_putI, i_putZ, i_putR, i_ald, i_ldL, i_ldR, i_ast, i_stL, i_stR, i_alen, i_new, i_newa, i_iret, i_zret, i_lret, i_aret, i_vret, i_raise, i_throw, i_recv, i_objinit, i_tsw3, lget, lset, lput1, lput2, lkil, ltrim, largs, isL, takev, dropv, nthv, pushO, catv, gd, true_and, and_true, Option.some.injEq, Prod.mk.injEq, exists_eq_left', if_true, if_false, reduceCtorEq, Bool.false_eq_true, lcmp_ge, lcmp_lt, lcmp_le, lcmp_gt, lcmp_eq, true_or, or_true, not_true_eq_false, not_false_eq_true, false_implies, true_implies, List.length_cons, List.length_nil]
            repeat (first | refine ⟨in_small (by omega) (by omega), ?_⟩ | (show (_ → _) ∧ (_ → _); first | refine ⟨by omega, fun _ => ?_⟩ | refine ⟨fun _ => ?_, by omega⟩) | refine ⟨by omega, ?_⟩ | refine ⟨⟨_, rfl, by assumption⟩, ?_⟩ | refine ⟨okT_I _, ?_⟩ | refine ⟨okT_S (by omega) (by omega), ?_⟩ | refine ⟨okT_B (by omega) (by omega), ?_⟩ | refine call0 (gd_of rfl) ?_)
            exact ih2 (k + 1) v' (by omega) a1 a2
          refine wp_in ?_
          simp only [P_X16_many, i_kil, i_icon, i_lcon, i_null, i_loadI, i_loadL, i_loadR, i_istore, i_lstore, i_astore, i_iinc, i_dup, i_dup2, i_pop, i_iadd, i_isub, i_imul, i_idiv, i_irem, i_ineg, i_iand, i_ior, i_ishl, i_ishr, i_lxor, i_ladd, i_lsub, i_lmul, i_ldiv, i_lrem, i_lneg, i_lshl, i_lcmp, i_i2l, i_l2i, i_i2b, i_i2s, i_ifeq, i_ifne, i_iflt, i_ifge, i_ifgt, i_ifle, i_cmpeq, i_cmpne, i_cmplt, i_cmpge, i_cmpgt, i_cmple, i_acmpeq, i_acmpne, i_ifnull, i_ifnonnull, i_getI, i_getR, i_putI, i_putZ, i_putR, i_ald, i_ldL, i_ldR, i_ast, i_stL, i_stR, i_alen, i_new, i_newa, i_iret, i_zret, i_lret, i_aret, i_vret, i_raise, i_throw, i_recv, i_objinit, i_tsw3, lget, lset, lput1, lput2, lkil, ltrim, largs, isL, takev, dropv, nthv, pushO, catv, gd, true_and, and_true, Option.some.injEq, Prod.mk.injEq, exists_eq_left', if_true, if_false, reduceCtorEq, Bool.false_eq_true, lcmp_ge, lcmp_lt, lcmp_le, lcmp_gt, lcmp_eq, true_or, or_true, not_true_eq_false, not_false_eq_true, false_implies, true_implies, List.length_cons, List.length_nil, M1, e57]
          repeat (first | refine ⟨in_small (by omega) (by omega), ?_⟩ | (show (_ → _) ∧ (_ → _); first | refine ⟨by omega, fun _ => ?_⟩ | refine ⟨fun _ => ?_, by omega⟩) | refine ⟨by omega, ?_⟩ | refine ⟨⟨_, rfl, by assumption⟩, ?_⟩ | refine ⟨okT_I _, ?_⟩ | refine ⟨okT_S (by omega) (by omega), ?_⟩ | refine ⟨okT_B (by omega) (by omega), ?_⟩ | refine call0 (gd_of rfl) ?_)
          refine ⟨fun q => ?_, fun q => ?_⟩
          · subst q
            refine five 0 (.inl rfl) ⟨fun x => by omega, fun x => ?_⟩
            exact v2.mpr fun j hj => x j (by omega)
          · repeat (first | refine ⟨in_small (by omega) (by omega), ?_⟩ | (show (_ → _) ∧ (_ → _); first | refine ⟨by omega, fun _ => ?_⟩ | refine ⟨fun _ => ?_, by omega⟩) | refine ⟨by omega, ?_⟩ | refine ⟨⟨_, rfl, by assumption⟩, ?_⟩ | refine ⟨okT_I _, ?_⟩ | refine ⟨okT_S (by omega) (by omega), ?_⟩ | refine ⟨okT_B (by omega) (by omega), ?_⟩ | refine call0 (gd_of rfl) ?_)
            refine mlead_at (k := k) hM h (by omega) rfl ?_
            simp only [P_X16_many, i_kil, i_icon, i_lcon, i_null, i_loadI, i_loadL, i_loadR, i_istore, i_lstore, i_astore, i_iinc, i_dup, i_dup2, i_pop, i_iadd, i_isub, i_imul, i_idiv, i_irem, i_ineg, i_iand, i_ior, i_ishl, i_ishr, i_lxor, i_ladd, i_lsub, i_lmul, i_ldiv, i_lrem, i_lneg, i_lshl, i_lcmp, i_i2l, i_l2i, i_i2b, i_i2s, i_ifeq, i_ifne, i_iflt, i_ifge, i_ifgt, i_ifle, i_cmpeq, i_cmpne, i_cmplt, i_cmpge, i_cmpgt, i_cmple, i_acmpeq, i_acmpne, i_ifnull, i_ifnonnull, i_getI, i_getR, i_putI, i_putZ, i_putR, i_ald, i_ldL, i_ldR, i_ast, i_stL, i_stR, i_alen, i_new, i_newa, i_iret, i_zret, i_lret, i_aret, i_vret, i_raise, i_throw, i_recv, i_objinit, i_tsw3, lget, lset, lput1, lput2, lkil, ltrim, largs, isL, takev, dropv, nthv, pushO, catv, gd, true_and, and_true, Option.some.injEq, Prod.mk.injEq, exists_eq_left', if_true, if_false, reduceCtorEq, Bool.false_eq_true, lcmp_ge, lcmp_lt, lcmp_le, lcmp_gt, lcmp_eq, true_or, or_true, not_true_eq_false, not_false_eq_true, false_implies, true_implies, List.length_cons, List.length_nil]
            repeat (first | refine ⟨in_small (by omega) (by omega), ?_⟩ | (show (_ → _) ∧ (_ → _); first | refine ⟨by omega, fun _ => ?_⟩ | refine ⟨fun _ => ?_, by omega⟩) | refine ⟨by omega, ?_⟩ | refine ⟨⟨_, rfl, by assumption⟩, ?_⟩ | refine ⟨okT_I _, ?_⟩ | refine ⟨okT_S (by omega) (by omega), ?_⟩ | refine ⟨okT_B (by omega) (by omega), ?_⟩ | refine call0 (gd_of rfl) ?_)
            refine mdivides_at (u := t) (hlt k (by omega)) t1 rfl t2.symm fun v3 b1 b2 => ?_
            have hv1 : v = 1 := by omega
            simp only [P_X16_many, i_kil, i_icon, i_lcon, i_null, i_loadI, i_loadL, i_loadR, i_istore, i_lstore, i_astore, i_iinc, i_dup, i_dup2, i_pop, i_iadd, i_isub, i_imul, i_idiv, i_irem, i_ineg, i_iand, i_ior, i_ishl, i_ishr, i_lxor, i_ladd, i_lsub, i_lmul, i_ldiv, i_lrem, i_lneg, i_lshl, i_lcmp, i_i2l, i_l2i, i_i2b, i_i2s, i_ifeq, i_ifne, i_iflt, i_ifge, i_ifgt, i_ifle, i_cmpeq, i_cmpne, i_cmplt, i_cmpge, i_cmpgt, i_cmple, i_acmpeq, i_acmpne, i_ifnull, i_ifnonnull, i_getI, i_getR, i_putI, i_putZ, i_putR, i_ald, i_ldL, i_ldR, i_ast, i_stL, i_stR, i_alen, i_new, i_newa, i_iret, i_zret, i_lret, i_aret, i_vret, i_raise, i_throw, i_recv, i_objinit, i_tsw3, lget, lset, lput1, lput2, lkil, ltrim, largs, isL, takev, dropv, nthv, pushO, catv, gd, true_and, and_true, Option.some.injEq, Prod.mk.injEq, exists_eq_left', if_true, if_false, reduceCtorEq, Bool.false_eq_true, lcmp_ge, lcmp_lt, lcmp_le, lcmp_gt, lcmp_eq, true_or, or_true, not_true_eq_false, not_false_eq_true, false_implies, true_implies, List.length_cons, List.length_nil]
            refine ⟨fun y => ?_, fun y => ?_⟩
            · refine four 0 (.inl rfl) ⟨fun x => by omega, fun x => ?_⟩
              exact absurd (b2.mp y) (x k (by omega))
            · refine four 1 (.inr rfl) ⟨fun _ j hj => ?_, fun _ => rfl⟩
              by_cases w : j = k
              · rw [w]; exact fun q => (b2.mpr q) y
              · exact v2.mp hv1 j (by omega)
      repeat (first | refine ⟨in_small (by omega) (by omega), ?_⟩ | (show (_ → _) ∧ (_ → _); first | refine ⟨by omega, fun _ => ?_⟩ | refine ⟨fun _ => ?_, by omega⟩) | refine ⟨by omega, ?_⟩ | refine ⟨⟨_, rfl, by assumption⟩, ?_⟩ | refine ⟨okT_I _, ?_⟩ | refine ⟨okT_S (by omega) (by omega), ?_⟩ | refine ⟨okT_B (by omega) (by omega), ?_⟩ | refine call0 (gd_of rfl) ?_)
      exact rows st.1 0 1 (by omega) (.inr rfl) ⟨fun _ j hj => by omega, fun _ => rfl⟩
  exact loop 4096 0 0 rfl rfl
end ASK
