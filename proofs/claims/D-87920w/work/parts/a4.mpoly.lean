/-! the model's polynomials: lead, degree, isPlain, isLike -/
set_option maxRecDepth 100000
set_option linter.unusedVariables false
theorem sp_X18_lead {E : Ex} {B : Nat × Nat} {S : Stat} {D : Dat} {p c g n : Nat} {e : Nat → Nat} {y z : Int} {φ : Nat → Rat} (hp : mpS S p) (hD : mpD D p φ n e) (ho : ordOK c g) (hy : y = (c : Int) - 9) (hz : z = g ∨ c ≠ 12) (hn : 0 < n)
    (K : ∀ k : Nat, k < n → isLead c g φ (e k) → E (.inl (some (.inl (k : Int)))) B S D) : Wp P_X18_lead E 0 [some (aR p), some (aI y), some (aI z)] [] B S D := by
  obtain ⟨p1, p2, p3, p4, p5, p6, p7⟩ := hp
  obtain ⟨h1, h2, h3, h4, h5, h6⟩ := hD
  have hinj : ∀ i j, i < n → j < n → e i = e j → i = j := fun i j hi hj q => by
    rcases Nat.lt_trichotomy i j with w | w | w
    · have := h4 i j w hj; omega
    · exact w
    · have := h4 j i w hi; omega
  have loop : ∀ (L k b : Nat), k + L = n → b < k → (∀ i, i < k → i ≠ b → 0 < rankI c g (e b) (e i)) → Wp P_X18_lead E 1 [some (aR p), some (aI y), some (aI z), some (aI b), some (aI k)] [] B S D := by
    intro L
    induction L with
    | zero =>
      intro k b hk hb hr
      have : k = n := by omega
      subst this
      refine wp_in ?_
      simp only [P_X18_lead, i_kil, i_icon, i_lcon, i_null, i_loadI, i_loadL, i_loadR, i_istore, i_lstore, i_astore, i_iinc, i_dup, i_dup2, i_pop, i_iadd, i_isub, i_imul, i_idiv, i_irem, i_ineg, i_iand, i_ior, i_ishl, i_ishr, i_lxor, i_ladd, i_lsub, i_lmul, i_ldiv, i_lrem, i_lneg, i_lshl, i_lcmp, i_i2l, i_l2i, i_i2b, i_i2s, i_ifeq, i_ifne, i_iflt, i_ifge, i_ifgt, i_ifle, i_cmpeq, i_cmpne, i_cmplt, i_cmpge, i_cmpgt, i_cmple, i_acmpeq, i_acmpne, i_ifnull, i_ifnonnull, i_getI, i_getR, i_putI, i_putZ, i_putR, i_ald, i_ldL, i_ldR, i_ast, i_stL, i_stR, i_alen, i_new, i_newa, i_iret, i_zret, i_lret, i_aret, i_vret, i_raise, i_throw, i_recv, i_objinit, i_tsw3, lget, lset, lput1, lput2, lkil, ltrim, largs, isL, takev, dropv, nthv, pushO, catv, gd, true_and, and_true, Option.some.injEq, Prod.mk.injEq, exists_eq_left', if_true, if_false, reduceCtorEq, Bool.false_eq_true, lcmp_ge, lcmp_lt, lcmp_le, lcmp_gt, lcmp_eq, true_or, or_true, not_true_eq_false, not_false_eq_true, false_implies, true_implies, List.length_cons, List.length_nil, p1, h2]
      repeat (first | refine ⟨in_small (by omega) (by omega), ?_⟩ | (show (_ → _) ∧ (_ → _); first | refine ⟨by omega, fun _ => ?_⟩ | refine ⟨fun _ => ?_, by omega⟩) | refine ⟨by omega, ?_⟩ | refine ⟨⟨_, rfl, by assumption⟩, ?_⟩ | refine ⟨okT_I _, ?_⟩ | refine call0 (gd_of rfl) ?_)
      refine K b hb ⟨(h3 b hb).1, (h3 b hb).2.2.2, fun u hu hu0 hne => ?_⟩
      rcases Classical.em (∃ i, i < k ∧ e i = u) with ⟨i, q1, q2⟩ | q
      · rw [← q2]; exact hr i q1 fun w => hne (by rw [← q2, w])
      · exact absurd (h5 u hu fun j hj w => q ⟨j, hj, w⟩) hu0
    | succ L ih =>
      intro k b hk hb hr
      obtain ⟨a1, a2, -, -⟩ := h3 k (by omega)
      obtain ⟨b1, b2, -, -⟩ := h3 b (by omega)
      have next : ∀ b' : Nat, b' < k + 1 → (∀ i, i < k + 1 → i ≠ b' → 0 < rankI c g (e b') (e i)) → Wp P_X18_lead E 2 [some (aR p), some (aI y), some (aI z), none, some (aI k)] [aI (b' : Nat)] B S D := fun b' hb' hr' => by
        refine wp_in ?_
        simp only [P_X18_lead, i_kil, i_icon, i_lcon, i_null, i_loadI, i_loadL, i_loadR, i_istore, i_lstore, i_astore, i_iinc, i_dup, i_dup2, i_pop, i_iadd, i_isub, i_imul, i_idiv, i_irem, i_ineg, i_iand, i_ior, i_ishl, i_ishr, i_lxor, i_ladd, i_lsub, i_lmul, i_ldiv, i_lrem, i_lneg, i_lshl, i_lcmp, i_i2l, i_l2i, i_i2b, i_i2s, i_ifeq, i_ifne, i_iflt, i_ifge, i_ifgt, i_ifle, i_cmpeq, i_cmpne, i_cmplt, i_cmpge, i_cmpgt, i_cmple, i_acmpeq, i_acmpne, i_ifnull, i_ifnonnull, i_getI, i_getR, i_putI, i_putZ, i_putR, i_ald, i_ldL, i_ldR, i_ast, i_stL, i_stR, i_alen, i_new, i_newa, i_iret, i_zret, i_lret, i_aret, i_vret, i_raise, i_throw, i_recv, i_objinit, i_tsw3, lget, lset, lput1, lput2, lkil, ltrim, largs, isL, takev, dropv, nthv, pushO, catv, gd, true_and, and_true, Option.some.injEq, Prod.mk.injEq, exists_eq_left', if_true, if_false, reduceCtorEq, Bool.false_eq_true, lcmp_ge, lcmp_lt, lcmp_le, lcmp_gt, lcmp_eq, true_or, or_true, not_true_eq_false, not_false_eq_true, false_implies, true_implies, List.length_cons, List.length_nil]
        repeat (first | refine ⟨in_small (by omega) (by omega), ?_⟩ | (show (_ → _) ∧ (_ → _); first | refine ⟨by omega, fun _ => ?_⟩ | refine ⟨fun _ => ?_, by omega⟩) | refine ⟨by omega, ?_⟩ | refine ⟨⟨_, rfl, by assumption⟩, ?_⟩ | refine ⟨okT_I _, ?_⟩ | refine call0 (gd_of rfl) ?_)
        exact ih (k + 1) b' (by omega) hb' hr'
      refine wp_in ?_
      simp only [P_X18_lead, i_kil, i_icon, i_lcon, i_null, i_loadI, i_loadL, i_loadR, i_istore, i_lstore, i_astore, i_iinc, i_dup, i_dup2, i_pop, i_iadd, i_isub, i_imul, i_idiv, i_irem, i_ineg, i_iand, i_ior, i_ishl, i_ishr, i_lxor, i_ladd, i_lsub, i_lmul, i_ldiv, i_lrem, i_lneg, i_lshl, i_lcmp, i_i2l, i_l2i, i_i2b, i_i2s, i_ifeq, i_ifne, i_iflt, i_ifge, i_ifgt, i_ifle, i_cmpeq, i_cmpne, i_cmplt, i_cmpge, i_cmpgt, i_cmple, i_acmpeq, i_acmpne, i_ifnull, i_ifnonnull, i_getI, i_getR, i_putI, i_putZ, i_putR, i_ald, i_ldL, i_ldR, i_ast, i_stL, i_stR, i_alen, i_new, i_newa, i_iret, i_zret, i_lret, i_aret, i_vret, i_raise, i_throw, i_recv, i_objinit, i_tsw3, lget, lset, lput1, lput2, lkil, ltrim, largs, isL, takev, dropv, nthv, pushO, catv, gd, true_and, and_true, Option.some.injEq, Prod.mk.injEq, exists_eq_left', if_true, if_false, reduceCtorEq, Bool.false_eq_true, lcmp_ge, lcmp_lt, lcmp_le, lcmp_gt, lcmp_eq, true_or, or_true, not_true_eq_false, not_false_eq_true, false_implies, true_implies, List.length_cons, List.length_nil, p1, p2, p3, h2]
      repeat (first | refine ⟨in_small (by omega) (by omega), ?_⟩ | (show (_ → _) ∧ (_ → _); first | refine ⟨by omega, fun _ => ?_⟩ | refine ⟨fun _ => ?_, by omega⟩) | refine ⟨by omega, ?_⟩ | refine ⟨⟨_, rfl, by assumption⟩, ?_⟩ | refine ⟨okT_I _, ?_⟩ | refine call0 (gd_of rfl) ?_)
      refine compare_at ho a1 b1 a2 b2 hy hz fun v v1 v2 => ?_
      simp only [P_X18_lead, i_kil, i_icon, i_lcon, i_null, i_loadI, i_loadL, i_loadR, i_istore, i_lstore, i_astore, i_iinc, i_dup, i_dup2, i_pop, i_iadd, i_isub, i_imul, i_idiv, i_irem, i_ineg, i_iand, i_ior, i_ishl, i_ishr, i_lxor, i_ladd, i_lsub, i_lmul, i_ldiv, i_lrem, i_lneg, i_lshl, i_lcmp, i_i2l, i_l2i, i_i2b, i_i2s, i_ifeq, i_ifne, i_iflt, i_ifge, i_ifgt, i_ifle, i_cmpeq, i_cmpne, i_cmplt, i_cmpge, i_cmpgt, i_cmple, i_acmpeq, i_acmpne, i_ifnull, i_ifnonnull, i_getI, i_getR, i_putI, i_putZ, i_putR, i_ald, i_ldL, i_ldR, i_ast, i_stL, i_stR, i_alen, i_new, i_newa, i_iret, i_zret, i_lret, i_aret, i_vret, i_raise, i_throw, i_recv, i_objinit, i_tsw3, lget, lset, lput1, lput2, lkil, ltrim, largs, isL, takev, dropv, nthv, pushO, catv, gd, true_and, and_true, Option.some.injEq, Prod.mk.injEq, exists_eq_left', if_true, if_false, reduceCtorEq, Bool.false_eq_true, lcmp_ge, lcmp_lt, lcmp_le, lcmp_gt, lcmp_eq, true_or, or_true, not_true_eq_false, not_false_eq_true, false_implies, true_implies, List.length_cons, List.length_nil]
      have hr2 := rank_ne ho a1 b1 (fun w => by have := hinj k b (by omega) (by omega) w; omega)
      have ha := rank_anti ho (e k) (e b)
      refine ⟨fun w => next b (by omega) fun i hi hne => ?_, fun w => next k (by omega) fun i hi hne => ?_⟩
      · by_cases x : i = k
        · subst x; omega
        · exact hr i (by omega) hne
      · have r1 := v1.mp w
        by_cases x : i = b
        · subst x; exact r1
        · exact rank_trans ho r1 (hr i (by omega) x)
  refine wp_in ?_
  simp only [P_X18_lead, i_kil, i_icon, i_lcon, i_null, i_loadI, i_loadL, i_loadR, i_istore, i_lstore, i_astore, i_iinc, i_dup, i_dup2, i_pop, i_iadd, i_isub, i_imul, i_idiv, i_irem, i_ineg, i_iand, i_ior, i_ishl, i_ishr, i_lxor, i_ladd, i_lsub, i_lmul, i_ldiv, i_lrem, i_lneg, i_lshl, i_lcmp, i_i2l, i_l2i, i_i2b, i_i2s, i_ifeq, i_ifne, i_iflt, i_ifge, i_ifgt, i_ifle, i_cmpeq, i_cmpne, i_cmplt, i_cmpge, i_cmpgt, i_cmple, i_acmpeq, i_acmpne, i_ifnull, i_ifnonnull, i_getI, i_getR, i_putI, i_putZ, i_putR, i_ald, i_ldL, i_ldR, i_ast, i_stL, i_stR, i_alen, i_new, i_newa, i_iret, i_zret, i_lret, i_aret, i_vret, i_raise, i_throw, i_recv, i_objinit, i_tsw3, lget, lset, lput1, lput2, lkil, ltrim, largs, isL, takev, dropv, nthv, pushO, catv, gd, true_and, and_true, Option.some.injEq, Prod.mk.injEq, exists_eq_left', if_true, if_false, reduceCtorEq, Bool.false_eq_true, lcmp_ge, lcmp_lt, lcmp_le, lcmp_gt, lcmp_eq, true_or, or_true, not_true_eq_false, not_false_eq_true, false_implies, true_implies, List.length_cons, List.length_nil]
  exact loop (n - 1) 1 0 (by omega) (by omega) fun i hi hne => by omega
/-- the degree of a polynomial that isn't 0 -/
def isDeg (φ : Nat → Rat) (d : Int) : Prop := (∃ t, t < 455 ∧ φ t ≠ 0 ∧ d = tdg t) ∧ ∀ t, t < 455 → φ t ≠ 0 → (tdg t : Int) ≤ d
theorem isDeg.uniq {φ : Nat → Rat} {d d' : Int} (h : isDeg φ d) (h' : isDeg φ d') : d = d' := by
  obtain ⟨⟨t, h1, h2, rfl⟩, h3⟩ := h
  obtain ⟨⟨u, g1, g2, rfl⟩, g3⟩ := h'
  have := h3 u g1 g2
  have := g3 t h1 h2
  omega
theorem degI_law {φ : Nat → Rat} : ∀ n, (degI φ n = -7 ∧ ∀ t, t < n → φ t = 0) ∨ ((∃ t, t < n ∧ φ t ≠ 0 ∧ degI φ n = tdg t) ∧ ∀ t, t < n → φ t ≠ 0 → (tdg t : Int) ≤ degI φ n) := by
  intro n
  induction n with
  | zero => exact .inl ⟨rfl, fun t ht => by omega⟩
  | succ n ih =>
    have e : ((tx0 n : Int) + tx1 n + tx2 n) = (tdg n : Nat) := by unfold tdg; omega
    simp only [degI]
    rw [e]
    rcases Classical.em (φ n = 0) with z | z
    · rw [if_pos z]
      rcases ih with ⟨h1, h2⟩ | ⟨⟨t, h1, h2, h3⟩, h4⟩
      · exact .inl ⟨h1, fun t ht => by
          by_cases q : t = n
          · rw [q]; exact z
          · exact h2 t (by omega)⟩
      · refine .inr ⟨⟨t, by omega, h2, h3⟩, fun u hu hu0 => ?_⟩
        by_cases q : u = n
        · rw [q] at hu0; exact absurd z hu0
        · exact h4 u (by omega) hu0
    · rw [if_neg z]
      right
      rcases ih with ⟨h1, h2⟩ | ⟨⟨t, h1, h2, h3⟩, h4⟩
      · rw [h1, if_pos (by omega)]
        refine ⟨⟨n, by omega, z, rfl⟩, fun u hu hu0 => ?_⟩
        by_cases q : u = n
        · rw [q]; exact Int.le_refl _
        · exact absurd (h2 u (by omega)) hu0
      · split
        · rename_i w
          refine ⟨⟨n, by omega, z, rfl⟩, fun u hu hu0 => ?_⟩
          by_cases q : u = n
          · rw [q]; exact Int.le_refl _
          · have := h4 u (by omega) hu0; omega
        · rename_i w
          refine ⟨⟨t, by omega, h2, h3⟩, fun u hu hu0 => ?_⟩
          by_cases q : u = n
          · rw [q]; omega
          · exact h4 u (by omega) hu0
theorem degI_is {φ : Nat → Rat} (h : ∃ t, t < 455 ∧ φ t ≠ 0) : isDeg φ (degI φ 455) := by
  rcases degI_law (φ := φ) 455 with ⟨h1, h2⟩ | h2
  · obtain ⟨t, ht, h0⟩ := h; exact absurd (h2 t ht) h0
  · exact h2
theorem degI_none {φ : Nat → Rat} (h : ∀ t, t < 455 → φ t = 0) : degI φ 455 = -7 := by
  rcases degI_law (φ := φ) 455 with ⟨h1, h2⟩ | ⟨⟨t, h1, h2, h3⟩, h4⟩
  · exact h1
  · exact absurd (h t h1) h2
theorem degreeOf_at {E : Ex} {B : Nat × Nat} {S : Stat} {D : Dat} {t : Nat} {x : Int} (ht : t < 455) (hx : x = tcode t) (k : E (.inl (some (.inl (tdg t : Nat)))) B S D) : Wp P_X16_degreeOf E 0 [some (aI x)] [] B S D := by
  subst hx
  have e : ((tx0 t : Int) + tx1 t + tx2 t) = (tdg t : Nat) := by unfold tdg; omega
  refine sp_X16_degreeOf ht ?_
  rw [e]; exact k
theorem sp_X18_degree {E : Ex} {B : Nat × Nat} {S : Stat} {D : Dat} {p n : Nat} {e : Nat → Nat} {φ : Nat → Rat} (hp : mpS S p) (hD : mpD D p φ n e)
    (K : ∀ d : Int, (n = 0 → d = -1) → (0 < n → d = degI φ 455) → E (.inl (some (.inl d))) B S D) : Wp P_X18_degree E 0 [some (aR p)] [] B S D := by
  obtain ⟨p1, p2, p3, p4, p5, p6, p7⟩ := hp
  obtain ⟨h1, h2, h3, h4, h5, h6⟩ := hD
  have loop : ∀ (L k : Nat) (d : Int), k + L = n → ((k = 0 ∧ d = -1) ∨ ((∃ j, j < k ∧ d = tdg (e j)) ∧ ∀ j, j < k → (tdg (e j) : Int) ≤ d)) → Wp P_X18_degree E 1 [some (aR p), some (aI d), some (aI k)] [] B S D := by
    intro L
    induction L with
    | zero =>
      intro k d hk hd
      have : k = n := by omega
      subst this
      refine wp_in ?_
      simp only [P_X18_degree, i_kil, i_icon, i_lcon, i_null, i_loadI, i_loadL, i_loadR, i_istore, i_lstore, i_astore, i_iinc, i_dup, i_dup2, i_pop, i_iadd, i_isub, i_imul, i_idiv, i_irem, i_ineg, i_iand, i_ior, i_ishl, i_ishr, i_lxor, i_ladd, i_lsub, i_lmul, i_ldiv, i_lrem, i_lneg, i_lshl, i_lcmp, i_i2l, i_l2i, i_i2b, i_i2s, i_ifeq, i_ifne, i_iflt, i_ifge, i_ifgt, i_ifle, i_cmpeq, i_cmpne, i_cmplt, i_cmpge, i_cmpgt, i_cmple, i_acmpeq, i_acmpne, i_ifnull, i_ifnonnull, i_getI, i_getR, i_putI, i_putZ, i_putR, i_ald, i_ldL, i_ldR, i_ast, i_stL, i_stR, i_alen, i_new, i_newa, i_iret, i_zret, i_lret, i_aret, i_vret, i_raise, i_throw, i_recv, i_objinit, i_tsw3, lget, lset, lput1, lput2, lkil, ltrim, largs, isL, takev, dropv, nthv, pushO, catv, gd, true_and, and_true, Option.some.injEq, Prod.mk.injEq, exists_eq_left', if_true, if_false, reduceCtorEq, Bool.false_eq_true, lcmp_ge, lcmp_lt, lcmp_le, lcmp_gt, lcmp_eq, true_or, or_true, not_true_eq_false, not_false_eq_true, false_implies, true_implies, List.length_cons, List.length_nil, p1, h2]
      repeat (first | refine ⟨in_small (by omega) (by omega), ?_⟩ | (show (_ → _) ∧ (_ → _); first | refine ⟨by omega, fun _ => ?_⟩ | refine ⟨fun _ => ?_, by omega⟩) | refine ⟨by omega, ?_⟩ | refine ⟨⟨_, rfl, by assumption⟩, ?_⟩ | refine ⟨okT_I _, ?_⟩ | refine call0 (gd_of rfl) ?_)
      refine K d (fun q => ?_) fun q => ?_
      · rcases hd with ⟨_, hd⟩ | ⟨⟨j, hj, _⟩, _⟩
        · exact hd
        · omega
      · rcases hd with ⟨hd, _⟩ | ⟨⟨j, hj, hd⟩, hm⟩
        · omega
        · have hI : isDeg φ d := by
            refine ⟨⟨e j, (h3 j hj).1, (h3 j hj).2.2.2, hd⟩, fun u hu hu0 => ?_⟩
            rcases Classical.em (∃ i, i < k ∧ e i = u) with ⟨i, q1, q2⟩ | q
            · rw [← q2]; exact hm i q1
            · exact absurd (h5 u hu fun j hj w => q ⟨j, hj, w⟩) hu0
          exact hI.uniq (degI_is ⟨e j, (h3 j hj).1, (h3 j hj).2.2.2⟩)
    | succ L ih =>
      intro k d hk hd
      obtain ⟨a1, a2, -, -⟩ := h3 k (by omega)
      refine wp_in ?_
      simp only [P_X18_degree, i_kil, i_icon, i_lcon, i_null, i_loadI, i_loadL, i_loadR, i_istore, i_lstore, i_astore, i_iinc, i_dup, i_dup2, i_pop, i_iadd, i_isub, i_imul, i_idiv, i_irem, i_ineg, i_iand, i_ior, i_ishl, i_ishr, i_lxor, i_ladd, i_lsub, i_lmul, i_ldiv, i_lrem, i_lneg, i_lshl, i_lcmp, i_i2l, i_l2i, i_i2b, i_i2s, i_ifeq, i_ifne, i_iflt, i_ifge, i_ifgt, i_ifle, i_cmpeq, i_cmpne, i_cmplt, i_cmpge, i_cmpgt, i_cmple, i_acmpeq, i_acmpne, i_ifnull, i_ifnonnull, i_getI, i_getR, i_putI, i_putZ, i_putR, i_ald, i_ldL, i_ldR, i_ast, i_stL, i_stR, i_alen, i_new, i_newa, i_iret, i_zret, i_lret, i_aret, i_vret, i_raise, i_throw, i_recv, i_objinit, i_tsw3, lget, lset, lput1, lput2, lkil, ltrim, largs, isL, takev, dropv, nthv, pushO, catv, gd, true_and, and_true, Option.some.injEq, Prod.mk.injEq, exists_eq_left', if_true, if_false, reduceCtorEq, Bool.false_eq_true, lcmp_ge, lcmp_lt, lcmp_le, lcmp_gt, lcmp_eq, true_or, or_true, not_true_eq_false, not_false_eq_true, false_implies, true_implies, List.length_cons, List.length_nil, p1, p2, p3, h2]
      repeat (first | refine ⟨in_small (by omega) (by omega), ?_⟩ | (show (_ → _) ∧ (_ → _); first | refine ⟨by omega, fun _ => ?_⟩ | refine ⟨fun _ => ?_, by omega⟩) | refine ⟨by omega, ?_⟩ | refine ⟨⟨_, rfl, by assumption⟩, ?_⟩ | refine ⟨okT_I _, ?_⟩ | refine call0 (gd_of rfl) ?_)
      refine degreeOf_at a1 a2 ?_
      simp only [P_X18_degree, i_kil, i_icon, i_lcon, i_null, i_loadI, i_loadL, i_loadR, i_istore, i_lstore, i_astore, i_iinc, i_dup, i_dup2, i_pop, i_iadd, i_isub, i_imul, i_idiv, i_irem, i_ineg, i_iand, i_ior, i_ishl, i_ishr, i_lxor, i_ladd, i_lsub, i_lmul, i_ldiv, i_lrem, i_lneg, i_lshl, i_lcmp, i_i2l, i_l2i, i_i2b, i_i2s, i_ifeq, i_ifne, i_iflt, i_ifge, i_ifgt, i_ifle, i_cmpeq, i_cmpne, i_cmplt, i_cmpge, i_cmpgt, i_cmple, i_acmpeq, i_acmpne, i_ifnull, i_ifnonnull, i_getI, i_getR, i_putI, i_putZ, i_putR, i_ald, i_ldL, i_ldR, i_ast, i_stL, i_stR, i_alen, i_new, i_newa, i_iret, i_zret, i_lret, i_aret, i_vret, i_raise, i_throw, i_recv, i_objinit, i_tsw3, lget, lset, lput1, lput2, lkil, ltrim, largs, isL, takev, dropv, nthv, pushO, catv, gd, true_and, and_true, Option.some.injEq, Prod.mk.injEq, exists_eq_left', if_true, if_false, reduceCtorEq, Bool.false_eq_true, lcmp_ge, lcmp_lt, lcmp_le, lcmp_gt, lcmp_eq, true_or, or_true, not_true_eq_false, not_false_eq_true, false_implies, true_implies, List.length_cons, List.length_nil]
      repeat (first | refine ⟨in_small (by omega) (by omega), ?_⟩ | (show (_ → _) ∧ (_ → _); first | refine ⟨by omega, fun _ => ?_⟩ | refine ⟨fun _ => ?_, by omega⟩) | refine ⟨by omega, ?_⟩ | refine ⟨⟨_, rfl, by assumption⟩, ?_⟩ | refine ⟨okT_I _, ?_⟩ | refine call0 (gd_of rfl) ?_)
      refine sp_J9_max ?_
      simp only [P_X18_degree, i_kil, i_icon, i_lcon, i_null, i_loadI, i_loadL, i_loadR, i_istore, i_lstore, i_astore, i_iinc, i_dup, i_dup2, i_pop, i_iadd, i_isub, i_imul, i_idiv, i_irem, i_ineg, i_iand, i_ior, i_ishl, i_ishr, i_lxor, i_ladd, i_lsub, i_lmul, i_ldiv, i_lrem, i_lneg, i_lshl, i_lcmp, i_i2l, i_l2i, i_i2b, i_i2s, i_ifeq, i_ifne, i_iflt, i_ifge, i_ifgt, i_ifle, i_cmpeq, i_cmpne, i_cmplt, i_cmpge, i_cmpgt, i_cmple, i_acmpeq, i_acmpne, i_ifnull, i_ifnonnull, i_getI, i_getR, i_putI, i_putZ, i_putR, i_ald, i_ldL, i_ldR, i_ast, i_stL, i_stR, i_alen, i_new, i_newa, i_iret, i_zret, i_lret, i_aret, i_vret, i_raise, i_throw, i_recv, i_objinit, i_tsw3, lget, lset, lput1, lput2, lkil, ltrim, largs, isL, takev, dropv, nthv, pushO, catv, gd, true_and, and_true, Option.some.injEq, Prod.mk.injEq, exists_eq_left', if_true, if_false, reduceCtorEq, Bool.false_eq_true, lcmp_ge, lcmp_lt, lcmp_le, lcmp_gt, lcmp_eq, true_or, or_true, not_true_eq_false, not_false_eq_true, false_implies, true_implies, List.length_cons, List.length_nil]
      repeat (first | refine ⟨in_small (by omega) (by omega), ?_⟩ | (show (_ → _) ∧ (_ → _); first | refine ⟨by omega, fun _ => ?_⟩ | refine ⟨fun _ => ?_, by omega⟩) | refine ⟨by omega, ?_⟩ | refine ⟨⟨_, rfl, by assumption⟩, ?_⟩ | refine ⟨okT_I _, ?_⟩ | refine call0 (gd_of rfl) ?_)
      refine ih (k + 1) _ (by omega) (.inr ?_)
      rcases hd with ⟨h0, hd⟩ | ⟨⟨j, hj, hd⟩, hm⟩
      · subst h0
        rw [hd, if_pos (by omega)]
        exact ⟨⟨0, by omega, rfl⟩, fun j hj => by have : j = 0 := by omega
                                                  subst this; exact Int.le_refl _⟩
      · split
        · exact ⟨⟨k, by omega, rfl⟩, fun j hj => by
            by_cases q : j = k
            · rw [q]; exact Int.le_refl _
            · have := hm j (by omega); omega⟩
        · exact ⟨⟨j, by omega, hd⟩, fun i hi => by
            by_cases q : i = k
            · rw [q]; omega
            · exact hm i (by omega)⟩
  refine wp_in ?_
  simp only [P_X18_degree, i_kil, i_icon, i_lcon, i_null, i_loadI, i_loadL, i_loadR, i_istore, i_lstore, i_astore, i_iinc, i_dup, i_dup2, i_pop, i_iadd, i_isub, i_imul, i_idiv, i_irem, i_ineg, i_iand, i_ior, i_ishl, i_ishr, i_lxor, i_ladd, i_lsub, i_lmul, i_ldiv, i_lrem, i_lneg, i_lshl, i_lcmp, i_i2l, i_l2i, i_i2b, i_i2s, i_ifeq, i_ifne, i_iflt, i_ifge, i_ifgt, i_ifle, i_cmpeq, i_cmpne, i_cmplt, i_cmpge, i_cmpgt, i_cmple, i_acmpeq, i_acmpne, i_ifnull, i_ifnonnull, i_getI, i_getR, i_putI, i_putZ, i_putR, i_ald, i_ldL, i_ldR, i_ast, i_stL, i_stR, i_alen, i_new, i_newa, i_iret, i_zret, i_lret, i_aret, i_vret, i_raise, i_throw, i_recv, i_objinit, i_tsw3, lget, lset, lput1, lput2, lkil, ltrim, largs, isL, takev, dropv, nthv, pushO, catv, gd, true_and, and_true, Option.some.injEq, Prod.mk.injEq, exists_eq_left', if_true, if_false, reduceCtorEq, Bool.false_eq_true, lcmp_ge, lcmp_lt, lcmp_le, lcmp_gt, lcmp_eq, true_or, or_true, not_true_eq_false, not_false_eq_true, false_implies, true_implies, List.length_cons, List.length_nil]
  exact loop n 0 (-1) (by omega) (.inl ⟨rfl, rfl⟩)
theorem enum_uniq {e e' : Nat → Nat} {n : Nat} (h1 : ∀ j k, j < k → k < n → e k < e j) (h2 : ∀ j k, j < k → k < n → e' k < e' j) (a : ∀ j, j < n → ∃ i, i < n ∧ e' i = e j) (b : ∀ j, j < n → ∃ i, i < n ∧ e i = e' j) : ∀ j, j < n → e j = e' j := by
  intro j
  induction j using Nat.strongRecOn with
  | ind j ih =>
    intro hj
    obtain ⟨i, i1, i2⟩ := a j hj
    obtain ⟨l, l1, l2⟩ := b j hj
    have p1 : e j ≤ e' j := by
      rcases Nat.lt_or_ge i j with q | q
      · have := ih i q i1
        have := h1 i j q hj
        omega
      · rcases Nat.lt_or_ge j i with w | w
        · have := h2 j i w i1; omega
        · have : i = j := by omega
          subst this; omega
    have p2 : e' j ≤ e j := by
      rcases Nat.lt_or_ge l j with q | q
      · have := ih l q l1
        have := h2 l j q hj
        omega
      · rcases Nat.lt_or_ge j l with w | w
        · have := h1 j l w l1; omega
        · have : l = j := by omega
          subst this; omega
    omega
theorem mpD.same {D D' : Dat} {p p' n n' : Nat} {φ : Nat → Rat} {e e' : Nat → Nat} (h : mpD D p φ n e) (h' : mpD D' p' φ n' e') : n = n' ∧ ∀ j, j < n → e j = e' j := by
  have en : n = n' := by rw [h.cnt, h'.cnt]
  subst en
  refine ⟨rfl, enum_uniq h.2.2.2.1 h'.2.2.2.1 (fun j hj => ?_) fun j hj => ?_⟩
  · refine Classical.byContradiction fun q => (h.2.2.1 j hj).2.2.2 (h'.2.2.2.2.1 _ (h.2.2.1 j hj).1 fun k hk w => q ⟨k, hk, w⟩)
  · refine Classical.byContradiction fun q => (h'.2.2.1 j hj).2.2.2 (h.2.2.2.2.1 _ (h'.2.2.1 j hj).1 fun k hk w => q ⟨k, hk, w⟩)
theorem isOne_at {E : Ex} {B : Nat × Nat} {S : Stat} {D : Dat} {w r : Nat} {z : Int} (hw : wS 17 S w r) (hz : wD 2 1 D w z) (hr : 1 ≤ r) (hr2 : r < 1000) (k : ∀ v : Int, (v = 0 ∨ v = 1) → (v = 0 ↔ z ≠ 1) → E (.inl (some (.inl v))) B S D) : Wp P_X17_isOne E 0 [some (aR w)] [] B S D := by
  refine sp_X17_isOne hw hz hr hr2 (k _ (by split <;> omega) ?_)
  split
  · rename_i h; exact ⟨fun q => absurd q (by decide), fun q => absurd h q⟩
  · rename_i h; exact ⟨fun _ => h, fun _ => rfl⟩
/-- all numbers whole, up to a size -/
def isPln (φ : Nat → Rat) (m : Int) : Prop := ∀ t, t < 455 → (φ t).den = 1 ∧ ((φ t).num.natAbs : Int) ≤ m
set_option maxHeartbeats 1000000 in
theorem sp_X18_isPlain {E : Ex} {B : Nat × Nat} {S : Stat} {D : Dat} {p : Nat} {φ : Nat → Rat} {m : Int} (hp : mpS S p) (hD : mpP D p φ) (hm : 0 ≤ m ∧ m < 1000000000)
    (K : ∀ v : Int, (v = 0 ∨ v = 1) → (v = 1 ↔ isPln φ m) → E (.inl (some (.inl v))) B S D) : Wp P_X18_isPlain E 0 [some (aR p), some (aI m)] [] B S D := by
  obtain ⟨p1, p2, p3, p4, p5, p6, p7⟩ := hp
  obtain ⟨n, e, h1, h2, h3, h4, h5, h6⟩ := hD
  have p51 := p5.1
  have p71 := p7.1
  have no : ∀ k, k < n → ¬ ((φ (e k)).den = 1 ∧ ((φ (e k)).num.natAbs : Int) ≤ m) → Wp P_X18_isPlain E 2 [] [] B S D := fun k hk hno => by
    refine wp_in ?_
    simp only [P_X18_isPlain, i_kil, i_icon, i_lcon, i_null, i_loadI, i_loadL, i_loadR, i_istore, i_lstore, i_astore, i_iinc, i_dup, i_dup2, i_pop, i_iadd, i_isub, i_imul, i_idiv, i_irem, i_ineg, i_iand, i_ior, i_ishl, i_ishr, i_lxor, i_ladd, i_lsub, i_lmul, i_ldiv, i_lrem, i_lneg, i_lshl, i_lcmp, i_i2l, i_l2i, i_i2b, i_i2s, i_ifeq, i_ifne, i_iflt, i_ifge, i_ifgt, i_ifle, i_cmpeq, i_cmpne, i_cmplt, i_cmpge, i_cmpgt, i_cmple, i_acmpeq, i_acmpne, i_ifnull, i_ifnonnull, i_getI, i_getR, i_putI, i_putZ, i_putR, i_ald, i_ldL, i_ldR, i_ast, i_stL, i_stR, i_alen, i_new, i_newa, i_iret, i_zret, i_lret, i_aret, i_vret, i_raise, i_throw, i_recv, i_objinit, i_tsw3, lget, lset, lput1, lput2, lkil, ltrim, largs, isL, takev, dropv, nthv, pushO, catv, gd, true_and, and_true, Option.some.injEq, Prod.mk.injEq, exists_eq_left', if_true, if_false, reduceCtorEq, Bool.false_eq_true, lcmp_ge, lcmp_lt, lcmp_le, lcmp_gt, lcmp_eq, true_or, or_true, not_true_eq_false, not_false_eq_true, false_implies, true_implies, List.length_cons, List.length_nil]
    repeat (first | refine ⟨in_small (by omega) (by omega), ?_⟩ | (show (_ → _) ∧ (_ → _); first | refine ⟨by omega, fun _ => ?_⟩ | refine ⟨fun _ => ?_, by omega⟩) | refine ⟨by omega, ?_⟩ | refine ⟨⟨_, rfl, by assumption⟩, ?_⟩ | refine ⟨okT_I _, ?_⟩ | refine call0 (gd_of rfl) ?_)
    exact K 0 (.inl rfl) ⟨fun q => by omega, fun q => absurd (q _ (h3 k hk).1) hno⟩
  have loop : ∀ (L k : Nat), k + L = n → (∀ j, j < k → (φ (e j)).den = 1 ∧ ((φ (e j)).num.natAbs : Int) ≤ m) → Wp P_X18_isPlain E 1 [some (aR p), some (aI m), some (aI k)] [] B S D := by
    intro L
    induction L with
    | zero =>
      intro k hk hj
      have : k = n := by omega
      subst this
      refine wp_in ?_
      simp only [P_X18_isPlain, i_kil, i_icon, i_lcon, i_null, i_loadI, i_loadL, i_loadR, i_istore, i_lstore, i_astore, i_iinc, i_dup, i_dup2, i_pop, i_iadd, i_isub, i_imul, i_idiv, i_irem, i_ineg, i_iand, i_ior, i_ishl, i_ishr, i_lxor, i_ladd, i_lsub, i_lmul, i_ldiv, i_lrem, i_lneg, i_lshl, i_lcmp, i_i2l, i_l2i, i_i2b, i_i2s, i_ifeq, i_ifne, i_iflt, i_ifge, i_ifgt, i_ifle, i_cmpeq, i_cmpne, i_cmplt, i_cmpge, i_cmpgt, i_cmple, i_acmpeq, i_acmpne, i_ifnull, i_ifnonnull, i_getI, i_getR, i_putI, i_putZ, i_putR, i_ald, i_ldL, i_ldR, i_ast, i_stL, i_stR, i_alen, i_new, i_newa, i_iret, i_zret, i_lret, i_aret, i_vret, i_raise, i_throw, i_recv, i_objinit, i_tsw3, lget, lset, lput1, lput2, lkil, ltrim, largs, isL, takev, dropv, nthv, pushO, catv, gd, true_and, and_true, Option.some.injEq, Prod.mk.injEq, exists_eq_left', if_true, if_false, reduceCtorEq, Bool.false_eq_true, lcmp_ge, lcmp_lt, lcmp_le, lcmp_gt, lcmp_eq, true_or, or_true, not_true_eq_false, not_false_eq_true, false_implies, true_implies, List.length_cons, List.length_nil, p1, h2]
      repeat (first | refine ⟨in_small (by omega) (by omega), ?_⟩ | (show (_ → _) ∧ (_ → _); first | refine ⟨by omega, fun _ => ?_⟩ | refine ⟨fun _ => ?_, by omega⟩) | refine ⟨by omega, ?_⟩ | refine ⟨⟨_, rfl, by assumption⟩, ?_⟩ | refine ⟨okT_I _, ?_⟩ | refine call0 (gd_of rfl) ?_)
      refine K 1 (.inr rfl) ⟨fun _ t ht => ?_, fun _ => rfl⟩
      rcases Classical.em (∃ i, i < k ∧ e i = t) with ⟨i, q1, q2⟩ | q
      · rw [← q2]; exact hj i q1
      · rw [h5 t ht fun j hj w => q ⟨j, hj, w⟩]
        exact ⟨rfl, hm.1⟩
    | succ L ih =>
      intro k hk hj
      obtain ⟨a1, a2, a3, a4⟩ := h3 k (by omega)
      obtain ⟨m1, m2⟩ := p5.2 k (by omega)
      obtain ⟨m3, m4⟩ := p7.2 k (by omega)
      have w1 := m4.1
      obtain ⟨w2, w3, w4⟩ := id m2
      have hf := h6.1 (e k) a1
      refine wp_in ?_
      simp only [P_X18_isPlain, i_kil, i_icon, i_lcon, i_null, i_loadI, i_loadL, i_loadR, i_istore, i_lstore, i_astore, i_iinc, i_dup, i_dup2, i_pop, i_iadd, i_isub, i_imul, i_idiv, i_irem, i_ineg, i_iand, i_ior, i_ishl, i_ishr, i_lxor, i_ladd, i_lsub, i_lmul, i_ldiv, i_lrem, i_lneg, i_lshl, i_lcmp, i_i2l, i_l2i, i_i2b, i_i2s, i_ifeq, i_ifne, i_iflt, i_ifge, i_ifgt, i_ifle, i_cmpeq, i_cmpne, i_cmplt, i_cmpge, i_cmpgt, i_cmple, i_acmpeq, i_acmpne, i_ifnull, i_ifnonnull, i_getI, i_getR, i_putI, i_putZ, i_putR, i_ald, i_ldL, i_ldR, i_ast, i_stL, i_stR, i_alen, i_new, i_newa, i_iret, i_zret, i_lret, i_aret, i_vret, i_raise, i_throw, i_recv, i_objinit, i_tsw3, lget, lset, lput1, lput2, lkil, ltrim, largs, isL, takev, dropv, nthv, pushO, catv, gd, true_and, and_true, Option.some.injEq, Prod.mk.injEq, exists_eq_left', if_true, if_false, reduceCtorEq, Bool.false_eq_true, lcmp_ge, lcmp_lt, lcmp_le, lcmp_gt, lcmp_eq, true_or, or_true, not_true_eq_false, not_false_eq_true, false_implies, true_implies, List.length_cons, List.length_nil, p1, p6, p71, m3, h2]
      repeat (first | refine ⟨in_small (by omega) (by omega), ?_⟩ | (show (_ → _) ∧ (_ → _); first | refine ⟨by omega, fun _ => ?_⟩ | refine ⟨fun _ => ?_, by omega⟩) | refine ⟨by omega, ?_⟩ | refine ⟨⟨_, rfl, by assumption⟩, ?_⟩ | refine ⟨okT_I _, ?_⟩ | refine call0 (gd_of rfl) ?_)
      refine isOne_at m4 a3.2 (by omega) (by omega) fun v v1 v2 => ?_
      obtain ⟨N, hN, z1, z2, z3, z4⟩ := a3.1.nat hf.n
      simp only [P_X18_isPlain, i_kil, i_icon, i_lcon, i_null, i_loadI, i_loadL, i_loadR, i_istore, i_lstore, i_astore, i_iinc, i_dup, i_dup2, i_pop, i_iadd, i_isub, i_imul, i_idiv, i_irem, i_ineg, i_iand, i_ior, i_ishl, i_ishr, i_lxor, i_ladd, i_lsub, i_lmul, i_ldiv, i_lrem, i_lneg, i_lshl, i_lcmp, i_i2l, i_l2i, i_i2b, i_i2s, i_ifeq, i_ifne, i_iflt, i_ifge, i_ifgt, i_ifle, i_cmpeq, i_cmpne, i_cmplt, i_cmpge, i_cmpgt, i_cmple, i_acmpeq, i_acmpne, i_ifnull, i_ifnonnull, i_getI, i_getR, i_putI, i_putZ, i_putR, i_ald, i_ldL, i_ldR, i_ast, i_stL, i_stR, i_alen, i_new, i_newa, i_iret, i_zret, i_lret, i_aret, i_vret, i_raise, i_throw, i_recv, i_objinit, i_tsw3, lget, lset, lput1, lput2, lkil, ltrim, largs, isL, takev, dropv, nthv, pushO, catv, gd, true_and, and_true, Option.some.injEq, Prod.mk.injEq, exists_eq_left', if_true, if_false, reduceCtorEq, Bool.false_eq_true, lcmp_ge, lcmp_lt, lcmp_le, lcmp_gt, lcmp_eq, true_or, or_true, not_true_eq_false, not_false_eq_true, false_implies, true_implies, List.length_cons, List.length_nil, p1, p4, p51, m1, w2, z1]
      refine ⟨fun q => no k (by omega) fun w => v2.mp q (by rw [w.1]; rfl), fun q => ?_⟩
      have hd1 : (φ (e k)).den = 1 := by
        have : ((φ (e k)).den : Int) = 1 := Classical.byContradiction fun w => q (v2.mpr w)
        omega
      have hn0 : 0 < N := by
        rcases Nat.eq_zero_or_pos N with w | w
        · subst w
          simp only [dv] at z4
          exact absurd (Rat.num_eq_zero.mp (by omega)) a4
        · exact w
      repeat (first | refine ⟨in_small (by omega) (by omega), ?_⟩ | (show (_ → _) ∧ (_ → _); first | refine ⟨by omega, fun _ => ?_⟩ | refine ⟨fun _ => ?_, by omega⟩) | refine ⟨by omega, ?_⟩ | refine ⟨⟨_, rfl, by assumption⟩, ?_⟩ | refine ⟨okT_I _, ?_⟩ | refine call0 (gd_of rfl) ?_)
      refine ⟨fun w => no k (by omega) fun x => ?_, fun w => ?_⟩
      · -- more than one digit is more than 999999999
        have hge := pw_mono (n := 1) (m := N - 1) (by omega)
        obtain ⟨N', rfl⟩ : ∃ N', N = N' + 1 := ⟨N - 1, by omega⟩
        have := dv_ge z2.1 z2.top
        rw [Nat.add_sub_cancel] at hge
        omega
      · have hN1 : N = 1 := by omega
        subst hN1
        have e1 : dv (D (p + 3 + 2 * k + 1)) 1 = D (p + 3 + 2 * k + 1) 0 := by simp [dv]
        rw [e1] at z4
        simp only [P_X18_isPlain, i_kil, i_icon, i_lcon, i_null, i_loadI, i_loadL, i_loadR, i_istore, i_lstore, i_astore, i_iinc, i_dup, i_dup2, i_pop, i_iadd, i_isub, i_imul, i_idiv, i_irem, i_ineg, i_iand, i_ior, i_ishl, i_ishr, i_lxor, i_ladd, i_lsub, i_lmul, i_ldiv, i_lrem, i_lneg, i_lshl, i_lcmp, i_i2l, i_l2i, i_i2b, i_i2s, i_ifeq, i_ifne, i_iflt, i_ifge, i_ifgt, i_ifle, i_cmpeq, i_cmpne, i_cmplt, i_cmpge, i_cmpgt, i_cmple, i_acmpeq, i_acmpne, i_ifnull, i_ifnonnull, i_getI, i_getR, i_putI, i_putZ, i_putR, i_ald, i_ldL, i_ldR, i_ast, i_stL, i_stR, i_alen, i_new, i_newa, i_iret, i_zret, i_lret, i_aret, i_vret, i_raise, i_throw, i_recv, i_objinit, i_tsw3, lget, lset, lput1, lput2, lkil, ltrim, largs, isL, takev, dropv, nthv, pushO, catv, gd, true_and, and_true, Option.some.injEq, Prod.mk.injEq, exists_eq_left', if_true, if_false, reduceCtorEq, Bool.false_eq_true, lcmp_ge, lcmp_lt, lcmp_le, lcmp_gt, lcmp_eq, true_or, or_true, not_true_eq_false, not_false_eq_true, false_implies, true_implies, List.length_cons, List.length_nil, p1, p4, p51, m1, w2, w3, w4]
        repeat (first | refine ⟨in_small (by omega) (by omega), ?_⟩ | (show (_ → _) ∧ (_ → _); first | refine ⟨by omega, fun _ => ?_⟩ | refine ⟨fun _ => ?_, by omega⟩) | refine ⟨by omega, ?_⟩ | refine ⟨⟨_, rfl, by assumption⟩, ?_⟩ | refine ⟨okT_I _, ?_⟩ | refine call0 (gd_of rfl) ?_)
        refine ⟨fun x => ?_, fun x => no k (by omega) fun y => by omega⟩
        repeat (first | refine ⟨in_small (by omega) (by omega), ?_⟩ | (show (_ → _) ∧ (_ → _); first | refine ⟨by omega, fun _ => ?_⟩ | refine ⟨fun _ => ?_, by omega⟩) | refine ⟨by omega, ?_⟩ | refine ⟨⟨_, rfl, by assumption⟩, ?_⟩ | refine ⟨okT_I _, ?_⟩ | refine call0 (gd_of rfl) ?_)
        refine ih (k + 1) (by omega) fun j hj' => ?_
        by_cases y : j = k
        · rw [y]; exact ⟨hd1, by omega⟩
        · exact hj j (by omega)
  refine wp_in ?_
  simp only [P_X18_isPlain, i_kil, i_icon, i_lcon, i_null, i_loadI, i_loadL, i_loadR, i_istore, i_lstore, i_astore, i_iinc, i_dup, i_dup2, i_pop, i_iadd, i_isub, i_imul, i_idiv, i_irem, i_ineg, i_iand, i_ior, i_ishl, i_ishr, i_lxor, i_ladd, i_lsub, i_lmul, i_ldiv, i_lrem, i_lneg, i_lshl, i_lcmp, i_i2l, i_l2i, i_i2b, i_i2s, i_ifeq, i_ifne, i_iflt, i_ifge, i_ifgt, i_ifle, i_cmpeq, i_cmpne, i_cmplt, i_cmpge, i_cmpgt, i_cmple, i_acmpeq, i_acmpne, i_ifnull, i_ifnonnull, i_getI, i_getR, i_putI, i_putZ, i_putR, i_ald, i_ldL, i_ldR, i_ast, i_stL, i_stR, i_alen, i_new, i_newa, i_iret, i_zret, i_lret, i_aret, i_vret, i_raise, i_throw, i_recv, i_objinit, i_tsw3, lget, lset, lput1, lput2, lkil, ltrim, largs, isL, takev, dropv, nthv, pushO, catv, gd, true_and, and_true, Option.some.injEq, Prod.mk.injEq, exists_eq_left', if_true, if_false, reduceCtorEq, Bool.false_eq_true, lcmp_ge, lcmp_lt, lcmp_le, lcmp_gt, lcmp_eq, true_or, or_true, not_true_eq_false, not_false_eq_true, false_implies, true_implies, List.length_cons, List.length_nil]
  exact loop n 0 (by omega) fun j hj => by omega
theorem mlike_at {E : Ex} {B : Nat × Nat} {S : Stat} {D : Dat} {w o n m : Nat} {y z : Int} (hw : wS 17 S w n) (ho : wS 17 S o m) (hy : wD 2 1 D w y) (hz : wD 2 1 D o z) (hn : (y.natAbs : Int) < 1000000000 ^ n) (hm : (z.natAbs : Int) < 1000000000 ^ m) (hn2 : n < 1000) (k : ∀ v : Int, (v = 0 ↔ y ≠ z) → E (.inl (some (.inl v))) B S D) : Wp P_X17_isLike E 0 [some (aR w), some (aR o)] [] B S D := by
  refine sp_X17_isLike hw ho hy hz hn hm hn2 (k _ ?_)
  split
  · rename_i h; exact ⟨fun q => absurd q (by decide), fun q => absurd h q⟩
  · rename_i h; exact ⟨fun _ => h, fun _ => rfl⟩
set_option maxHeartbeats 1000000 in
theorem sp_X18_isLike {E : Ex} {B : Nat × Nat} {S : Stat} {D : Dat} {p q : Nat} {φ ψ : Nat → Rat} (hp : mpS S p) (hq : mpS S q) (hD : mpP D p φ) (hD' : mpP D q ψ)
    (K : ∀ v : Int, (v = 0 ∨ v = 1) → (v = 1 ↔ φ = ψ) → E (.inl (some (.inl v))) B S D) : Wp P_X18_isLike E 0 [some (aR p), some (aR q)] [] B S D := by
  obtain ⟨p1, p2, p3, p4, p5, p6, p7⟩ := hp
  obtain ⟨q1, q2, q3, q4, q5, q6, q7⟩ := hq
  obtain ⟨n, e, hD⟩ := hD
  obtain ⟨n', e', hD'⟩ := hD'
  have hd1 := hD
  have hd2 := hD'
  obtain ⟨h1, h2, h3, h4, h5, h6⟩ := hD
  obtain ⟨g1, g2, g3, g4, g5, g6⟩ := hD'
  have p51 := p5.1
  have p71 := p7.1
  have q51 := q5.1
  have q71 := q7.1
  have key : φ = ψ ↔ n = n' ∧ ∀ j, j < n → e j = e' j ∧ φ (e j) = ψ (e' j) := by
    constructor
    · rintro rfl
      obtain ⟨a, b⟩ := hd1.same hd2
      exact ⟨a, fun j hj => ⟨b j hj, by rw [b j hj]⟩⟩
    · rintro ⟨rfl, h⟩
      funext t
      rcases Nat.lt_or_ge t 455 with ht | ht
      · rcases Classical.em (∃ i, i < n ∧ e i = t) with ⟨i, x1, x2⟩ | x
        · have := h i x1
          rw [← x2, this.2, ← this.1]
        · rw [h5 t ht fun j hj w => x ⟨j, hj, w⟩, g5 t ht fun j hj w => x ⟨j, hj, by rw [(h j hj).1, w]⟩]
      · rw [h6.2 t ht, g6.2 t ht]
  have fin : ∀ v : Int, (v = 0 ∨ v = 1) → (v = 1 ↔ n = n' ∧ ∀ j, j < n → e j = e' j ∧ φ (e j) = ψ (e' j)) → Wp P_X18_isLike E 5 [none, none, some (aI v)] [] B S D := fun v v1 v2 => by
    refine wp_in ?_
    simp only [P_X18_isLike, i_kil, i_icon, i_lcon, i_null, i_loadI, i_loadL, i_loadR, i_istore, i_lstore, i_astore, i_iinc, i_dup, i_dup2, i_pop, i_iadd, i_isub, i_imul, i_idiv, i_irem, i_ineg, i_iand, i_ior, i_ishl, i_ishr, i_lxor, i_ladd, i_lsub, i_lmul, i_ldiv, i_lrem, i_lneg, i_lshl, i_lcmp, i_i2l, i_l2i, i_i2b, i_i2s, i_ifeq, i_ifne, i_iflt, i_ifge, i_ifgt, i_ifle, i_cmpeq, i_cmpne, i_cmplt, i_cmpge, i_cmpgt, i_cmple, i_acmpeq, i_acmpne, i_ifnull, i_ifnonnull, i_getI, i_getR, i_putI, i_putZ, i_putR, i_ald, i_ldL, i_ldR, i_ast, i_stL, i_stR, i_alen, i_new, i_newa, i_iret, i_zret, i_lret, i_aret, i_vret, i_raise, i_throw, i_recv, i_objinit, i_tsw3, lget, lset, lput1, lput2, lkil, ltrim, largs, isL, takev, dropv, nthv, pushO, catv, gd, true_and, and_true, Option.some.injEq, Prod.mk.injEq, exists_eq_left', if_true, if_false, reduceCtorEq, Bool.false_eq_true, lcmp_ge, lcmp_lt, lcmp_le, lcmp_gt, lcmp_eq, true_or, or_true, not_true_eq_false, not_false_eq_true, false_implies, true_implies, List.length_cons, List.length_nil]
    exact ⟨by omega, K v v1 (v2.trans key.symm)⟩
  have loop : ∀ (L k : Nat) (v : Int), k + L = n → (v = 0 ∨ v = 1) → (v = 1 ↔ n = n' ∧ ∀ j, j < k → e j = e' j ∧ φ (e j) = ψ (e' j)) → Wp P_X18_isLike E 2 [some (aR p), some (aR q), some (aI v), some (aI k)] [] B S D := by
    intro L
    induction L with
    | zero =>
      intro k v hk hv hv2
      have : k = n := by omega
      subst this
      refine wp_in ?_
      simp only [P_X18_isLike, i_kil, i_icon, i_lcon, i_null, i_loadI, i_loadL, i_loadR, i_istore, i_lstore, i_astore, i_iinc, i_dup, i_dup2, i_pop, i_iadd, i_isub, i_imul, i_idiv, i_irem, i_ineg, i_iand, i_ior, i_ishl, i_ishr, i_lxor, i_ladd, i_lsub, i_lmul, i_ldiv, i_lrem, i_lneg, i_lshl, i_lcmp, i_i2l, i_l2i, i_i2b, i_i2s, i_ifeq, i_ifne, i_iflt, i_ifge, i_ifgt, i_ifle, i_cmpeq, i_cmpne, i_cmplt, i_cmpge, i_cmpgt, i_cmple, i_acmpeq, i_acmpne, i_ifnull, i_ifnonnull, i_getI, i_getR, i_putI, i_putZ, i_putR, i_ald, i_ldL, i_ldR, i_ast, i_stL, i_stR, i_alen, i_new, i_newa, i_iret, i_zret, i_lret, i_aret, i_vret, i_raise, i_throw, i_recv, i_objinit, i_tsw3, lget, lset, lput1, lput2, lkil, ltrim, largs, isL, takev, dropv, nthv, pushO, catv, gd, true_and, and_true, Option.some.injEq, Prod.mk.injEq, exists_eq_left', if_true, if_false, reduceCtorEq, Bool.false_eq_true, lcmp_ge, lcmp_lt, lcmp_le, lcmp_gt, lcmp_eq, true_or, or_true, not_true_eq_false, not_false_eq_true, false_implies, true_implies, List.length_cons, List.length_nil, p1, h2]
      repeat (first | refine ⟨in_small (by omega) (by omega), ?_⟩ | (show (_ → _) ∧ (_ → _); first | refine ⟨by omega, fun _ => ?_⟩ | refine ⟨fun _ => ?_, by omega⟩) | refine ⟨by omega, ?_⟩ | refine ⟨⟨_, rfl, by assumption⟩, ?_⟩ | refine ⟨okT_I _, ?_⟩ | refine call0 (gd_of rfl) ?_)
      exact fin v hv hv2
    | succ L ih =>
      intro k v hk hv hv2
      obtain ⟨a1, a2, a3, a4⟩ := h3 k (by omega)
      refine wp_in ?_
      simp only [P_X18_isLike, i_kil, i_icon, i_lcon, i_null, i_loadI, i_loadL, i_loadR, i_istore, i_lstore, i_astore, i_iinc, i_dup, i_dup2, i_pop, i_iadd, i_isub, i_imul, i_idiv, i_irem, i_ineg, i_iand, i_ior, i_ishl, i_ishr, i_lxor, i_ladd, i_lsub, i_lmul, i_ldiv, i_lrem, i_lneg, i_lshl, i_lcmp, i_i2l, i_l2i, i_i2b, i_i2s, i_ifeq, i_ifne, i_iflt, i_ifge, i_ifgt, i_ifle, i_cmpeq, i_cmpne, i_cmplt, i_cmpge, i_cmpgt, i_cmple, i_acmpeq, i_acmpne, i_ifnull, i_ifnonnull, i_getI, i_getR, i_putI, i_putZ, i_putR, i_ald, i_ldL, i_ldR, i_ast, i_stL, i_stR, i_alen, i_new, i_newa, i_iret, i_zret, i_lret, i_aret, i_vret, i_raise, i_throw, i_recv, i_objinit, i_tsw3, lget, lset, lput1, lput2, lkil, ltrim, largs, isL, takev, dropv, nthv, pushO, catv, gd, true_and, and_true, Option.some.injEq, Prod.mk.injEq, exists_eq_left', if_true, if_false, reduceCtorEq, Bool.false_eq_true, lcmp_ge, lcmp_lt, lcmp_le, lcmp_gt, lcmp_eq, true_or, or_true, not_true_eq_false, not_false_eq_true, false_implies, true_implies, List.length_cons, List.length_nil, p1, h2]
      repeat (first | refine ⟨in_small (by omega) (by omega), ?_⟩ | (show (_ → _) ∧ (_ → _); first | refine ⟨by omega, fun _ => ?_⟩ | refine ⟨fun _ => ?_, by omega⟩) | refine ⟨by omega, ?_⟩ | refine ⟨⟨_, rfl, by assumption⟩, ?_⟩ | refine ⟨okT_I _, ?_⟩ | refine call0 (gd_of rfl) ?_)
      refine ⟨fun x => fin v hv ⟨fun y => by omega, fun y => hv2.mpr ⟨y.1, fun j hj => y.2 j (by omega)⟩⟩, fun x => ?_⟩
      have hv1 : v = 1 := by omega
      obtain ⟨en, hj⟩ := hv2.mp hv1
      obtain ⟨b1, b2, b3, b4⟩ := g3 k (by omega)
      obtain ⟨m1, m2⟩ := p5.2 k (by omega)
      obtain ⟨m3, m4⟩ := p7.2 k (by omega)
      obtain ⟨m5, m6⟩ := q5.2 k (by omega)
      obtain ⟨m7, m8⟩ := q7.2 k (by omega)
      have w1 := m2.1
      have w3 := m4.1
      have hf := h6.1 (e k) a1
      have hf' := g6.1 (e' k) b1
      have next : ∀ w : Int, (w = 0 ∨ w = 1) → (w = 1 ↔ e k = e' k ∧ φ (e k) = ψ (e' k)) → Wp P_X18_isLike E 4 [some (aR p), some (aR q), none, some (aI k)] [aI w] B S D := fun w w1 w2 => by
        refine wp_in ?_
        simp only [P_X18_isLike, i_kil, i_icon, i_lcon, i_null, i_loadI, i_loadL, i_loadR, i_istore, i_lstore, i_astore, i_iinc, i_dup, i_dup2, i_pop, i_iadd, i_isub, i_imul, i_idiv, i_irem, i_ineg, i_iand, i_ior, i_ishl, i_ishr, i_lxor, i_ladd, i_lsub, i_lmul, i_ldiv, i_lrem, i_lneg, i_lshl, i_lcmp, i_i2l, i_l2i, i_i2b, i_i2s, i_ifeq, i_ifne, i_iflt, i_ifge, i_ifgt, i_ifle, i_cmpeq, i_cmpne, i_cmplt, i_cmpge, i_cmpgt, i_cmple, i_acmpeq, i_acmpne, i_ifnull, i_ifnonnull, i_getI, i_getR, i_putI, i_putZ, i_putR, i_ald, i_ldL, i_ldR, i_ast, i_stL, i_stR, i_alen, i_new, i_newa, i_iret, i_zret, i_lret, i_aret, i_vret, i_raise, i_throw, i_recv, i_objinit, i_tsw3, lget, lset, lput1, lput2, lkil, ltrim, largs, isL, takev, dropv, nthv, pushO, catv, gd, true_and, and_true, Option.some.injEq, Prod.mk.injEq, exists_eq_left', if_true, if_false, reduceCtorEq, Bool.false_eq_true, lcmp_ge, lcmp_lt, lcmp_le, lcmp_gt, lcmp_eq, true_or, or_true, not_true_eq_false, not_false_eq_true, false_implies, true_implies, List.length_cons, List.length_nil]
        repeat (first | refine ⟨in_small (by omega) (by omega), ?_⟩ | (show (_ → _) ∧ (_ → _); first | refine ⟨by omega, fun _ => ?_⟩ | refine ⟨fun _ => ?_, by omega⟩) | refine ⟨by omega, ?_⟩ | refine ⟨⟨_, rfl, by assumption⟩, ?_⟩ | refine ⟨okT_I _, ?_⟩ | refine call0 (gd_of rfl) ?_)
        refine ih (k + 1) w (by omega) w1 ⟨fun y => ⟨en, fun j hj' => ?_⟩, fun y => w2.mpr (y.2 k (by omega))⟩
        by_cases z : j = k
        · rw [z]; exact w2.mp y
        · exact hj j (by omega)
      have no : ¬ (e k = e' k ∧ φ (e k) = ψ (e' k)) → Wp P_X18_isLike E 3 [some (aR p), some (aR q), none, some (aI k)] [] B S D := fun y => by
        refine wp_in ?_
        simp only [P_X18_isLike, i_kil, i_icon, i_lcon, i_null, i_loadI, i_loadL, i_loadR, i_istore, i_lstore, i_astore, i_iinc, i_dup, i_dup2, i_pop, i_iadd, i_isub, i_imul, i_idiv, i_irem, i_ineg, i_iand, i_ior, i_ishl, i_ishr, i_lxor, i_ladd, i_lsub, i_lmul, i_ldiv, i_lrem, i_lneg, i_lshl, i_lcmp, i_i2l, i_l2i, i_i2b, i_i2s, i_ifeq, i_ifne, i_iflt, i_ifge, i_ifgt, i_ifle, i_cmpeq, i_cmpne, i_cmplt, i_cmpge, i_cmpgt, i_cmple, i_acmpeq, i_acmpne, i_ifnull, i_ifnonnull, i_getI, i_getR, i_putI, i_putZ, i_putR, i_ald, i_ldL, i_ldR, i_ast, i_stL, i_stR, i_alen, i_new, i_newa, i_iret, i_zret, i_lret, i_aret, i_vret, i_raise, i_throw, i_recv, i_objinit, i_tsw3, lget, lset, lput1, lput2, lkil, ltrim, largs, isL, takev, dropv, nthv, pushO, catv, gd, true_and, and_true, Option.some.injEq, Prod.mk.injEq, exists_eq_left', if_true, if_false, reduceCtorEq, Bool.false_eq_true, lcmp_ge, lcmp_lt, lcmp_le, lcmp_gt, lcmp_eq, true_or, or_true, not_true_eq_false, not_false_eq_true, false_implies, true_implies, List.length_cons, List.length_nil]
        exact next 0 (.inl rfl) ⟨fun z => by omega, fun z => absurd z y⟩
      simp only [P_X18_isLike, i_kil, i_icon, i_lcon, i_null, i_loadI, i_loadL, i_loadR, i_istore, i_lstore, i_astore, i_iinc, i_dup, i_dup2, i_pop, i_iadd, i_isub, i_imul, i_idiv, i_irem, i_ineg, i_iand, i_ior, i_ishl, i_ishr, i_lxor, i_ladd, i_lsub, i_lmul, i_ldiv, i_lrem, i_lneg, i_lshl, i_lcmp, i_i2l, i_l2i, i_i2b, i_i2s, i_ifeq, i_ifne, i_iflt, i_ifge, i_ifgt, i_ifle, i_cmpeq, i_cmpne, i_cmplt, i_cmpge, i_cmpgt, i_cmple, i_acmpeq, i_acmpne, i_ifnull, i_ifnonnull, i_getI, i_getR, i_putI, i_putZ, i_putR, i_ald, i_ldL, i_ldR, i_ast, i_stL, i_stR, i_alen, i_new, i_newa, i_iret, i_zret, i_lret, i_aret, i_vret, i_raise, i_throw, i_recv, i_objinit, i_tsw3, lget, lset, lput1, lput2, lkil, ltrim, largs, isL, takev, dropv, nthv, pushO, catv, gd, true_and, and_true, Option.some.injEq, Prod.mk.injEq, exists_eq_left', if_true, if_false, reduceCtorEq, Bool.false_eq_true, lcmp_ge, lcmp_lt, lcmp_le, lcmp_gt, lcmp_eq, true_or, or_true, not_true_eq_false, not_false_eq_true, false_implies, true_implies, List.length_cons, List.length_nil, p2, p3, q1, q2, q3, p4, p51, m1, q4, q51, m5]
      repeat (first | refine ⟨in_small (by omega) (by omega), ?_⟩ | (show (_ → _) ∧ (_ → _); first | refine ⟨by omega, fun _ => ?_⟩ | refine ⟨fun _ => ?_, by omega⟩) | refine ⟨by omega, ?_⟩ | refine ⟨⟨_, rfl, by assumption⟩, ?_⟩ | refine ⟨okT_I _, ?_⟩ | refine call0 (gd_of rfl) ?_)
      refine ⟨fun y => no fun z => y (by rw [a2, b2, z.1]), fun y => ?_⟩
      rw [a2, b2] at y
      have ee := tcode_inj a1 b1 y
      repeat (first | refine ⟨in_small (by omega) (by omega), ?_⟩ | (show (_ → _) ∧ (_ → _); first | refine ⟨by omega, fun _ => ?_⟩ | refine ⟨fun _ => ?_, by omega⟩) | refine ⟨by omega, ?_⟩ | refine ⟨⟨_, rfl, by assumption⟩, ?_⟩ | refine ⟨okT_I _, ?_⟩ | refine call0 (gd_of rfl) ?_)
      refine mlike_at m2 m6 a3.1 b3.1 hf.n hf'.n (by omega) fun u hu => ?_
      simp only [P_X18_isLike, i_kil, i_icon, i_lcon, i_null, i_loadI, i_loadL, i_loadR, i_istore, i_lstore, i_astore, i_iinc, i_dup, i_dup2, i_pop, i_iadd, i_isub, i_imul, i_idiv, i_irem, i_ineg, i_iand, i_ior, i_ishl, i_ishr, i_lxor, i_ladd, i_lsub, i_lmul, i_ldiv, i_lrem, i_lneg, i_lshl, i_lcmp, i_i2l, i_l2i, i_i2b, i_i2s, i_ifeq, i_ifne, i_iflt, i_ifge, i_ifgt, i_ifle, i_cmpeq, i_cmpne, i_cmplt, i_cmpge, i_cmpgt, i_cmple, i_acmpeq, i_acmpne, i_ifnull, i_ifnonnull, i_getI, i_getR, i_putI, i_putZ, i_putR, i_ald, i_ldL, i_ldR, i_ast, i_stL, i_stR, i_alen, i_new, i_newa, i_iret, i_zret, i_lret, i_aret, i_vret, i_raise, i_throw, i_recv, i_objinit, i_tsw3, lget, lset, lput1, lput2, lkil, ltrim, largs, isL, takev, dropv, nthv, pushO, catv, gd, true_and, and_true, Option.some.injEq, Prod.mk.injEq, exists_eq_left', if_true, if_false, reduceCtorEq, Bool.false_eq_true, lcmp_ge, lcmp_lt, lcmp_le, lcmp_gt, lcmp_eq, true_or, or_true, not_true_eq_false, not_false_eq_true, false_implies, true_implies, List.length_cons, List.length_nil, p1, q1, p6, p71, m3, q6, q71, m7]
      refine ⟨fun z => no fun z2 => hu.mp z (by rw [z2.2]), fun z => ?_⟩
      have hnum : (φ (e k)).num = (ψ (e' k)).num := Classical.byContradiction fun w => z (hu.mpr w)
      repeat (first | refine ⟨in_small (by omega) (by omega), ?_⟩ | (show (_ → _) ∧ (_ → _); first | refine ⟨by omega, fun _ => ?_⟩ | refine ⟨fun _ => ?_, by omega⟩) | refine ⟨by omega, ?_⟩ | refine ⟨⟨_, rfl, by assumption⟩, ?_⟩ | refine ⟨okT_I _, ?_⟩ | refine call0 (gd_of rfl) ?_)
      refine mlike_at m4 m8 a3.2 b3.2 hf.d hf'.d (by omega) fun u2 hu2 => ?_
      simp only [P_X18_isLike, i_kil, i_icon, i_lcon, i_null, i_loadI, i_loadL, i_loadR, i_istore, i_lstore, i_astore, i_iinc, i_dup, i_dup2, i_pop, i_iadd, i_isub, i_imul, i_idiv, i_irem, i_ineg, i_iand, i_ior, i_ishl, i_ishr, i_lxor, i_ladd, i_lsub, i_lmul, i_ldiv, i_lrem, i_lneg, i_lshl, i_lcmp, i_i2l, i_l2i, i_i2b, i_i2s, i_ifeq, i_ifne, i_iflt, i_ifge, i_ifgt, i_ifle, i_cmpeq, i_cmpne, i_cmplt, i_cmpge, i_cmpgt, i_cmple, i_acmpeq, i_acmpne, i_ifnull, i_ifnonnull, i_getI, i_getR, i_putI, i_putZ, i_putR, i_ald, i_ldL, i_ldR, i_ast, i_stL, i_stR, i_alen, i_new, i_newa, i_iret, i_zret, i_lret, i_aret, i_vret, i_raise, i_throw, i_recv, i_objinit, i_tsw3, lget, lset, lput1, lput2, lkil, ltrim, largs, isL, takev, dropv, nthv, pushO, catv, gd, true_and, and_true, Option.some.injEq, Prod.mk.injEq, exists_eq_left', if_true, if_false, reduceCtorEq, Bool.false_eq_true, lcmp_ge, lcmp_lt, lcmp_le, lcmp_gt, lcmp_eq, true_or, or_true, not_true_eq_false, not_false_eq_true, false_implies, true_implies, List.length_cons, List.length_nil]
      refine ⟨fun z2 => no fun z3 => hu2.mp z2 (by rw [z3.2]), fun z2 => ?_⟩
      have hden : ((φ (e k)).den : Int) = (ψ (e' k)).den := Classical.byContradiction fun w => z2 (hu2.mpr w)
      exact next 1 (.inr rfl) ⟨fun _ => ⟨ee, by rw [← rat_self (φ (e k)), ← rat_self (ψ (e' k)), hnum, hden]⟩, fun _ => rfl⟩
  have start : ∀ v : Int, (v = 0 ∨ v = 1) → (v = 1 ↔ n = n') → Wp P_X18_isLike E 1 [some (aR p), some (aR q)] [aI v] B S D := fun v v1 v2 => by
    refine wp_in ?_
    simp only [P_X18_isLike, i_kil, i_icon, i_lcon, i_null, i_loadI, i_loadL, i_loadR, i_istore, i_lstore, i_astore, i_iinc, i_dup, i_dup2, i_pop, i_iadd, i_isub, i_imul, i_idiv, i_irem, i_ineg, i_iand, i_ior, i_ishl, i_ishr, i_lxor, i_ladd, i_lsub, i_lmul, i_ldiv, i_lrem, i_lneg, i_lshl, i_lcmp, i_i2l, i_l2i, i_i2b, i_i2s, i_ifeq, i_ifne, i_iflt, i_ifge, i_ifgt, i_ifle, i_cmpeq, i_cmpne, i_cmplt, i_cmpge, i_cmpgt, i_cmple, i_acmpeq, i_acmpne, i_ifnull, i_ifnonnull, i_getI, i_getR, i_putI, i_putZ, i_putR, i_ald, i_ldL, i_ldR, i_ast, i_stL, i_stR, i_alen, i_new, i_newa, i_iret, i_zret, i_lret, i_aret, i_vret, i_raise, i_throw, i_recv, i_objinit, i_tsw3, lget, lset, lput1, lput2, lkil, ltrim, largs, isL, takev, dropv, nthv, pushO, catv, gd, true_and, and_true, Option.some.injEq, Prod.mk.injEq, exists_eq_left', if_true, if_false, reduceCtorEq, Bool.false_eq_true, lcmp_ge, lcmp_lt, lcmp_le, lcmp_gt, lcmp_eq, true_or, or_true, not_true_eq_false, not_false_eq_true, false_implies, true_implies, List.length_cons, List.length_nil]
    exact loop n 0 v (by omega) v1 ⟨fun h => ⟨v2.mp h, fun j hj => by omega⟩, fun h => v2.mpr h.1⟩
  refine wp_in ?_
  simp only [P_X18_isLike, i_kil, i_icon, i_lcon, i_null, i_loadI, i_loadL, i_loadR, i_istore, i_lstore, i_astore, i_iinc, i_dup, i_dup2, i_pop, i_iadd, i_isub, i_imul, i_idiv, i_irem, i_ineg, i_iand, i_ior, i_ishl, i_ishr, i_lxor, i_ladd, i_lsub, i_lmul, i_ldiv, i_lrem, i_lneg, i_lshl, i_lcmp, i_i2l, i_l2i, i_i2b, i_i2s, i_ifeq, i_ifne, i_iflt, i_ifge, i_ifgt, i_ifle, i_cmpeq, i_cmpne, i_cmplt, i_cmpge, i_cmpgt, i_cmple, i_acmpeq, i_acmpne, i_ifnull, i_ifnonnull, i_getI, i_getR, i_putI, i_putZ, i_putR, i_ald, i_ldL, i_ldR, i_ast, i_stL, i_stR, i_alen, i_new, i_newa, i_iret, i_zret, i_lret, i_aret, i_vret, i_raise, i_throw, i_recv, i_objinit, i_tsw3, lget, lset, lput1, lput2, lkil, ltrim, largs, isL, takev, dropv, nthv, pushO, catv, gd, true_and, and_true, Option.some.injEq, Prod.mk.injEq, exists_eq_left', if_true, if_false, reduceCtorEq, Bool.false_eq_true, lcmp_ge, lcmp_lt, lcmp_le, lcmp_gt, lcmp_eq, true_or, or_true, not_true_eq_false, not_false_eq_true, false_implies, true_implies, List.length_cons, List.length_nil, p1, q1, h2, g2]
  refine ⟨fun h => start 0 (.inl rfl) ⟨fun q => by omega, fun q => absurd (by rw [q]) h⟩, fun h => start 1 (.inr rfl) ⟨fun _ => by omega, fun _ => rfl⟩⟩
