/-! the model's polynomials: a term put among the others (insert, Sum.to), copies -/
set_option maxRecDepth 100000
set_option linter.unusedVariables false
theorem tpa_mono : ∀ a : Fin 14, ∀ b : Fin 14, (a : Nat) < b → tpa ((a : Nat) + 1) ≤ tpa b := by decide +kernel
theorem tpb_mono (a : Nat) {b c : Nat} (h : b ≤ c) : tpb a b ≤ tpb a c := by
  induction c with
  | zero => rw [Nat.le_zero.mp h]; exact Nat.le_refl _
  | succ c ih =>
    rcases Nat.lt_or_ge b (c + 1) with q | q
    · exact Nat.le_trans (ih (by omega)) (by simp only [tpb]; omega)
    · rw [Nat.le_antisymm h q]; exact Nat.le_refl _
/-- numbers of terms rise as LEX does -/
theorem lexI_pos {t u : Nat} (ht : t < 455) (hu : u < 455) (h : 0 < lexI t u) : u < t := by
  have a := tx_le ht
  have b := tx_le hu
  have e1 := tx_tn ht
  have e2 := tx_tn hu
  unfold lexI at h
  simp only [td, txl] at h
  unfold tn at e1 e2
  by_cases h0 : tx0 t = tx0 u
  · rw [if_pos (by omega)] at h
    rw [h0] at e1
    by_cases h1 : tx1 t = tx1 u
    · rw [if_pos (by omega)] at h
      rw [h1] at e1; omega
    · rw [if_neg (by omega)] at h
      have m := tpb_mono (tx0 u) (b := tx1 u + 1) (c := tx1 t) (by omega)
      simp only [tpb] at m
      omega
  · rw [if_neg (by omega)] at h
    have m := tpa_mono ⟨tx0 u, by omega⟩ ⟨tx0 t, by omega⟩ (by show tx0 u < tx0 t; omega)
    have m1 : tpa (tx0 u + 1) ≤ tpa (tx0 t) := m
    have m2 := tpa_next ⟨tx0 u, by omega⟩
    have m3 : tpa (tx0 u) + tpb (tx0 u) (13 - tx0 u) = tpa (tx0 u + 1) := m2
    have m4 := tpb_mono (tx0 u) (b := tx1 u + 1) (c := 13 - tx0 u) (by omega)
    simp only [tpb] at m4
    omega
theorem lexI_anti (t u : Nat) : lexI u t = - lexI t u := rank_anti (c := 9) (g := 0) (.inl rfl) t u
theorem lexI_lt {t u : Nat} (ht : t < 455) (hu : u < 455) : lexI t u < 0 ↔ t < u := by
  have a := lexI_anti t u
  constructor
  · intro h; exact lexI_pos hu ht (by omega)
  · intro h
    rcases Classical.em (lexI t u < 0) with q | q
    · exact q
    · exfalso
      rcases Classical.em (lexI t u = 0) with w | w
      · exact rank_ne (c := 9) (g := 0) (.inl rfl) ht hu (by omega) w
      · have := lexI_pos ht hu (by omega); omega
theorem lex_at {E : Ex} {B : Nat × Nat} {S : Stat} {D : Dat} {t u : Nat} {x y : Int} (ht : t < 455) (hu : u < 455) (hx : x = tcode t) (hy : y = tcode u) (h : ∀ v : Int, (v < 0 ↔ t < u) → E (.inl (some (.inl v))) B S D) : Wp P_X16_lex E 0 [some (aI x), some (aI y)] [] B S D := by
  subst hx; subst hy
  refine sp_X16_lex ht hu (h _ ?_)
  rw [← lexI_lt ht hu]
  rcases sgn_cases (lexI t u) with q | q | q <;> rw [q.1] <;> omega
/-- an entry of a polynomial -/
def mpE (D : Dat) (p k t : Nat) (x : Rat) : Prop := D (p + 1) k = tcode t ∧ frD D (p + 3 + 2 * k) (p + 124 + 2 * k) x
theorem mpE.congr {D D' : Dat} {p k t : Nat} {x : Rat} (h : mpE D p k t x) (e : ∀ (c : Nat) (i : Int), c = p + 1 ∧ i = (k : Int) ∨ c = p + 3 + 2 * k ∨ c = p + 3 + 2 * k + 1 ∨ c = p + 124 + 2 * k ∨ c = p + 124 + 2 * k + 1 → D' c i = D c i) : mpE D' p k t x :=
  ⟨by rw [e _ _ (by omega)]; exact h.1, h.2.congr fun c i hc => e c i (by omega)⟩
/-- all entries but one at i -/
def mpH (D : Dat) (p : Nat) (φ : Nat → Rat) (n i : Nat) (e : Nat → Nat) : Prop := D p 0 = n ∧ (∀ k, k < i → mpE D p k (e k) (φ (e k))) ∧ ∀ k, i < k → k ≤ n → mpE D p k (e (k - 1)) (φ (e (k - 1)))
def einsr (e : Nat → Nat) (i t : Nat) : Nat → Nat := fun k => if k < i then e k else if k = i then t else e (k - 1)
/-- a polynomial with one more term -/
theorem ins_done {D0 D : Dat} {p n i t : Nat} {φ : Nat → Rat} {x : Rat} {e : Nat → Nat} (h0 : mpD D0 p φ n e) (hn : n + 1 ≤ 60) (hi : i ≤ n) (ht : t < 455) (hno : ∀ k, k < n → e k ≠ t) (hlo : ∀ k, i ≤ k → k < n → e k < t) (hhi : 0 < i → t < e (i - 1)) (hx : x ≠ 0) (hf : qfit x)
    (h1 : D p 0 = n + 1) (h2 : ∀ k, k < i → mpE D p k (e k) (φ (e k))) (h3 : ∀ k, i < k → k ≤ n → mpE D p k (e (k - 1)) (φ (e (k - 1)))) (h4 : mpE D p i t x) : mpD D p (pupd φ t x) (n + 1) (einsr e i t) := by
  obtain ⟨a1, a2, a3, a4, a5, a6⟩ := h0
  have hpu : ∀ k, k < n → pupd φ t x (e k) = φ (e k) := fun k hk => by unfold pupd; rw [if_neg (hno k hk)]
  have hup : ∀ k, k < i → t < e k := fun k hk => by
    have h := hhi (by omega)
    by_cases q : k = i - 1
    · rw [q]; exact h
    · have := a4 k (i - 1) (by omega) (by omega); omega
  refine ⟨hn, by rw [h1]; omega, fun k hk => ?_, fun j k hjk hk => ?_, fun u hu hu2 => ?_, a6.upd ht hf⟩
  · unfold einsr
    rcases Nat.lt_trichotomy k i with q | q | q
    · rw [if_pos q, hpu k (by omega)]
      exact ⟨(a3 k (by omega)).1, (h2 k q).1, (h2 k q).2, (a3 k (by omega)).2.2.2⟩
    · subst q
      rw [if_neg (Nat.lt_irrefl _), if_pos rfl]
      have e1 : pupd φ t x t = x := by unfold pupd; rw [if_pos rfl]
      rw [e1]
      exact ⟨ht, h4.1, h4.2, hx⟩
    · rw [if_neg (by omega), if_neg (by omega), hpu (k - 1) (by omega)]
      exact ⟨(a3 (k - 1) (by omega)).1, (h3 k q (by omega)).1, (h3 k q (by omega)).2, (a3 (k - 1) (by omega)).2.2.2⟩
  · unfold einsr
    rcases Nat.lt_trichotomy j i with q | q | q
    · rw [if_pos q]
      rcases Nat.lt_trichotomy k i with w | w | w
      · rw [if_pos w]; exact a4 j k hjk (by omega)
      · rw [if_neg (by omega), if_pos w]; exact hup j q
      · rw [if_neg (by omega), if_neg (by omega)]; exact a4 j (k - 1) (by omega) (by omega)
    · rw [if_neg (by omega), if_neg (by omega), if_neg (by omega), if_pos q]
      exact hlo (k - 1) (by omega) (by omega)
    · rw [if_neg (by omega), if_neg (by omega), if_neg (by omega), if_neg (by omega)]
      exact a4 (j - 1) (k - 1) (by omega) (by omega)
  · have b1 : u ≠ t := fun w => hu2 i (by omega) (by unfold einsr; rw [if_neg (Nat.lt_irrefl _), if_pos rfl]; exact w.symm)
    unfold pupd
    rw [if_neg b1]
    refine a5 u hu fun k hk w => ?_
    rcases Nat.lt_or_ge k i with q | q
    · exact hu2 k (by omega) (by unfold einsr; rw [if_pos q]; exact w)
    · exact hu2 (k + 1) (by omega) (by unfold einsr; rw [if_neg (by omega), if_neg (by omega), Nat.add_sub_cancel]; exact w)
/-- what a work on a polynomial may write -/
def mpO (D D' : Dat) (p : Nat) : Prop := ∀ c i, (c < p ∨ p + 243 < c) → D' c i = D c i
theorem frD.b {D : Dat} {n d : Nat} {x : Rat} (h : qfit x) : (x.num.natAbs : Int) < 1000000000 ^ 14 ∧ (((x.den : Int)).natAbs : Int) < 1000000000 ^ 14 := ⟨h.b.1, h.b.den⟩
theorem qfit.n {x : Rat} (h : qfit x) : (x.num.natAbs : Int) < 1000000000 ^ 14 := h.b.1
theorem qfit.d {x : Rat} (h : qfit x) : (((x.den : Int)).natAbs : Int) < 1000000000 ^ 14 := h.b.den
set_option maxHeartbeats 2000000 in
theorem ins_shift {E : Ex} {B : Nat × Nat} {S : Stat} {D0 : Dat} {p n t na de : Nat} {φ : Nat → Rat} {e : Nat → Nat}  (hp : mpS S p) (h0 : mpD D0 p φ n e) (hn : n + 1 ≤ 60) (ht : t < 455) (hno : ∀ k, k < n → e k ≠ t)
    (K : ∀ (D : Dat) (i : Nat), i ≤ n → mpO D0 D p → mpH D p φ n i e → (∀ k, i ≤ k → k < n → e k < t) → (0 < i → t < e (i - 1)) → Wp P_X16_insert E 2 [some (aR p), some (aI (tcode t)), some (aR na), some (aR de), some (aI (i : Nat))] [] B S D) :
    ∀ (i : Nat) (D : Dat), i ≤ n → mpO D0 D p → mpH D p φ n i e → (∀ k, i ≤ k → k < n → e k < t) → Wp P_X16_insert E 1 [some (aR p), some (aI (tcode t)), some (aR na), some (aR de), some (aI (i : Nat))] [] B S D := by
  obtain ⟨p1, p2, p3, p4, p5, p6, p7⟩ := hp
  have p51 := p5.1
  have p71 := p7.1
  intro i
  induction i with
  | zero =>
    intro D hi hO hH hlo
    refine wp_in ?_
    simp only [P_X16_insert, i_kil, i_icon, i_lcon, i_null, i_loadI, i_loadL, i_loadR, i_istore, i_lstore, i_astore, i_iinc, i_dup, i_dup2, i_pop, i_iadd, i_isub, i_imul, i_idiv, i_irem, i_ineg, i_iand, i_ior, i_ishl, i_ishr, i_lxor, i_ladd, i_lsub, i_lmul, i_ldiv, i_lrem, i_lneg, i_lshl, i_lcmp, i_i2l, i_l2i, i_i2b, i_i2s, i_ifeq, i_ifne, i_iflt, i_ifge, i_ifgt, i_ifle, i_cmpeq, i_cmpne, i_cmplt, i_cmpge, i_cmpgt, i_cmple, i_acmpeq, i_acmpne, i_ifnull, i_ifnonnull, i_getI, i_getR, i_putI, i_putZ, i_putR, i_ald, i_ldL, i_ldR, i_ast, i_stL, i_stR, i_alen, i_new, i_newa, i_iret, i_zret, i_lret, i_aret, i_vret, i_raise, i_throw, i_recv, i_objinit, i_tsw3, lget, lset, lput1, lput2, lkil, ltrim, largs, isL, takev, dropv, nthv, pushO, catv, gd, true_and, and_true, Option.some.injEq, Prod.mk.injEq, exists_eq_left', if_true, if_false, reduceCtorEq, Bool.false_eq_true, lcmp_ge, lcmp_lt, lcmp_le, lcmp_gt, lcmp_eq, true_or, or_true, not_true_eq_false, not_false_eq_true, false_implies, true_implies, List.length_cons, List.length_nil]
    repeat (first | refine ⟨in_small (by omega) (by omega), ?_⟩ | (show (_ → _) ∧ (_ → _); first | refine ⟨by omega, fun _ => ?_⟩ | refine ⟨fun _ => ?_, by omega⟩) | refine ⟨by omega, ?_⟩ | refine ⟨⟨_, rfl, by assumption⟩, ?_⟩ | refine ⟨okT_I _, ?_⟩ | refine call0 (gd_of rfl) ?_)
    exact K D 0 hi hO hH hlo fun h => by omega
  | succ i ih =>
    intro D hi hO hH hlo
    obtain ⟨b1, b2, b3⟩ := hH
    obtain ⟨d1, d2⟩ := b2 i (by omega)
    obtain ⟨a1, a2, a3, a4⟩ := h0.2.2.1 i (by omega)
    obtain ⟨m1, m2⟩ := p5.2 i (by omega)
    obtain ⟨m3, m4⟩ := p5.2 (i + 1) (by omega)
    obtain ⟨m5, m6⟩ := p7.2 i (by omega)
    obtain ⟨m7, m8⟩ := p7.2 (i + 1) (by omega)
    have hq := h0.2.2.2.2.2.1 (e i) a1
    have x1 : ((i + 1 : Nat) : Int) - 1 = (i : Nat) := by omega
    have w3 := m4.1
    have w7 := m8.1
    
    refine wp_in ?_
    simp only [P_X16_insert, i_kil, i_icon, i_lcon, i_null, i_loadI, i_loadL, i_loadR, i_istore, i_lstore, i_astore, i_iinc, i_dup, i_dup2, i_pop, i_iadd, i_isub, i_imul, i_idiv, i_irem, i_ineg, i_iand, i_ior, i_ishl, i_ishr, i_lxor, i_ladd, i_lsub, i_lmul, i_ldiv, i_lrem, i_lneg, i_lshl, i_lcmp, i_i2l, i_l2i, i_i2b, i_i2s, i_ifeq, i_ifne, i_iflt, i_ifge, i_ifgt, i_ifle, i_cmpeq, i_cmpne, i_cmplt, i_cmpge, i_cmpgt, i_cmple, i_acmpeq, i_acmpne, i_ifnull, i_ifnonnull, i_getI, i_getR, i_putI, i_putZ, i_putR, i_ald, i_ldL, i_ldR, i_ast, i_stL, i_stR, i_alen, i_new, i_newa, i_iret, i_zret, i_lret, i_aret, i_vret, i_raise, i_throw, i_recv, i_objinit, i_tsw3, lget, lset, lput1, lput2, lkil, ltrim, largs, isL, takev, dropv, nthv, pushO, catv, gd, true_and, and_true, Option.some.injEq, Prod.mk.injEq, exists_eq_left', if_true, if_false, reduceCtorEq, Bool.false_eq_true, lcmp_ge, lcmp_lt, lcmp_le, lcmp_gt, lcmp_eq, true_or, or_true, not_true_eq_false, not_false_eq_true, false_implies, true_implies, List.length_cons, List.length_nil, p1, p2, p3, x1, d1]
    repeat (first | refine ⟨in_small (by omega) (by omega), ?_⟩ | (show (_ → _) ∧ (_ → _); first | refine ⟨by omega, fun _ => ?_⟩ | refine ⟨fun _ => ?_, by omega⟩) | refine ⟨by omega, ?_⟩ | refine ⟨⟨_, rfl, by assumption⟩, ?_⟩ | refine ⟨okT_I _, ?_⟩ | refine call0 (gd_of rfl) ?_)
    refine lex_at a1 ht rfl rfl fun v hv => ?_
    simp only [P_X16_insert, i_kil, i_icon, i_lcon, i_null, i_loadI, i_loadL, i_loadR, i_istore, i_lstore, i_astore, i_iinc, i_dup, i_dup2, i_pop, i_iadd, i_isub, i_imul, i_idiv, i_irem, i_ineg, i_iand, i_ior, i_ishl, i_ishr, i_lxor, i_ladd, i_lsub, i_lmul, i_ldiv, i_lrem, i_lneg, i_lshl, i_lcmp, i_i2l, i_l2i, i_i2b, i_i2s, i_ifeq, i_ifne, i_iflt, i_ifge, i_ifgt, i_ifle, i_cmpeq, i_cmpne, i_cmplt, i_cmpge, i_cmpgt, i_cmple, i_acmpeq, i_acmpne, i_ifnull, i_ifnonnull, i_getI, i_getR, i_putI, i_putZ, i_putR, i_ald, i_ldL, i_ldR, i_ast, i_stL, i_stR, i_alen, i_new, i_newa, i_iret, i_zret, i_lret, i_aret, i_vret, i_raise, i_throw, i_recv, i_objinit, i_tsw3, lget, lset, lput1, lput2, lkil, ltrim, largs, isL, takev, dropv, nthv, pushO, catv, gd, true_and, and_true, Option.some.injEq, Prod.mk.injEq, exists_eq_left', if_true, if_false, reduceCtorEq, Bool.false_eq_true, lcmp_ge, lcmp_lt, lcmp_le, lcmp_gt, lcmp_eq, true_or, or_true, not_true_eq_false, not_false_eq_true, false_implies, true_implies, List.length_cons, List.length_nil, p1, p2, p3, x1, d1]
    refine ⟨fun h => ?_, fun h => ?_⟩
    · refine K D (i + 1) hi hO ⟨b1, b2, b3⟩ hlo fun _ => ?_
      rw [Nat.add_sub_cancel]
      have := hno i (by omega)
      omega
    · have hlt : e i < t := hv.mp (by omega)
      repeat (first | refine ⟨in_small (by omega) (by omega), ?_⟩ | (show (_ → _) ∧ (_ → _); first | refine ⟨by omega, fun _ => ?_⟩ | refine ⟨fun _ => ?_, by omega⟩) | refine ⟨by omega, ?_⟩ | refine ⟨⟨_, rfl, by assumption⟩, ?_⟩ | refine ⟨okT_I _, ?_⟩ | refine call0 (gd_of rfl) ?_)
      simp only [P_X16_insert, i_kil, i_icon, i_lcon, i_null, i_loadI, i_loadL, i_loadR, i_istore, i_lstore, i_astore, i_iinc, i_dup, i_dup2, i_pop, i_iadd, i_isub, i_imul, i_idiv, i_irem, i_ineg, i_iand, i_ior, i_ishl, i_ishr, i_lxor, i_ladd, i_lsub, i_lmul, i_ldiv, i_lrem, i_lneg, i_lshl, i_lcmp, i_i2l, i_l2i, i_i2b, i_i2s, i_ifeq, i_ifne, i_iflt, i_ifge, i_ifgt, i_ifle, i_cmpeq, i_cmpne, i_cmplt, i_cmpge, i_cmpgt, i_cmple, i_acmpeq, i_acmpne, i_ifnull, i_ifnonnull, i_getI, i_getR, i_putI, i_putZ, i_putR, i_ald, i_ldL, i_ldR, i_ast, i_stL, i_stR, i_alen, i_new, i_newa, i_iret, i_zret, i_lret, i_aret, i_vret, i_raise, i_throw, i_recv, i_objinit, i_tsw3, lget, lset, lput1, lput2, lkil, ltrim, largs, isL, takev, dropv, nthv, pushO, catv, gd, true_and, and_true, Option.some.injEq, Prod.mk.injEq, exists_eq_left', if_true, if_false, reduceCtorEq, Bool.false_eq_true, lcmp_ge, lcmp_lt, lcmp_le, lcmp_gt, lcmp_eq, true_or, or_true, not_true_eq_false, not_false_eq_true, false_implies, true_implies, List.length_cons, List.length_nil, p1, p4, p51, x1, m1, m3]
      repeat (first | refine ⟨in_small (by omega) (by omega), ?_⟩ | (show (_ → _) ∧ (_ → _); first | refine ⟨by omega, fun _ => ?_⟩ | refine ⟨fun _ => ?_, by omega⟩) | refine ⟨by omega, ?_⟩ | refine ⟨⟨_, rfl, by assumption⟩, ?_⟩ | refine ⟨okT_I _, ?_⟩ | refine call0 (gd_of rfl) ?_)
      refine sp_X17_copy m4 m2 (d2.1.congr (fun j => by simp only [pmu]; rw [if_neg (fun q => by omega)]) (fun j => by simp only [pmu]; rw [if_neg (fun q => by omega)])) hq.n hq.n (by omega) fun D2 f1 f2 => ?_
      simp only [P_X16_insert, i_kil, i_icon, i_lcon, i_null, i_loadI, i_loadL, i_loadR, i_istore, i_lstore, i_astore, i_iinc, i_dup, i_dup2, i_pop, i_iadd, i_isub, i_imul, i_idiv, i_irem, i_ineg, i_iand, i_ior, i_ishl, i_ishr, i_lxor, i_ladd, i_lsub, i_lmul, i_ldiv, i_lrem, i_lneg, i_lshl, i_lcmp, i_i2l, i_l2i, i_i2b, i_i2s, i_ifeq, i_ifne, i_iflt, i_ifge, i_ifgt, i_ifle, i_cmpeq, i_cmpne, i_cmplt, i_cmpge, i_cmpgt, i_cmple, i_acmpeq, i_acmpne, i_ifnull, i_ifnonnull, i_getI, i_getR, i_putI, i_putZ, i_putR, i_ald, i_ldL, i_ldR, i_ast, i_stL, i_stR, i_alen, i_new, i_newa, i_iret, i_zret, i_lret, i_aret, i_vret, i_raise, i_throw, i_recv, i_objinit, i_tsw3, lget, lset, lput1, lput2, lkil, ltrim, largs, isL, takev, dropv, nthv, pushO, catv, gd, true_and, and_true, Option.some.injEq, Prod.mk.injEq, exists_eq_left', if_true, if_false, reduceCtorEq, Bool.false_eq_true, lcmp_ge, lcmp_lt, lcmp_le, lcmp_gt, lcmp_eq, true_or, or_true, not_true_eq_false, not_false_eq_true, false_implies, true_implies, List.length_cons, List.length_nil, p1, p6, p71, x1, m5, m7]
      repeat (first | refine ⟨in_small (by omega) (by omega), ?_⟩ | (show (_ → _) ∧ (_ → _); first | refine ⟨by omega, fun _ => ?_⟩ | refine ⟨fun _ => ?_, by omega⟩) | refine ⟨by omega, ?_⟩ | refine ⟨⟨_, rfl, by assumption⟩, ?_⟩ | refine ⟨okT_I _, ?_⟩ | refine call0 (gd_of rfl) ?_)
      have hd2 : wD 2 1 D2 (p + 124 + 2 * i) ((φ (e i)).den : Int) := d2.2.congr (fun j => by rw [f1 _ _ (by omega) (by omega)]; simp only [pmu]; rw [if_neg (fun q => by omega)]) (fun j => by rw [f1 _ _ (by omega) (by omega)]; simp only [pmu]; rw [if_neg (fun q => by omega)])
      refine sp_X17_copy m8 m6 hd2 hq.d hq.d (by omega) fun D3 g1 g2 => ?_
      simp only [P_X16_insert, i_kil, i_icon, i_lcon, i_null, i_loadI, i_loadL, i_loadR, i_istore, i_lstore, i_astore, i_iinc, i_dup, i_dup2, i_pop, i_iadd, i_isub, i_imul, i_idiv, i_irem, i_ineg, i_iand, i_ior, i_ishl, i_ishr, i_lxor, i_ladd, i_lsub, i_lmul, i_ldiv, i_lrem, i_lneg, i_lshl, i_lcmp, i_i2l, i_l2i, i_i2b, i_i2s, i_ifeq, i_ifne, i_iflt, i_ifge, i_ifgt, i_ifle, i_cmpeq, i_cmpne, i_cmplt, i_cmpge, i_cmpgt, i_cmple, i_acmpeq, i_acmpne, i_ifnull, i_ifnonnull, i_getI, i_getR, i_putI, i_putZ, i_putR, i_ald, i_ldL, i_ldR, i_ast, i_stL, i_stR, i_alen, i_new, i_newa, i_iret, i_zret, i_lret, i_aret, i_vret, i_raise, i_throw, i_recv, i_objinit, i_tsw3, lget, lset, lput1, lput2, lkil, ltrim, largs, isL, takev, dropv, nthv, pushO, catv, gd, true_and, and_true, Option.some.injEq, Prod.mk.injEq, exists_eq_left', if_true, if_false, reduceCtorEq, Bool.false_eq_true, lcmp_ge, lcmp_lt, lcmp_le, lcmp_gt, lcmp_eq, true_or, or_true, not_true_eq_false, not_false_eq_true, false_implies, true_implies, List.length_cons, List.length_nil]
      repeat (first | refine ⟨in_small (by omega) (by omega), ?_⟩ | (show (_ → _) ∧ (_ → _); first | refine ⟨by omega, fun _ => ?_⟩ | refine ⟨fun _ => ?_, by omega⟩) | refine ⟨by omega, ?_⟩ | refine ⟨⟨_, rfl, by assumption⟩, ?_⟩ | refine ⟨okT_I _, ?_⟩ | refine call0 (gd_of rfl) ?_)
      rw [show ((i + 1 : Nat) : Int) + -1 = (i : Nat) by omega]
      have fr : ∀ c j, c ≠ p + 3 + 2 * (i + 1) → c ≠ p + 3 + 2 * (i + 1) + 1 → c ≠ p + 124 + 2 * (i + 1) → c ≠ p + 124 + 2 * (i + 1) + 1 → (c ≠ p + 1 ∨ j ≠ ((i + 1 : Nat) : Int)) → D3 c j = D c j := fun c j y1 y2 y3 y4 y5 => by
        rw [g1 _ _ y3 y4, f1 _ _ y1 y2]
        simp only [pmu]; rw [if_neg (fun q => by omega)]
      have frn : mpE D3 p (i + 1) (e i) (φ (e i)) := by
        refine ⟨?_, f2.congr (fun j => g1 _ _ (by omega) (by omega)) (fun j => g1 _ _ (by omega) (by omega)), g2⟩
        rw [g1 _ _ (by omega) (by omega), f1 _ _ (by omega) (by omega)]
        simp [pmu]
      refine ih D3 (by omega) (fun c j hc => by rw [fr c j (by omega) (by omega) (by omega) (by omega) (by omega)]; exact hO c j hc) ⟨by rw [fr _ _ (by omega) (by omega) (by omega) (by omega) (by omega)]; exact b1, fun k hk => (b2 k (by omega)).congr fun c j hc => fr c j (by omega) (by omega) (by omega) (by omega) (by omega), fun k hk hk2 => ?_⟩ fun k hk hk2 => ?_
      · by_cases q : k = i + 1
        · subst q; rw [Nat.add_sub_cancel]; exact frn
        · exact (b3 k (by omega) hk2).congr fun c j hc => fr c j (by omega) (by omega) (by omega) (by omega) (by omega)
      · by_cases q : k = i
        · rw [q]; exact hlt
        · exact hlo k (by omega) hk2
set_option maxHeartbeats 2000000 in
theorem to_shift {E : Ex} {B : Nat × Nat} {S : Stat} {D0 : Dat} {p n t s k : Nat} {φ : Nat → Rat} {e : Nat → Nat} (hs : smS S s) (hfar : s + 1824 < p ∨ p + 243 < s) (hk : k < 455) (hc : D0 (s + 1) k = tcode t) (hp : mpS S p) (h0 : mpD D0 p φ n e) (hn : n + 1 ≤ 60) (ht : t < 455) (hno : ∀ k, k < n → e k ≠ t)
    (K : ∀ (D : Dat) (i : Nat), i ≤ n → mpO D0 D p → mpH D p φ n i e → (∀ k, i ≤ k → k < n → e k < t) → (0 < i → t < e (i - 1)) → Wp P_X19_to E 3 [some (aR s), some (aR p), some (aI k), some (aI (i : Nat))] [] B S D) :
    ∀ (i : Nat) (D : Dat), i ≤ n → mpO D0 D p → mpH D p φ n i e → (∀ k, i ≤ k → k < n → e k < t) → Wp P_X19_to E 2 [some (aR s), some (aR p), some (aI k), some (aI (i : Nat))] [] B S D := by
  obtain ⟨p1, p2, p3, p4, p5, p6, p7⟩ := hp
  have p51 := p5.1
  have p71 := p7.1
  intro i
  induction i with
  | zero =>
    intro D hi hO hH hlo
    refine wp_in ?_
    simp only [P_X19_to, i_kil, i_icon, i_lcon, i_null, i_loadI, i_loadL, i_loadR, i_istore, i_lstore, i_astore, i_iinc, i_dup, i_dup2, i_pop, i_iadd, i_isub, i_imul, i_idiv, i_irem, i_ineg, i_iand, i_ior, i_ishl, i_ishr, i_lxor, i_ladd, i_lsub, i_lmul, i_ldiv, i_lrem, i_lneg, i_lshl, i_lcmp, i_i2l, i_l2i, i_i2b, i_i2s, i_ifeq, i_ifne, i_iflt, i_ifge, i_ifgt, i_ifle, i_cmpeq, i_cmpne, i_cmplt, i_cmpge, i_cmpgt, i_cmple, i_acmpeq, i_acmpne, i_ifnull, i_ifnonnull, i_getI, i_getR, i_putI, i_putZ, i_putR, i_ald, i_ldL, i_ldR, i_ast, i_stL, i_stR, i_alen, i_new, i_newa, i_iret, i_zret, i_lret, i_aret, i_vret, i_raise, i_throw, i_recv, i_objinit, i_tsw3, lget, lset, lput1, lput2, lkil, ltrim, largs, isL, takev, dropv, nthv, pushO, catv, gd, true_and, and_true, Option.some.injEq, Prod.mk.injEq, exists_eq_left', if_true, if_false, reduceCtorEq, Bool.false_eq_true, lcmp_ge, lcmp_lt, lcmp_le, lcmp_gt, lcmp_eq, true_or, or_true, not_true_eq_false, not_false_eq_true, false_implies, true_implies, List.length_cons, List.length_nil]
    repeat (first | refine ⟨in_small (by omega) (by omega), ?_⟩ | (show (_ → _) ∧ (_ → _); first | refine ⟨by omega, fun _ => ?_⟩ | refine ⟨fun _ => ?_, by omega⟩) | refine ⟨by omega, ?_⟩ | refine ⟨⟨_, rfl, by assumption⟩, ?_⟩ | refine ⟨okT_I _, ?_⟩ | refine call0 (gd_of rfl) ?_)
    exact K D 0 hi hO hH hlo fun h => by omega
  | succ i ih =>
    intro D hi hO hH hlo
    obtain ⟨b1, b2, b3⟩ := hH
    obtain ⟨d1, d2⟩ := b2 i (by omega)
    obtain ⟨a1, a2, a3, a4⟩ := h0.2.2.1 i (by omega)
    obtain ⟨m1, m2⟩ := p5.2 i (by omega)
    obtain ⟨m3, m4⟩ := p5.2 (i + 1) (by omega)
    obtain ⟨m5, m6⟩ := p7.2 i (by omega)
    obtain ⟨m7, m8⟩ := p7.2 (i + 1) (by omega)
    have hq := h0.2.2.2.2.2.1 (e i) a1
    have x1 : ((i + 1 : Nat) : Int) - 1 = (i : Nat) := by omega
    have w3 := m4.1
    have w7 := m8.1
    obtain ⟨s1, s2, s3, -⟩ := id hs
    have hc2 : D (s + 1) k = tcode t := by rw [hO _ _ (by omega)]; exact hc
    refine wp_in ?_
    simp only [P_X19_to, i_kil, i_icon, i_lcon, i_null, i_loadI, i_loadL, i_loadR, i_istore, i_lstore, i_astore, i_iinc, i_dup, i_dup2, i_pop, i_iadd, i_isub, i_imul, i_idiv, i_irem, i_ineg, i_iand, i_ior, i_ishl, i_ishr, i_lxor, i_ladd, i_lsub, i_lmul, i_ldiv, i_lrem, i_lneg, i_lshl, i_lcmp, i_i2l, i_l2i, i_i2b, i_i2s, i_ifeq, i_ifne, i_iflt, i_ifge, i_ifgt, i_ifle, i_cmpeq, i_cmpne, i_cmplt, i_cmpge, i_cmpgt, i_cmple, i_acmpeq, i_acmpne, i_ifnull, i_ifnonnull, i_getI, i_getR, i_putI, i_putZ, i_putR, i_ald, i_ldL, i_ldR, i_ast, i_stL, i_stR, i_alen, i_new, i_newa, i_iret, i_zret, i_lret, i_aret, i_vret, i_raise, i_throw, i_recv, i_objinit, i_tsw3, lget, lset, lput1, lput2, lkil, ltrim, largs, isL, takev, dropv, nthv, pushO, catv, gd, true_and, and_true, Option.some.injEq, Prod.mk.injEq, exists_eq_left', if_true, if_false, reduceCtorEq, Bool.false_eq_true, lcmp_ge, lcmp_lt, lcmp_le, lcmp_gt, lcmp_eq, true_or, or_true, not_true_eq_false, not_false_eq_true, false_implies, true_implies, List.length_cons, List.length_nil, p1, p2, p3, x1, d1, s1, s2, s3, hc2]
    repeat (first | refine ⟨in_small (by omega) (by omega), ?_⟩ | (show (_ → _) ∧ (_ → _); first | refine ⟨by omega, fun _ => ?_⟩ | refine ⟨fun _ => ?_, by omega⟩) | refine ⟨by omega, ?_⟩ | refine ⟨⟨_, rfl, by assumption⟩, ?_⟩ | refine ⟨okT_I _, ?_⟩ | refine call0 (gd_of rfl) ?_)
    refine lex_at a1 ht rfl rfl fun v hv => ?_
    simp only [P_X19_to, i_kil, i_icon, i_lcon, i_null, i_loadI, i_loadL, i_loadR, i_istore, i_lstore, i_astore, i_iinc, i_dup, i_dup2, i_pop, i_iadd, i_isub, i_imul, i_idiv, i_irem, i_ineg, i_iand, i_ior, i_ishl, i_ishr, i_lxor, i_ladd, i_lsub, i_lmul, i_ldiv, i_lrem, i_lneg, i_lshl, i_lcmp, i_i2l, i_l2i, i_i2b, i_i2s, i_ifeq, i_ifne, i_iflt, i_ifge, i_ifgt, i_ifle, i_cmpeq, i_cmpne, i_cmplt, i_cmpge, i_cmpgt, i_cmple, i_acmpeq, i_acmpne, i_ifnull, i_ifnonnull, i_getI, i_getR, i_putI, i_putZ, i_putR, i_ald, i_ldL, i_ldR, i_ast, i_stL, i_stR, i_alen, i_new, i_newa, i_iret, i_zret, i_lret, i_aret, i_vret, i_raise, i_throw, i_recv, i_objinit, i_tsw3, lget, lset, lput1, lput2, lkil, ltrim, largs, isL, takev, dropv, nthv, pushO, catv, gd, true_and, and_true, Option.some.injEq, Prod.mk.injEq, exists_eq_left', if_true, if_false, reduceCtorEq, Bool.false_eq_true, lcmp_ge, lcmp_lt, lcmp_le, lcmp_gt, lcmp_eq, true_or, or_true, not_true_eq_false, not_false_eq_true, false_implies, true_implies, List.length_cons, List.length_nil, p1, p2, p3, x1, d1]
    refine ⟨fun h => ?_, fun h => ?_⟩
    · refine K D (i + 1) hi hO ⟨b1, b2, b3⟩ hlo fun _ => ?_
      rw [Nat.add_sub_cancel]
      have := hno i (by omega)
      omega
    · have hlt : e i < t := hv.mp (by omega)
      repeat (first | refine ⟨in_small (by omega) (by omega), ?_⟩ | (show (_ → _) ∧ (_ → _); first | refine ⟨by omega, fun _ => ?_⟩ | refine ⟨fun _ => ?_, by omega⟩) | refine ⟨by omega, ?_⟩ | refine ⟨⟨_, rfl, by assumption⟩, ?_⟩ | refine ⟨okT_I _, ?_⟩ | refine call0 (gd_of rfl) ?_)
      simp only [P_X19_to, i_kil, i_icon, i_lcon, i_null, i_loadI, i_loadL, i_loadR, i_istore, i_lstore, i_astore, i_iinc, i_dup, i_dup2, i_pop, i_iadd, i_isub, i_imul, i_idiv, i_irem, i_ineg, i_iand, i_ior, i_ishl, i_ishr, i_lxor, i_ladd, i_lsub, i_lmul, i_ldiv, i_lrem, i_lneg, i_lshl, i_lcmp, i_i2l, i_l2i, i_i2b, i_i2s, i_ifeq, i_ifne, i_iflt, i_ifge, i_ifgt, i_ifle, i_cmpeq, i_cmpne, i_cmplt, i_cmpge, i_cmpgt, i_cmple, i_acmpeq, i_acmpne, i_ifnull, i_ifnonnull, i_getI, i_getR, i_putI, i_putZ, i_putR, i_ald, i_ldL, i_ldR, i_ast, i_stL, i_stR, i_alen, i_new, i_newa, i_iret, i_zret, i_lret, i_aret, i_vret, i_raise, i_throw, i_recv, i_objinit, i_tsw3, lget, lset, lput1, lput2, lkil, ltrim, largs, isL, takev, dropv, nthv, pushO, catv, gd, true_and, and_true, Option.some.injEq, Prod.mk.injEq, exists_eq_left', if_true, if_false, reduceCtorEq, Bool.false_eq_true, lcmp_ge, lcmp_lt, lcmp_le, lcmp_gt, lcmp_eq, true_or, or_true, not_true_eq_false, not_false_eq_true, false_implies, true_implies, List.length_cons, List.length_nil, p1, p4, p51, x1, m1, m3]
      repeat (first | refine ⟨in_small (by omega) (by omega), ?_⟩ | (show (_ → _) ∧ (_ → _); first | refine ⟨by omega, fun _ => ?_⟩ | refine ⟨fun _ => ?_, by omega⟩) | refine ⟨by omega, ?_⟩ | refine ⟨⟨_, rfl, by assumption⟩, ?_⟩ | refine ⟨okT_I _, ?_⟩ | refine call0 (gd_of rfl) ?_)
      refine sp_X17_copy m4 m2 (d2.1.congr (fun j => by simp only [pmu]; rw [if_neg (fun q => by omega)]) (fun j => by simp only [pmu]; rw [if_neg (fun q => by omega)])) hq.n hq.n (by omega) fun D2 f1 f2 => ?_
      simp only [P_X19_to, i_kil, i_icon, i_lcon, i_null, i_loadI, i_loadL, i_loadR, i_istore, i_lstore, i_astore, i_iinc, i_dup, i_dup2, i_pop, i_iadd, i_isub, i_imul, i_idiv, i_irem, i_ineg, i_iand, i_ior, i_ishl, i_ishr, i_lxor, i_ladd, i_lsub, i_lmul, i_ldiv, i_lrem, i_lneg, i_lshl, i_lcmp, i_i2l, i_l2i, i_i2b, i_i2s, i_ifeq, i_ifne, i_iflt, i_ifge, i_ifgt, i_ifle, i_cmpeq, i_cmpne, i_cmplt, i_cmpge, i_cmpgt, i_cmple, i_acmpeq, i_acmpne, i_ifnull, i_ifnonnull, i_getI, i_getR, i_putI, i_putZ, i_putR, i_ald, i_ldL, i_ldR, i_ast, i_stL, i_stR, i_alen, i_new, i_newa, i_iret, i_zret, i_lret, i_aret, i_vret, i_raise, i_throw, i_recv, i_objinit, i_tsw3, lget, lset, lput1, lput2, lkil, ltrim, largs, isL, takev, dropv, nthv, pushO, catv, gd, true_and, and_true, Option.some.injEq, Prod.mk.injEq, exists_eq_left', if_true, if_false, reduceCtorEq, Bool.false_eq_true, lcmp_ge, lcmp_lt, lcmp_le, lcmp_gt, lcmp_eq, true_or, or_true, not_true_eq_false, not_false_eq_true, false_implies, true_implies, List.length_cons, List.length_nil, p1, p6, p71, x1, m5, m7]
      repeat (first | refine ⟨in_small (by omega) (by omega), ?_⟩ | (show (_ → _) ∧ (_ → _); first | refine ⟨by omega, fun _ => ?_⟩ | refine ⟨fun _ => ?_, by omega⟩) | refine ⟨by omega, ?_⟩ | refine ⟨⟨_, rfl, by assumption⟩, ?_⟩ | refine ⟨okT_I _, ?_⟩ | refine call0 (gd_of rfl) ?_)
      have hd2 : wD 2 1 D2 (p + 124 + 2 * i) ((φ (e i)).den : Int) := d2.2.congr (fun j => by rw [f1 _ _ (by omega) (by omega)]; simp only [pmu]; rw [if_neg (fun q => by omega)]) (fun j => by rw [f1 _ _ (by omega) (by omega)]; simp only [pmu]; rw [if_neg (fun q => by omega)])
      refine sp_X17_copy m8 m6 hd2 hq.d hq.d (by omega) fun D3 g1 g2 => ?_
      simp only [P_X19_to, i_kil, i_icon, i_lcon, i_null, i_loadI, i_loadL, i_loadR, i_istore, i_lstore, i_astore, i_iinc, i_dup, i_dup2, i_pop, i_iadd, i_isub, i_imul, i_idiv, i_irem, i_ineg, i_iand, i_ior, i_ishl, i_ishr, i_lxor, i_ladd, i_lsub, i_lmul, i_ldiv, i_lrem, i_lneg, i_lshl, i_lcmp, i_i2l, i_l2i, i_i2b, i_i2s, i_ifeq, i_ifne, i_iflt, i_ifge, i_ifgt, i_ifle, i_cmpeq, i_cmpne, i_cmplt, i_cmpge, i_cmpgt, i_cmple, i_acmpeq, i_acmpne, i_ifnull, i_ifnonnull, i_getI, i_getR, i_putI, i_putZ, i_putR, i_ald, i_ldL, i_ldR, i_ast, i_stL, i_stR, i_alen, i_new, i_newa, i_iret, i_zret, i_lret, i_aret, i_vret, i_raise, i_throw, i_recv, i_objinit, i_tsw3, lget, lset, lput1, lput2, lkil, ltrim, largs, isL, takev, dropv, nthv, pushO, catv, gd, true_and, and_true, Option.some.injEq, Prod.mk.injEq, exists_eq_left', if_true, if_false, reduceCtorEq, Bool.false_eq_true, lcmp_ge, lcmp_lt, lcmp_le, lcmp_gt, lcmp_eq, true_or, or_true, not_true_eq_false, not_false_eq_true, false_implies, true_implies, List.length_cons, List.length_nil]
      repeat (first | refine ⟨in_small (by omega) (by omega), ?_⟩ | (show (_ → _) ∧ (_ → _); first | refine ⟨by omega, fun _ => ?_⟩ | refine ⟨fun _ => ?_, by omega⟩) | refine ⟨by omega, ?_⟩ | refine ⟨⟨_, rfl, by assumption⟩, ?_⟩ | refine ⟨okT_I _, ?_⟩ | refine call0 (gd_of rfl) ?_)
      rw [show ((i + 1 : Nat) : Int) + -1 = (i : Nat) by omega]
      have fr : ∀ c j, c ≠ p + 3 + 2 * (i + 1) → c ≠ p + 3 + 2 * (i + 1) + 1 → c ≠ p + 124 + 2 * (i + 1) → c ≠ p + 124 + 2 * (i + 1) + 1 → (c ≠ p + 1 ∨ j ≠ ((i + 1 : Nat) : Int)) → D3 c j = D c j := fun c j y1 y2 y3 y4 y5 => by
        rw [g1 _ _ y3 y4, f1 _ _ y1 y2]
        simp only [pmu]; rw [if_neg (fun q => by omega)]
      have frn : mpE D3 p (i + 1) (e i) (φ (e i)) := by
        refine ⟨?_, f2.congr (fun j => g1 _ _ (by omega) (by omega)) (fun j => g1 _ _ (by omega) (by omega)), g2⟩
        rw [g1 _ _ (by omega) (by omega), f1 _ _ (by omega) (by omega)]
        simp [pmu]
      refine ih D3 (by omega) (fun c j hc => by rw [fr c j (by omega) (by omega) (by omega) (by omega) (by omega)]; exact hO c j hc) ⟨by rw [fr _ _ (by omega) (by omega) (by omega) (by omega) (by omega)]; exact b1, fun k hk => (b2 k (by omega)).congr fun c j hc => fr c j (by omega) (by omega) (by omega) (by omega) (by omega), fun k hk hk2 => ?_⟩ fun k hk hk2 => ?_
      · by_cases q : k = i + 1
        · subst q; rw [Nat.add_sub_cancel]; exact frn
        · exact (b3 k (by omega) hk2).congr fun c j hc => fr c j (by omega) (by omega) (by omega) (by omega) (by omega)
      · by_cases q : k = i
        · rw [q]; exact hlt
        · exact hlo k (by omega) hk2
theorem mpD.hole {D : Dat} {p n : Nat} {φ : Nat → Rat} {e : Nat → Nat} (h : mpD D p φ n e) : mpH D p φ n n e := ⟨h.2.1, fun k hk => ⟨(h.2.2.1 k hk).2.1, (h.2.2.1 k hk).2.2.1⟩, fun k h1 h2 => by omega⟩
set_option maxHeartbeats 2000000 in
theorem sp_X16_insert {E : Ex} {B : Nat × Nat} {S : Stat} {D : Dat} {p t na de rn rd : Nat} {φ : Nat → Rat} {x : Rat} {z : Int} (hp : mpS S p) (hD : mpP D p φ) (hn : pcnt φ 455 + 1 ≤ 60) (ht : t < 455) (h0 : φ t = 0) (hx : x ≠ 0) (hf : qfit x) (hz : z = tcode t) (hna : wS 17 S na rn) (hde : wS 17 S de rd) (l1 : na + 1 < p ∨ p + 243 < na) (l2 : de + 1 < p ∨ p + 243 < de) (m1 : 14 ≤ rn) (m2 : 14 ≤ rd) (hX : frD D na de x)
    (K : ∀ D' : Dat, mpO D D' p → mpP D' p (pupd φ t x) → E (.inl none) B S D') : Wp P_X16_insert E 0 [some (aR p), some (aI z), some (aR na), some (aR de)] [] B S D := by
  subst hz
  obtain ⟨n, e, hD⟩ := hD
  have hc := hD.cnt
  rw [← hc] at hn
  have hno : ∀ k, k < n → e k ≠ t := fun k hk q => (hD.2.2.1 k hk).2.2.2 (by rw [q]; exact h0)
  have hp0 := hp
  obtain ⟨p1, p2, p3, p4, p5, p6, p7⟩ := hp
  have p51 := p5.1
  have p71 := p7.1
  have hm := hD.2.1
  refine wp_in ?_
  simp only [P_X16_insert, i_kil, i_icon, i_lcon, i_null, i_loadI, i_loadL, i_loadR, i_istore, i_lstore, i_astore, i_iinc, i_dup, i_dup2, i_pop, i_iadd, i_isub, i_imul, i_idiv, i_irem, i_ineg, i_iand, i_ior, i_ishl, i_ishr, i_lxor, i_ladd, i_lsub, i_lmul, i_ldiv, i_lrem, i_lneg, i_lshl, i_lcmp, i_i2l, i_l2i, i_i2b, i_i2s, i_ifeq, i_ifne, i_iflt, i_ifge, i_ifgt, i_ifle, i_cmpeq, i_cmpne, i_cmplt, i_cmpge, i_cmpgt, i_cmple, i_acmpeq, i_acmpne, i_ifnull, i_ifnonnull, i_getI, i_getR, i_putI, i_putZ, i_putR, i_ald, i_ldL, i_ldR, i_ast, i_stL, i_stR, i_alen, i_new, i_newa, i_iret, i_zret, i_lret, i_aret, i_vret, i_raise, i_throw, i_recv, i_objinit, i_tsw3, lget, lset, lput1, lput2, lkil, ltrim, largs, isL, takev, dropv, nthv, pushO, catv, gd, true_and, and_true, Option.some.injEq, Prod.mk.injEq, exists_eq_left', if_true, if_false, reduceCtorEq, Bool.false_eq_true, lcmp_ge, lcmp_lt, lcmp_le, lcmp_gt, lcmp_eq, true_or, or_true, not_true_eq_false, not_false_eq_true, false_implies, true_implies, List.length_cons, List.length_nil, p1, hm]
  repeat (first | refine ⟨in_small (by omega) (by omega), ?_⟩ | (show (_ → _) ∧ (_ → _); first | refine ⟨by omega, fun _ => ?_⟩ | refine ⟨fun _ => ?_, by omega⟩) | refine ⟨by omega, ?_⟩ | refine ⟨⟨_, rfl, by assumption⟩, ?_⟩ | refine ⟨okT_I _, ?_⟩ | refine call0 (gd_of rfl) ?_)
  refine ins_shift (na := na) (de := de) hp0 hD hn ht hno (fun D1 i hi hO hH hlo hhi => ?_) n D (Nat.le_refl _) (fun _ _ _ => rfl) hD.hole (fun k h1 h2 => by omega)
  obtain ⟨b1, b2, b3⟩ := hH
  obtain ⟨m3, m4⟩ := p5.2 i (by omega)
  obtain ⟨m5, m6⟩ := p7.2 i (by omega)
  have w3 := m4.1
  have w5 := m6.1
  have hX1 : frD D1 na de x := hX.congr fun c j hc => hO c j (by omega)
  refine wp_in ?_
  simp only [P_X16_insert, i_kil, i_icon, i_lcon, i_null, i_loadI, i_loadL, i_loadR, i_istore, i_lstore, i_astore, i_iinc, i_dup, i_dup2, i_pop, i_iadd, i_isub, i_imul, i_idiv, i_irem, i_ineg, i_iand, i_ior, i_ishl, i_ishr, i_lxor, i_ladd, i_lsub, i_lmul, i_ldiv, i_lrem, i_lneg, i_lshl, i_lcmp, i_i2l, i_l2i, i_i2b, i_i2s, i_ifeq, i_ifne, i_iflt, i_ifge, i_ifgt, i_ifle, i_cmpeq, i_cmpne, i_cmplt, i_cmpge, i_cmpgt, i_cmple, i_acmpeq, i_acmpne, i_ifnull, i_ifnonnull, i_getI, i_getR, i_putI, i_putZ, i_putR, i_ald, i_ldL, i_ldR, i_ast, i_stL, i_stR, i_alen, i_new, i_newa, i_iret, i_zret, i_lret, i_aret, i_vret, i_raise, i_throw, i_recv, i_objinit, i_tsw3, lget, lset, lput1, lput2, lkil, ltrim, largs, isL, takev, dropv, nthv, pushO, catv, gd, true_and, and_true, Option.some.injEq, Prod.mk.injEq, exists_eq_left', if_true, if_false, reduceCtorEq, Bool.false_eq_true, lcmp_ge, lcmp_lt, lcmp_le, lcmp_gt, lcmp_eq, true_or, or_true, not_true_eq_false, not_false_eq_true, false_implies, true_implies, List.length_cons, List.length_nil, p1, p2, p3, p4, p51, m3]
  repeat (first | refine ⟨in_small (by omega) (by omega), ?_⟩ | (show (_ → _) ∧ (_ → _); first | refine ⟨by omega, fun _ => ?_⟩ | refine ⟨fun _ => ?_, by omega⟩) | refine ⟨by omega, ?_⟩ | refine ⟨⟨_, rfl, by assumption⟩, ?_⟩ | refine ⟨okT_I _, ?_⟩ | refine call0 (gd_of rfl) ?_)
  refine sp_X17_copy m4 hna (hX1.1.congr (fun j => by simp only [pmu]; rw [if_neg (fun q => by omega)]) (fun j => by simp only [pmu]; rw [if_neg (fun q => by omega)])) hf.n (Int.lt_of_lt_of_le hf.n (pw_mono m1)) (by omega) fun D2 f1 f2 => ?_
  simp only [P_X16_insert, i_kil, i_icon, i_lcon, i_null, i_loadI, i_loadL, i_loadR, i_istore, i_lstore, i_astore, i_iinc, i_dup, i_dup2, i_pop, i_iadd, i_isub, i_imul, i_idiv, i_irem, i_ineg, i_iand, i_ior, i_ishl, i_ishr, i_lxor, i_ladd, i_lsub, i_lmul, i_ldiv, i_lrem, i_lneg, i_lshl, i_lcmp, i_i2l, i_l2i, i_i2b, i_i2s, i_ifeq, i_ifne, i_iflt, i_ifge, i_ifgt, i_ifle, i_cmpeq, i_cmpne, i_cmplt, i_cmpge, i_cmpgt, i_cmple, i_acmpeq, i_acmpne, i_ifnull, i_ifnonnull, i_getI, i_getR, i_putI, i_putZ, i_putR, i_ald, i_ldL, i_ldR, i_ast, i_stL, i_stR, i_alen, i_new, i_newa, i_iret, i_zret, i_lret, i_aret, i_vret, i_raise, i_throw, i_recv, i_objinit, i_tsw3, lget, lset, lput1, lput2, lkil, ltrim, largs, isL, takev, dropv, nthv, pushO, catv, gd, true_and, and_true, Option.some.injEq, Prod.mk.injEq, exists_eq_left', if_true, if_false, reduceCtorEq, Bool.false_eq_true, lcmp_ge, lcmp_lt, lcmp_le, lcmp_gt, lcmp_eq, true_or, or_true, not_true_eq_false, not_false_eq_true, false_implies, true_implies, List.length_cons, List.length_nil, p1, p6, p71, m5]
  repeat (first | refine ⟨in_small (by omega) (by omega), ?_⟩ | (show (_ → _) ∧ (_ → _); first | refine ⟨by omega, fun _ => ?_⟩ | refine ⟨fun _ => ?_, by omega⟩) | refine ⟨by omega, ?_⟩ | refine ⟨⟨_, rfl, by assumption⟩, ?_⟩ | refine ⟨okT_I _, ?_⟩ | refine call0 (gd_of rfl) ?_)
  refine sp_X17_copy m6 hde (hX1.2.congr (fun j => by rw [f1 _ _ (by omega) (by omega)]; simp only [pmu]; rw [if_neg (fun q => by omega)]) (fun j => by rw [f1 _ _ (by omega) (by omega)]; simp only [pmu]; rw [if_neg (fun q => by omega)])) hf.d (Int.lt_of_lt_of_le hf.d (pw_mono m2)) (by omega) fun D3 g1 g2 => ?_
  have fr : ∀ c j, c ≠ p + 3 + 2 * i → c ≠ p + 3 + 2 * i + 1 → c ≠ p + 124 + 2 * i → c ≠ p + 124 + 2 * i + 1 → (c ≠ p + 1 ∨ j ≠ (i : Int)) → D3 c j = D1 c j := fun c j y1 y2 y3 y4 y5 => by
    rw [g1 _ _ y3 y4, f1 _ _ y1 y2]
    simp only [pmu]; rw [if_neg (fun q => by omega)]
  have hm3 : D3 p 0 = n := by rw [fr _ _ (by omega) (by omega) (by omega) (by omega) (by omega)]; exact b1
  simp only [P_X16_insert, i_kil, i_icon, i_lcon, i_null, i_loadI, i_loadL, i_loadR, i_istore, i_lstore, i_astore, i_iinc, i_dup, i_dup2, i_pop, i_iadd, i_isub, i_imul, i_idiv, i_irem, i_ineg, i_iand, i_ior, i_ishl, i_ishr, i_lxor, i_ladd, i_lsub, i_lmul, i_ldiv, i_lrem, i_lneg, i_lshl, i_lcmp, i_i2l, i_l2i, i_i2b, i_i2s, i_ifeq, i_ifne, i_iflt, i_ifge, i_ifgt, i_ifle, i_cmpeq, i_cmpne, i_cmplt, i_cmpge, i_cmpgt, i_cmple, i_acmpeq, i_acmpne, i_ifnull, i_ifnonnull, i_getI, i_getR, i_putI, i_putZ, i_putR, i_ald, i_ldL, i_ldR, i_ast, i_stL, i_stR, i_alen, i_new, i_newa, i_iret, i_zret, i_lret, i_aret, i_vret, i_raise, i_throw, i_recv, i_objinit, i_tsw3, lget, lset, lput1, lput2, lkil, ltrim, largs, isL, takev, dropv, nthv, pushO, catv, gd, true_and, and_true, Option.some.injEq, Prod.mk.injEq, exists_eq_left', if_true, if_false, reduceCtorEq, Bool.false_eq_true, lcmp_ge, lcmp_lt, lcmp_le, lcmp_gt, lcmp_eq, true_or, or_true, not_true_eq_false, not_false_eq_true, false_implies, true_implies, List.length_cons, List.length_nil, p1, hm3]
  repeat (first | refine ⟨in_small (by omega) (by omega), ?_⟩ | (show (_ → _) ∧ (_ → _); first | refine ⟨by omega, fun _ => ?_⟩ | refine ⟨fun _ => ?_, by omega⟩) | refine ⟨by omega, ?_⟩ | refine ⟨⟨_, rfl, by assumption⟩, ?_⟩ | refine ⟨okT_I _, ?_⟩ | refine call0 (gd_of rfl) ?_)
  have nz : ∀ c j, c ≠ p → pmu D3 p 0 ((n : Int) + 1) c j = D3 c j := fun c j h => by simp only [pmu]; rw [if_neg (fun q => h q.1)]
  refine K _ (fun c j hc => by rw [nz c j (by omega), fr c j (by omega) (by omega) (by omega) (by omega) (by omega)]; exact hO c j hc) ⟨n + 1, _, ins_done hD hn hi ht hno hlo hhi hx hf (by simp [pmu]) (fun k hk => (b2 k hk).congr fun c j hc => by rw [nz c j (by omega)]; exact fr c j (by omega) (by omega) (by omega) (by omega) (by omega)) (fun k h1 h2 => (b3 k h1 h2).congr fun c j hc => by rw [nz c j (by omega)]; exact fr c j (by omega) (by omega) (by omega) (by omega) (by omega)) ⟨?_, f2.congr (fun j => ?_) (fun j => ?_), g2.congr (fun j => ?_) (fun j => ?_)⟩⟩
  · rw [nz _ _ (by omega), g1 _ _ (by omega) (by omega), f1 _ _ (by omega) (by omega)]
    simp [pmu]
  · rw [nz _ _ (by omega)]; exact g1 _ _ (by omega) (by omega)
  · rw [nz _ _ (by omega)]; exact g1 _ _ (by omega) (by omega)
  · rw [nz _ _ (by omega)]
  · rw [nz _ _ (by omega)]
theorem eres_same {φ : Nat → Rat} {e : Nat → Nat} {n : Nat} (h : φ (e n) = 0) (hi : ∀ k, k < n → e k ≠ e n) : eres φ e (n + 1) = eres φ e n := by
  funext t
  simp only [eres, pupd]
  split
  · rename_i q; rw [q, h, (eres_at n (e n)).1 hi]
  · rfl
theorem ecnt_mono (φ : Nat → Rat) (e : Nat → Nat) {m : Nat} : ∀ n, m ≤ n → ecnt φ e m ≤ ecnt φ e n := by
  intro n
  induction n with
  | zero => intro h; rw [Nat.le_zero.mp h]; exact Nat.le_refl _
  | succ n ih =>
    intro h
    rcases Nat.lt_or_ge m (n + 1) with q | q
    · have := ih (by omega); simp only [ecnt]; omega
    · rw [Nat.le_antisymm h q]; exact Nat.le_refl _
theorem mpD.ext {D : Dat} {p n : Nat} {φ ψ : Nat → Rat} {e : Nat → Nat} (h : mpD D p φ n e) (he : ∀ t, φ t = ψ t) : mpD D p ψ n e := by
  rwa [← show φ = ψ from funext he]
set_option maxHeartbeats 4000000 in
theorem sp_X19_to {E : Ex} {B : Nat × Nat} {S : Stat} {D : Dat} {s p : Nat} {φ : Nat → Rat} (hs : smS S s) (hp : mpS S p) (hfar : s + 1824 < p ∨ p + 243 < s) (hD : smP D s φ) (hc60 : pcnt φ 455 ≤ 60)
    (K : ∀ D' : Dat, mpO D D' p → mpP D' p φ → E (.inl none) B S D') : Wp P_X19_to E 0 [some (aR s), some (aR p)] [] B S D := by
  have hs0 := hs
  have hp0 := hp
  obtain ⟨s1, s2, s3, s4, s5, s6, s7, s8, s9⟩ := hs
  obtain ⟨p1, p2, p3, p4, p5, p6, p7⟩ := hp
  obtain ⟨N, e, hD⟩ := hD
  have hD0 := hD
  obtain ⟨h1, h2, h3, h4, h5, h6⟩ := hD
  have s71 := s7.1
  have s91 := s9.1
  have p51 := p5.1
  have p71 := p7.1
  have hall := ecnt_all (fun k hk => (h3 k hk).1) (fun j k hj hk w => hD0.inj hj hk w) h5
  have hcn : ∀ k, k ≤ N → pcnt (eres φ e k) 455 = ecnt φ e k := fun k hk => ecnt_pcnt k (fun j hj => (h3 j (by omega)).1) fun i j hi hj w => hD0.inj (by omega) (by omega) w
  have loop : ∀ (L k : Nat) (D1 : Dat), k + L = N → mpO D D1 p → mpP D1 p (eres φ e k) → Wp P_X19_to E 1 [some (aR s), some (aR p), some (aI k)] [] B S D1 := by
    intro L
    induction L with
    | zero =>
      intro k D1 hk hO hP
      have : k = N := by omega
      subst this
      have hm : D1 s 0 = k := by rw [hO _ _ (by omega)]; exact h2
      refine wp_in ?_
      simp only [P_X19_to, i_kil, i_icon, i_lcon, i_null, i_loadI, i_loadL, i_loadR, i_istore, i_lstore, i_astore, i_iinc, i_dup, i_dup2, i_pop, i_iadd, i_isub, i_imul, i_idiv, i_irem, i_ineg, i_iand, i_ior, i_ishl, i_ishr, i_lxor, i_ladd, i_lsub, i_lmul, i_ldiv, i_lrem, i_lneg, i_lshl, i_lcmp, i_i2l, i_l2i, i_i2b, i_i2s, i_ifeq, i_ifne, i_iflt, i_ifge, i_ifgt, i_ifle, i_cmpeq, i_cmpne, i_cmplt, i_cmpge, i_cmpgt, i_cmple, i_acmpeq, i_acmpne, i_ifnull, i_ifnonnull, i_getI, i_getR, i_putI, i_putZ, i_putR, i_ald, i_ldL, i_ldR, i_ast, i_stL, i_stR, i_alen, i_new, i_newa, i_iret, i_zret, i_lret, i_aret, i_vret, i_raise, i_throw, i_recv, i_objinit, i_tsw3, lget, lset, lput1, lput2, lkil, ltrim, largs, isL, takev, dropv, nthv, pushO, catv, gd, true_and, and_true, Option.some.injEq, Prod.mk.injEq, exists_eq_left', if_true, if_false, reduceCtorEq, Bool.false_eq_true, lcmp_ge, lcmp_lt, lcmp_le, lcmp_gt, lcmp_eq, true_or, or_true, not_true_eq_false, not_false_eq_true, false_implies, true_implies, List.length_cons, List.length_nil, s1, hm]
      repeat (first | refine ⟨in_small (by omega) (by omega), ?_⟩ | (show (_ → _) ∧ (_ → _); first | refine ⟨by omega, fun _ => ?_⟩ | refine ⟨fun _ => ?_, by omega⟩) | refine ⟨by omega, ?_⟩ | refine ⟨⟨_, rfl, by assumption⟩, ?_⟩ | refine ⟨okT_I _, ?_⟩ | refine call0 (gd_of rfl) ?_)
      refine K D1 hO ?_
      obtain ⟨n, e', hP⟩ := hP
      refine ⟨n, e', hP.ext fun t => ?_⟩
      rcases Nat.lt_or_ge t 455 with ht | ht
      · rcases Classical.em (∃ j, j < k ∧ e j = t) with q | q
        · exact (eres_at k t).2 q
        · have : ∀ j, j < k → e j ≠ t := fun j hj w => q ⟨j, hj, w⟩
          rw [(eres_at k t).1 this, h5 t ht this]
      · rw [(eres_at k t).1 fun j hj w => by have := (h3 j hj).1; omega, h6.2 t ht]
    | succ L ih =>
      intro k D1 hk hO hP
      have hm : D1 s 0 = N := by rw [hO _ _ (by omega)]; exact h2
      obtain ⟨a1, a2, a3, a4⟩ := h3 k (by omega)
      obtain ⟨n1, n2⟩ := s7.2 k (by omega)
      obtain ⟨n3, n4⟩ := s9.2 k (by omega)
      have w1 := n2.1
      have a41 : frD D1 (s + 4 + 2 * k) (s + 915 + 2 * k) (φ (e k)) := a4.congr fun c j hc => hO c j (by omega)
      have a21 : D1 (s + 1) k = tcode (e k) := by rw [hO _ _ (by omega)]; exact a2
      have hz := fr_zero a41
      have hinj : ∀ j, j < k → e j ≠ e k := fun j hj w => by have := hD0.inj (by omega) (by omega) w; omega
      have next : ∀ D2 : Dat, mpO D D2 p → mpP D2 p (eres φ e (k + 1)) → Wp P_X19_to E 4 [some (aR s), some (aR p), some (aI k)] [] B S D2 := fun D2 y1 y2 => by
        refine wp_in ?_
        simp only [P_X19_to, i_kil, i_icon, i_lcon, i_null, i_loadI, i_loadL, i_loadR, i_istore, i_lstore, i_astore, i_iinc, i_dup, i_dup2, i_pop, i_iadd, i_isub, i_imul, i_idiv, i_irem, i_ineg, i_iand, i_ior, i_ishl, i_ishr, i_lxor, i_ladd, i_lsub, i_lmul, i_ldiv, i_lrem, i_lneg, i_lshl, i_lcmp, i_i2l, i_l2i, i_i2b, i_i2s, i_ifeq, i_ifne, i_iflt, i_ifge, i_ifgt, i_ifle, i_cmpeq, i_cmpne, i_cmplt, i_cmpge, i_cmpgt, i_cmple, i_acmpeq, i_acmpne, i_ifnull, i_ifnonnull, i_getI, i_getR, i_putI, i_putZ, i_putR, i_ald, i_ldL, i_ldR, i_ast, i_stL, i_stR, i_alen, i_new, i_newa, i_iret, i_zret, i_lret, i_aret, i_vret, i_raise, i_throw, i_recv, i_objinit, i_tsw3, lget, lset, lput1, lput2, lkil, ltrim, largs, isL, takev, dropv, nthv, pushO, catv, gd, true_and, and_true, Option.some.injEq, Prod.mk.injEq, exists_eq_left', if_true, if_false, reduceCtorEq, Bool.false_eq_true, lcmp_ge, lcmp_lt, lcmp_le, lcmp_gt, lcmp_eq, true_or, or_true, not_true_eq_false, not_false_eq_true, false_implies, true_implies, List.length_cons, List.length_nil]
        repeat (first | refine ⟨in_small (by omega) (by omega), ?_⟩ | (show (_ → _) ∧ (_ → _); first | refine ⟨by omega, fun _ => ?_⟩ | refine ⟨fun _ => ?_, by omega⟩) | refine ⟨by omega, ?_⟩ | refine ⟨⟨_, rfl, by assumption⟩, ?_⟩ | refine ⟨okT_I _, ?_⟩ | refine call0 (gd_of rfl) ?_)
        exact ih (k + 1) D2 (by omega) y1 y2
      refine wp_in ?_
      simp only [P_X19_to, i_kil, i_icon, i_lcon, i_null, i_loadI, i_loadL, i_loadR, i_istore, i_lstore, i_astore, i_iinc, i_dup, i_dup2, i_pop, i_iadd, i_isub, i_imul, i_idiv, i_irem, i_ineg, i_iand, i_ior, i_ishl, i_ishr, i_lxor, i_ladd, i_lsub, i_lmul, i_ldiv, i_lrem, i_lneg, i_lshl, i_lcmp, i_i2l, i_l2i, i_i2b, i_i2s, i_ifeq, i_ifne, i_iflt, i_ifge, i_ifgt, i_ifle, i_cmpeq, i_cmpne, i_cmplt, i_cmpge, i_cmpgt, i_cmple, i_acmpeq, i_acmpne, i_ifnull, i_ifnonnull, i_getI, i_getR, i_putI, i_putZ, i_putR, i_ald, i_ldL, i_ldR, i_ast, i_stL, i_stR, i_alen, i_new, i_newa, i_iret, i_zret, i_lret, i_aret, i_vret, i_raise, i_throw, i_recv, i_objinit, i_tsw3, lget, lset, lput1, lput2, lkil, ltrim, largs, isL, takev, dropv, nthv, pushO, catv, gd, true_and, and_true, Option.some.injEq, Prod.mk.injEq, exists_eq_left', if_true, if_false, reduceCtorEq, Bool.false_eq_true, lcmp_ge, lcmp_lt, lcmp_le, lcmp_gt, lcmp_eq, true_or, or_true, not_true_eq_false, not_false_eq_true, false_implies, true_implies, List.length_cons, List.length_nil, s1, s6, s71, n1, w1, hm]
      repeat (first | refine ⟨in_small (by omega) (by omega), ?_⟩ | (show (_ → _) ∧ (_ → _); first | refine ⟨by omega, fun _ => ?_⟩ | refine ⟨fun _ => ?_, by omega⟩) | refine ⟨by omega, ?_⟩ | refine ⟨⟨_, rfl, by assumption⟩, ?_⟩ | refine ⟨okT_I _, ?_⟩ | refine call0 (gd_of rfl) ?_)
      refine ⟨fun q => ?_, fun q => ?_⟩
      · have q2 : ¬ φ (e k) = 0 := fun w => q (hz.mpr w)
        obtain ⟨n, e', hP'⟩ := hP
        have hn : n = ecnt φ e k := by rw [hP'.cnt, hcn k (by omega)]
        have hn60 : n + 1 ≤ 60 := by
          have m := ecnt_mono φ e (m := k + 1) N (by omega)
          simp only [ecnt] at m
          rw [if_neg q2] at m
          omega
        have hno : ∀ j, j < n → e' j ≠ e k := fun j hj w => (hP'.2.2.1 j hj).2.2.2 (by rw [w]; exact (eres_at k (e k)).1 hinj)
        have hm1 := hP'.2.1
        simp only [P_X19_to, i_kil, i_icon, i_lcon, i_null, i_loadI, i_loadL, i_loadR, i_istore, i_lstore, i_astore, i_iinc, i_dup, i_dup2, i_pop, i_iadd, i_isub, i_imul, i_idiv, i_irem, i_ineg, i_iand, i_ior, i_ishl, i_ishr, i_lxor, i_ladd, i_lsub, i_lmul, i_ldiv, i_lrem, i_lneg, i_lshl, i_lcmp, i_i2l, i_l2i, i_i2b, i_i2s, i_ifeq, i_ifne, i_iflt, i_ifge, i_ifgt, i_ifle, i_cmpeq, i_cmpne, i_cmplt, i_cmpge, i_cmpgt, i_cmple, i_acmpeq, i_acmpne, i_ifnull, i_ifnonnull, i_getI, i_getR, i_putI, i_putZ, i_putR, i_ald, i_ldL, i_ldR, i_ast, i_stL, i_stR, i_alen, i_new, i_newa, i_iret, i_zret, i_lret, i_aret, i_vret, i_raise, i_throw, i_recv, i_objinit, i_tsw3, lget, lset, lput1, lput2, lkil, ltrim, largs, isL, takev, dropv, nthv, pushO, catv, gd, true_and, and_true, Option.some.injEq, Prod.mk.injEq, exists_eq_left', if_true, if_false, reduceCtorEq, Bool.false_eq_true, lcmp_ge, lcmp_lt, lcmp_le, lcmp_gt, lcmp_eq, true_or, or_true, not_true_eq_false, not_false_eq_true, false_implies, true_implies, List.length_cons, List.length_nil, p1, hm1]
        repeat (first | refine ⟨in_small (by omega) (by omega), ?_⟩ | (show (_ → _) ∧ (_ → _); first | refine ⟨by omega, fun _ => ?_⟩ | refine ⟨fun _ => ?_, by omega⟩) | refine ⟨by omega, ?_⟩ | refine ⟨⟨_, rfl, by assumption⟩, ?_⟩ | refine ⟨okT_I _, ?_⟩ | refine call0 (gd_of rfl) ?_)
        refine to_shift (s := s) (k := k) hs0 hfar (by omega) a21 hp0 hP' hn60 a1 hno (fun D2 i hi hO2 hH hlo hhi => ?_) n D1 (Nat.le_refl _) (fun _ _ _ => rfl) hP'.hole (fun j h1 h2 => by omega)
        obtain ⟨b1, b2, b3⟩ := hH
        obtain ⟨m3, m4⟩ := p5.2 i (by omega)
        obtain ⟨m5, m6⟩ := p7.2 i (by omega)
        have w3 := m4.1
        have w5 := m6.1
        have a42 : frD D2 (s + 4 + 2 * k) (s + 915 + 2 * k) (φ (e k)) := a41.congr fun c j hc => hO2 c j (by omega)
        have a22 : D2 (s + 1) k = tcode (e k) := by rw [hO2 _ _ (by omega)]; exact a21
        have hf := h6.1 (e k) a1
        refine wp_in ?_
        simp only [P_X19_to, i_kil, i_icon, i_lcon, i_null, i_loadI, i_loadL, i_loadR, i_istore, i_lstore, i_astore, i_iinc, i_dup, i_dup2, i_pop, i_iadd, i_isub, i_imul, i_idiv, i_irem, i_ineg, i_iand, i_ior, i_ishl, i_ishr, i_lxor, i_ladd, i_lsub, i_lmul, i_ldiv, i_lrem, i_lneg, i_lshl, i_lcmp, i_i2l, i_l2i, i_i2b, i_i2s, i_ifeq, i_ifne, i_iflt, i_ifge, i_ifgt, i_ifle, i_cmpeq, i_cmpne, i_cmplt, i_cmpge, i_cmpgt, i_cmple, i_acmpeq, i_acmpne, i_ifnull, i_ifnonnull, i_getI, i_getR, i_putI, i_putZ, i_putR, i_ald, i_ldL, i_ldR, i_ast, i_stL, i_stR, i_alen, i_new, i_newa, i_iret, i_zret, i_lret, i_aret, i_vret, i_raise, i_throw, i_recv, i_objinit, i_tsw3, lget, lset, lput1, lput2, lkil, ltrim, largs, isL, takev, dropv, nthv, pushO, catv, gd, true_and, and_true, Option.some.injEq, Prod.mk.injEq, exists_eq_left', if_true, if_false, reduceCtorEq, Bool.false_eq_true, lcmp_ge, lcmp_lt, lcmp_le, lcmp_gt, lcmp_eq, true_or, or_true, not_true_eq_false, not_false_eq_true, false_implies, true_implies, List.length_cons, List.length_nil, p1, p2, p3, p4, p51, m3, s1, s2, s3, s6, s71, n1, a22]
        repeat (first | refine ⟨in_small (by omega) (by omega), ?_⟩ | (show (_ → _) ∧ (_ → _); first | refine ⟨by omega, fun _ => ?_⟩ | refine ⟨fun _ => ?_, by omega⟩) | refine ⟨by omega, ?_⟩ | refine ⟨⟨_, rfl, by assumption⟩, ?_⟩ | refine ⟨okT_I _, ?_⟩ | refine call0 (gd_of rfl) ?_)
        refine sp_X17_copy m4 n2 (a42.1.congr (fun j => by simp only [pmu]; rw [if_neg (fun q => by omega)]) (fun j => by simp only [pmu]; rw [if_neg (fun q => by omega)])) hf.n hf.n (by omega) fun D3 f1 f2 => ?_
        simp only [P_X19_to, i_kil, i_icon, i_lcon, i_null, i_loadI, i_loadL, i_loadR, i_istore, i_lstore, i_astore, i_iinc, i_dup, i_dup2, i_pop, i_iadd, i_isub, i_imul, i_idiv, i_irem, i_ineg, i_iand, i_ior, i_ishl, i_ishr, i_lxor, i_ladd, i_lsub, i_lmul, i_ldiv, i_lrem, i_lneg, i_lshl, i_lcmp, i_i2l, i_l2i, i_i2b, i_i2s, i_ifeq, i_ifne, i_iflt, i_ifge, i_ifgt, i_ifle, i_cmpeq, i_cmpne, i_cmplt, i_cmpge, i_cmpgt, i_cmple, i_acmpeq, i_acmpne, i_ifnull, i_ifnonnull, i_getI, i_getR, i_putI, i_putZ, i_putR, i_ald, i_ldL, i_ldR, i_ast, i_stL, i_stR, i_alen, i_new, i_newa, i_iret, i_zret, i_lret, i_aret, i_vret, i_raise, i_throw, i_recv, i_objinit, i_tsw3, lget, lset, lput1, lput2, lkil, ltrim, largs, isL, takev, dropv, nthv, pushO, catv, gd, true_and, and_true, Option.some.injEq, Prod.mk.injEq, exists_eq_left', if_true, if_false, reduceCtorEq, Bool.false_eq_true, lcmp_ge, lcmp_lt, lcmp_le, lcmp_gt, lcmp_eq, true_or, or_true, not_true_eq_false, not_false_eq_true, false_implies, true_implies, List.length_cons, List.length_nil, p1, p6, p71, m5, s1, s8, s91, n3]
        repeat (first | refine ⟨in_small (by omega) (by omega), ?_⟩ | (show (_ → _) ∧ (_ → _); first | refine ⟨by omega, fun _ => ?_⟩ | refine ⟨fun _ => ?_, by omega⟩) | refine ⟨by omega, ?_⟩ | refine ⟨⟨_, rfl, by assumption⟩, ?_⟩ | refine ⟨okT_I _, ?_⟩ | refine call0 (gd_of rfl) ?_)
        refine sp_X17_copy m6 n4 (a42.2.congr (fun j => by rw [f1 _ _ (by omega) (by omega)]; simp only [pmu]; rw [if_neg (fun q => by omega)]) (fun j => by rw [f1 _ _ (by omega) (by omega)]; simp only [pmu]; rw [if_neg (fun q => by omega)])) hf.d hf.d (by omega) fun D4 g1 g2 => ?_
        have fr : ∀ c j, c ≠ p + 3 + 2 * i → c ≠ p + 3 + 2 * i + 1 → c ≠ p + 124 + 2 * i → c ≠ p + 124 + 2 * i + 1 → (c ≠ p + 1 ∨ j ≠ (i : Int)) → D4 c j = D2 c j := fun c j y1 y2 y3 y4 y5 => by
          rw [g1 _ _ y3 y4, f1 _ _ y1 y2]
          simp only [pmu]; rw [if_neg (fun q => by omega)]
        have hm3 : D4 p 0 = n := by rw [fr _ _ (by omega) (by omega) (by omega) (by omega) (by omega)]; exact b1
        simp only [P_X19_to, i_kil, i_icon, i_lcon, i_null, i_loadI, i_loadL, i_loadR, i_istore, i_lstore, i_astore, i_iinc, i_dup, i_dup2, i_pop, i_iadd, i_isub, i_imul, i_idiv, i_irem, i_ineg, i_iand, i_ior, i_ishl, i_ishr, i_lxor, i_ladd, i_lsub, i_lmul, i_ldiv, i_lrem, i_lneg, i_lshl, i_lcmp, i_i2l, i_l2i, i_i2b, i_i2s, i_ifeq, i_ifne, i_iflt, i_ifge, i_ifgt, i_ifle, i_cmpeq, i_cmpne, i_cmplt, i_cmpge, i_cmpgt, i_cmple, i_acmpeq, i_acmpne, i_ifnull, i_ifnonnull, i_getI, i_getR, i_putI, i_putZ, i_putR, i_ald, i_ldL, i_ldR, i_ast, i_stL, i_stR, i_alen, i_new, i_newa, i_iret, i_zret, i_lret, i_aret, i_vret, i_raise, i_throw, i_recv, i_objinit, i_tsw3, lget, lset, lput1, lput2, lkil, ltrim, largs, isL, takev, dropv, nthv, pushO, catv, gd, true_and, and_true, Option.some.injEq, Prod.mk.injEq, exists_eq_left', if_true, if_false, reduceCtorEq, Bool.false_eq_true, lcmp_ge, lcmp_lt, lcmp_le, lcmp_gt, lcmp_eq, true_or, or_true, not_true_eq_false, not_false_eq_true, false_implies, true_implies, List.length_cons, List.length_nil, p1, hm3]
        repeat (first | refine ⟨in_small (by omega) (by omega), ?_⟩ | (show (_ → _) ∧ (_ → _); first | refine ⟨by omega, fun _ => ?_⟩ | refine ⟨fun _ => ?_, by omega⟩) | refine ⟨by omega, ?_⟩ | refine ⟨⟨_, rfl, by assumption⟩, ?_⟩ | refine ⟨okT_I _, ?_⟩ | refine call0 (gd_of rfl) ?_)
        have nz : ∀ c j, c ≠ p → pmu D4 p 0 ((n : Int) + 1) c j = D4 c j := fun c j h => by simp only [pmu]; rw [if_neg (fun q => h q.1)]
        refine next _ (fun c j hc => by rw [nz c j (by omega), fr c j (by omega) (by omega) (by omega) (by omega) (by omega), hO2 c j hc]; exact hO c j hc) ⟨n + 1, _, ins_done hP' hn60 hi a1 hno hlo hhi q2 hf (by simp [pmu]) (fun j hj => (b2 j hj).congr fun c u hc => by rw [nz c u (by omega)]; exact fr c u (by omega) (by omega) (by omega) (by omega) (by omega)) (fun j h1 h2 => (b3 j h1 h2).congr fun c u hc => by rw [nz c u (by omega)]; exact fr c u (by omega) (by omega) (by omega) (by omega) (by omega)) ⟨?_, f2.congr (fun j => ?_) (fun j => ?_), g2.congr (fun j => ?_) (fun j => ?_)⟩⟩
        · rw [nz _ _ (by omega), g1 _ _ (by omega) (by omega), f1 _ _ (by omega) (by omega)]
          simp [pmu]
        · rw [nz _ _ (by omega)]; exact g1 _ _ (by omega) (by omega)
        · rw [nz _ _ (by omega)]; exact g1 _ _ (by omega) (by omega)
        · rw [nz _ _ (by omega)]
        · rw [nz _ _ (by omega)]
      · have q2 := hz.mp q
        refine next D1 hO ?_
        rw [eres_same q2 hinj]; exact hP
  refine wp_in ?_
  simp only [P_X19_to, i_kil, i_icon, i_lcon, i_null, i_loadI, i_loadL, i_loadR, i_istore, i_lstore, i_astore, i_iinc, i_dup, i_dup2, i_pop, i_iadd, i_isub, i_imul, i_idiv, i_irem, i_ineg, i_iand, i_ior, i_ishl, i_ishr, i_lxor, i_ladd, i_lsub, i_lmul, i_ldiv, i_lrem, i_lneg, i_lshl, i_lcmp, i_i2l, i_l2i, i_i2b, i_i2s, i_ifeq, i_ifne, i_iflt, i_ifge, i_ifgt, i_ifle, i_cmpeq, i_cmpne, i_cmplt, i_cmpge, i_cmpgt, i_cmple, i_acmpeq, i_acmpne, i_ifnull, i_ifnonnull, i_getI, i_getR, i_putI, i_putZ, i_putR, i_ald, i_ldL, i_ldR, i_ast, i_stL, i_stR, i_alen, i_new, i_newa, i_iret, i_zret, i_lret, i_aret, i_vret, i_raise, i_throw, i_recv, i_objinit, i_tsw3, lget, lset, lput1, lput2, lkil, ltrim, largs, isL, takev, dropv, nthv, pushO, catv, gd, true_and, and_true, Option.some.injEq, Prod.mk.injEq, exists_eq_left', if_true, if_false, reduceCtorEq, Bool.false_eq_true, lcmp_ge, lcmp_lt, lcmp_le, lcmp_gt, lcmp_eq, true_or, or_true, not_true_eq_false, not_false_eq_true, false_implies, true_implies, List.length_cons, List.length_nil, p1]
  refine loop N 0 _ (by omega) (fun c j hc => by simp only [pmu]; rw [if_neg (fun q => by omega)]) ⟨0, e, by omega, by simp [pmu], fun k hk => by omega, fun j k _ hk => by omega, fun _ _ _ => rfl, phi.zero⟩
set_option maxHeartbeats 2000000 in
theorem sp_X18_copy {E : Ex} {B : Nat × Nat} {S : Stat} {D : Dat} {p q : Nat} {φ : Nat → Rat} (hp : mpS S p) (hq : mpS S q) (hfar : p + 243 < q ∨ q + 243 < p) (hD : mpP D q φ)
    (K : ∀ D' : Dat, mpO D D' p → mpP D' p φ → E (.inl none) B S D') : Wp P_X18_copy E 0 [some (aR p), some (aR q)] [] B S D := by
  obtain ⟨p1, p2, p3, p4, p5, p6, p7⟩ := hp
  obtain ⟨q1, q2, q3, q4, q5, q6, q7⟩ := hq
  obtain ⟨n, e, h1, h2, h3, h4, h5, h6⟩ := hD
  have p51 := p5.1
  have p71 := p7.1
  have q51 := q5.1
  have q71 := q7.1
  have loop : ∀ (L k : Nat) (D1 : Dat), k + L = n → mpO D D1 p → D1 p 0 = n → (∀ j, j < k → mpE D1 p j (e j) (φ (e j))) → Wp P_X18_copy E 1 [some (aR p), some (aR q), some (aI k)] [] B S D1 := by
    intro L
    induction L with
    | zero =>
      intro k D1 hk hO hm hE
      have : k = n := by omega
      subst this
      refine wp_in ?_
      simp only [P_X18_copy, i_kil, i_icon, i_lcon, i_null, i_loadI, i_loadL, i_loadR, i_istore, i_lstore, i_astore, i_iinc, i_dup, i_dup2, i_pop, i_iadd, i_isub, i_imul, i_idiv, i_irem, i_ineg, i_iand, i_ior, i_ishl, i_ishr, i_lxor, i_ladd, i_lsub, i_lmul, i_ldiv, i_lrem, i_lneg, i_lshl, i_lcmp, i_i2l, i_l2i, i_i2b, i_i2s, i_ifeq, i_ifne, i_iflt, i_ifge, i_ifgt, i_ifle, i_cmpeq, i_cmpne, i_cmplt, i_cmpge, i_cmpgt, i_cmple, i_acmpeq, i_acmpne, i_ifnull, i_ifnonnull, i_getI, i_getR, i_putI, i_putZ, i_putR, i_ald, i_ldL, i_ldR, i_ast, i_stL, i_stR, i_alen, i_new, i_newa, i_iret, i_zret, i_lret, i_aret, i_vret, i_raise, i_throw, i_recv, i_objinit, i_tsw3, lget, lset, lput1, lput2, lkil, ltrim, largs, isL, takev, dropv, nthv, pushO, catv, gd, true_and, and_true, Option.some.injEq, Prod.mk.injEq, exists_eq_left', if_true, if_false, reduceCtorEq, Bool.false_eq_true, lcmp_ge, lcmp_lt, lcmp_le, lcmp_gt, lcmp_eq, true_or, or_true, not_true_eq_false, not_false_eq_true, false_implies, true_implies, List.length_cons, List.length_nil, p1, hm]
      repeat (first | refine ⟨in_small (by omega) (by omega), ?_⟩ | (show (_ → _) ∧ (_ → _); first | refine ⟨by omega, fun _ => ?_⟩ | refine ⟨fun _ => ?_, by omega⟩) | refine ⟨by omega, ?_⟩ | refine ⟨⟨_, rfl, by assumption⟩, ?_⟩ | refine ⟨okT_I _, ?_⟩ | refine call0 (gd_of rfl) ?_)
      exact K D1 hO ⟨k, e, h1, hm, fun j hj => ⟨(h3 j hj).1, (hE j hj).1, (hE j hj).2, (h3 j hj).2.2.2⟩, h4, h5, h6⟩
    | succ L ih =>
      intro k D1 hk hO hm hE
      obtain ⟨a1, a2, a3, a4⟩ := h3 k (by omega)
      obtain ⟨m1, m2⟩ := p5.2 k (by omega)
      obtain ⟨m3, m4⟩ := p7.2 k (by omega)
      obtain ⟨m5, m6⟩ := q5.2 k (by omega)
      obtain ⟨m7, m8⟩ := q7.2 k (by omega)
      have w1 := m2.1
      have w3 := m4.1
      have hf := h6.1 (e k) a1
      have a21 : D1 (q + 1) k = tcode (e k) := by rw [hO _ _ (by omega)]; exact a2
      have a31 : frD D1 (q + 3 + 2 * k) (q + 124 + 2 * k) (φ (e k)) := a3.congr fun c j hc => hO c j (by omega)
      refine wp_in ?_
      simp only [P_X18_copy, i_kil, i_icon, i_lcon, i_null, i_loadI, i_loadL, i_loadR, i_istore, i_lstore, i_astore, i_iinc, i_dup, i_dup2, i_pop, i_iadd, i_isub, i_imul, i_idiv, i_irem, i_ineg, i_iand, i_ior, i_ishl, i_ishr, i_lxor, i_ladd, i_lsub, i_lmul, i_ldiv, i_lrem, i_lneg, i_lshl, i_lcmp, i_i2l, i_l2i, i_i2b, i_i2s, i_ifeq, i_ifne, i_iflt, i_ifge, i_ifgt, i_ifle, i_cmpeq, i_cmpne, i_cmplt, i_cmpge, i_cmpgt, i_cmple, i_acmpeq, i_acmpne, i_ifnull, i_ifnonnull, i_getI, i_getR, i_putI, i_putZ, i_putR, i_ald, i_ldL, i_ldR, i_ast, i_stL, i_stR, i_alen, i_new, i_newa, i_iret, i_zret, i_lret, i_aret, i_vret, i_raise, i_throw, i_recv, i_objinit, i_tsw3, lget, lset, lput1, lput2, lkil, ltrim, largs, isL, takev, dropv, nthv, pushO, catv, gd, true_and, and_true, Option.some.injEq, Prod.mk.injEq, exists_eq_left', if_true, if_false, reduceCtorEq, Bool.false_eq_true, lcmp_ge, lcmp_lt, lcmp_le, lcmp_gt, lcmp_eq, true_or, or_true, not_true_eq_false, not_false_eq_true, false_implies, true_implies, List.length_cons, List.length_nil, p1, p2, p3, p4, p51, m1, q1, q2, q3, q4, q51, m5, hm, a21]
      repeat (first | refine ⟨in_small (by omega) (by omega), ?_⟩ | (show (_ → _) ∧ (_ → _); first | refine ⟨by omega, fun _ => ?_⟩ | refine ⟨fun _ => ?_, by omega⟩) | refine ⟨by omega, ?_⟩ | refine ⟨⟨_, rfl, by assumption⟩, ?_⟩ | refine ⟨okT_I _, ?_⟩ | refine call0 (gd_of rfl) ?_)
      refine sp_X17_copy m2 m6 (a31.1.congr (fun j => by simp only [pmu]; rw [if_neg (fun q => by omega)]) (fun j => by simp only [pmu]; rw [if_neg (fun q => by omega)])) hf.n hf.n (by omega) fun D2 f1 f2 => ?_
      simp only [P_X18_copy, i_kil, i_icon, i_lcon, i_null, i_loadI, i_loadL, i_loadR, i_istore, i_lstore, i_astore, i_iinc, i_dup, i_dup2, i_pop, i_iadd, i_isub, i_imul, i_idiv, i_irem, i_ineg, i_iand, i_ior, i_ishl, i_ishr, i_lxor, i_ladd, i_lsub, i_lmul, i_ldiv, i_lrem, i_lneg, i_lshl, i_lcmp, i_i2l, i_l2i, i_i2b, i_i2s, i_ifeq, i_ifne, i_iflt, i_ifge, i_ifgt, i_ifle, i_cmpeq, i_cmpne, i_cmplt, i_cmpge, i_cmpgt, i_cmple, i_acmpeq, i_acmpne, i_ifnull, i_ifnonnull, i_getI, i_getR, i_putI, i_putZ, i_putR, i_ald, i_ldL, i_ldR, i_ast, i_stL, i_stR, i_alen, i_new, i_newa, i_iret, i_zret, i_lret, i_aret, i_vret, i_raise, i_throw, i_recv, i_objinit, i_tsw3, lget, lset, lput1, lput2, lkil, ltrim, largs, isL, takev, dropv, nthv, pushO, catv, gd, true_and, and_true, Option.some.injEq, Prod.mk.injEq, exists_eq_left', if_true, if_false, reduceCtorEq, Bool.false_eq_true, lcmp_ge, lcmp_lt, lcmp_le, lcmp_gt, lcmp_eq, true_or, or_true, not_true_eq_false, not_false_eq_true, false_implies, true_implies, List.length_cons, List.length_nil, p1, p6, p71, m3, q1, q6, q71, m7]
      repeat (first | refine ⟨in_small (by omega) (by omega), ?_⟩ | (show (_ → _) ∧ (_ → _); first | refine ⟨by omega, fun _ => ?_⟩ | refine ⟨fun _ => ?_, by omega⟩) | refine ⟨by omega, ?_⟩ | refine ⟨⟨_, rfl, by assumption⟩, ?_⟩ | refine ⟨okT_I _, ?_⟩ | refine call0 (gd_of rfl) ?_)
      refine sp_X17_copy m4 m8 (a31.2.congr (fun j => by rw [f1 _ _ (by omega) (by omega)]; simp only [pmu]; rw [if_neg (fun q => by omega)]) (fun j => by rw [f1 _ _ (by omega) (by omega)]; simp only [pmu]; rw [if_neg (fun q => by omega)])) hf.d hf.d (by omega) fun D3 g1 g2 => ?_
      have fr : ∀ c j, c ≠ p + 3 + 2 * k → c ≠ p + 3 + 2 * k + 1 → c ≠ p + 124 + 2 * k → c ≠ p + 124 + 2 * k + 1 → (c ≠ p + 1 ∨ j ≠ (k : Int)) → D3 c j = D1 c j := fun c j y1 y2 y3 y4 y5 => by
        rw [g1 _ _ y3 y4, f1 _ _ y1 y2]
        simp only [pmu]; rw [if_neg (fun q => by omega)]
      simp only [P_X18_copy, i_kil, i_icon, i_lcon, i_null, i_loadI, i_loadL, i_loadR, i_istore, i_lstore, i_astore, i_iinc, i_dup, i_dup2, i_pop, i_iadd, i_isub, i_imul, i_idiv, i_irem, i_ineg, i_iand, i_ior, i_ishl, i_ishr, i_lxor, i_ladd, i_lsub, i_lmul, i_ldiv, i_lrem, i_lneg, i_lshl, i_lcmp, i_i2l, i_l2i, i_i2b, i_i2s, i_ifeq, i_ifne, i_iflt, i_ifge, i_ifgt, i_ifle, i_cmpeq, i_cmpne, i_cmplt, i_cmpge, i_cmpgt, i_cmple, i_acmpeq, i_acmpne, i_ifnull, i_ifnonnull, i_getI, i_getR, i_putI, i_putZ, i_putR, i_ald, i_ldL, i_ldR, i_ast, i_stL, i_stR, i_alen, i_new, i_newa, i_iret, i_zret, i_lret, i_aret, i_vret, i_raise, i_throw, i_recv, i_objinit, i_tsw3, lget, lset, lput1, lput2, lkil, ltrim, largs, isL, takev, dropv, nthv, pushO, catv, gd, true_and, and_true, Option.some.injEq, Prod.mk.injEq, exists_eq_left', if_true, if_false, reduceCtorEq, Bool.false_eq_true, lcmp_ge, lcmp_lt, lcmp_le, lcmp_gt, lcmp_eq, true_or, or_true, not_true_eq_false, not_false_eq_true, false_implies, true_implies, List.length_cons, List.length_nil]
      repeat (first | refine ⟨in_small (by omega) (by omega), ?_⟩ | (show (_ → _) ∧ (_ → _); first | refine ⟨by omega, fun _ => ?_⟩ | refine ⟨fun _ => ?_, by omega⟩) | refine ⟨by omega, ?_⟩ | refine ⟨⟨_, rfl, by assumption⟩, ?_⟩ | refine ⟨okT_I _, ?_⟩ | refine call0 (gd_of rfl) ?_)
      refine ih (k + 1) D3 (by omega) (fun c j hc => by rw [fr c j (by omega) (by omega) (by omega) (by omega) (by omega)]; exact hO c j hc) (by rw [fr _ _ (by omega) (by omega) (by omega) (by omega) (by omega)]; exact hm) fun j hj => ?_
      by_cases y : j = k
      · subst y
        refine ⟨?_, f2.congr (fun i => g1 _ _ (by omega) (by omega)) (fun i => g1 _ _ (by omega) (by omega)), g2⟩
        rw [g1 _ _ (by omega) (by omega), f1 _ _ (by omega) (by omega)]
        simp [pmu]
      · exact (hE j (by omega)).congr fun c i hc => fr c i (by omega) (by omega) (by omega) (by omega) (by omega)
  refine wp_in ?_
  simp only [P_X18_copy, i_kil, i_icon, i_lcon, i_null, i_loadI, i_loadL, i_loadR, i_istore, i_lstore, i_astore, i_iinc, i_dup, i_dup2, i_pop, i_iadd, i_isub, i_imul, i_idiv, i_irem, i_ineg, i_iand, i_ior, i_ishl, i_ishr, i_lxor, i_ladd, i_lsub, i_lmul, i_ldiv, i_lrem, i_lneg, i_lshl, i_lcmp, i_i2l, i_l2i, i_i2b, i_i2s, i_ifeq, i_ifne, i_iflt, i_ifge, i_ifgt, i_ifle, i_cmpeq, i_cmpne, i_cmplt, i_cmpge, i_cmpgt, i_cmple, i_acmpeq, i_acmpne, i_ifnull, i_ifnonnull, i_getI, i_getR, i_putI, i_putZ, i_putR, i_ald, i_ldL, i_ldR, i_ast, i_stL, i_stR, i_alen, i_new, i_newa, i_iret, i_zret, i_lret, i_aret, i_vret, i_raise, i_throw, i_recv, i_objinit, i_tsw3, lget, lset, lput1, lput2, lkil, ltrim, largs, isL, takev, dropv, nthv, pushO, catv, gd, true_and, and_true, Option.some.injEq, Prod.mk.injEq, exists_eq_left', if_true, if_false, reduceCtorEq, Bool.false_eq_true, lcmp_ge, lcmp_lt, lcmp_le, lcmp_gt, lcmp_eq, true_or, or_true, not_true_eq_false, not_false_eq_true, false_implies, true_implies, List.length_cons, List.length_nil, p1, q1, h2]
  exact loop n 0 _ (by omega) (fun c j hc => by simp only [pmu]; rw [if_neg (fun q => by omega)]) (by simp [pmu]) fun j hj => by omega
