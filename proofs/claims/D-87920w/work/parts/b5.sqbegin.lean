/-! the component's square: columns told -/
set_option maxRecDepth 100000
set_option linter.unusedVariables false
theorem okT_S {x : Int} (h1 : -32768 ≤ x) (h2 : x < 32768) : okT 102 x := by unfold okT; omega
theorem okT_B {x : Int} (h1 : -128 ≤ x) (h2 : x < 128) : okT 101 x := by unfold okT; omega
theorem c4_mono {p q : Nat} (hpq : p ≤ q) : c4 p ≤ c4 q := by
  induction q with
  | zero => rw [Nat.le_zero.mp hpq]; exact Nat.le_refl _
  | succ q ihq =>
    rcases Nat.lt_or_ge p (q + 1) with w | w
    · have := ihq (by omega); simp only [c4]; omega
    · rw [Nat.le_antisymm hpq w]; exact Nat.le_refl _
/-- the columns of the terms below t -/
def isColsT (c g t : Nat) (tc : Nat → Nat) : Prop := (∀ i, i < c4 t → tc i < t ∧ tdg (tc i) ≤ 4) ∧ (∀ i j, i < j → j < c4 t → 0 < rankI c g (tc i) (tc j)) ∧ ∀ u, u < t → tdg u ≤ 4 → ∃ i, i < c4 t ∧ tc i = u
/-- what telling the columns may write -/
def bgW (q : Nat) (D D' : Dat) : Prop := ∀ a i, a ≠ q → a ≠ q + 2 → a ≠ q + 3 → a ≠ q + 11 → a ≠ q + 12 → D' a i = D a i
def cins (tc : Nat → Nat) (p t : Nat) : Nat → Nat := fun i => if i < p then tc i else if i = p then t else tc (i - 1)
theorem isColsT.ins {c g t p : Nat} {tc : Nat → Nat} (ho : ordOK c g) (h : isColsT c g t tc) (ht : t < 455) (hd : tdg t ≤ 4) (hp : p ≤ c4 t) (hlo : ∀ i, p ≤ i → i < c4 t → 0 < rankI c g t (tc i)) (hhi : 0 < p → ¬ 0 < rankI c g t (tc (p - 1))) : isColsT c g (t + 1) (cins tc p t) := by
  obtain ⟨h1, h2, h3⟩ := h
  have hc : c4 (t + 1) = c4 t + 1 := by simp only [c4]; rw [if_pos hd]
  have hup : ∀ i, i < p → 0 < rankI c g (tc i) t := fun i hi => by
    have w := hhi (by omega)
    have a := rank_anti ho t (tc (p - 1))
    have b := rank_ne ho (t := t) (u := tc (p - 1)) ht (by have := (h1 (p - 1) (by omega)).1; omega) (by have := (h1 (p - 1) (by omega)).1; omega)
    have e : 0 < rankI c g (tc (p - 1)) t := by omega
    by_cases x : i = p - 1
    · rw [x]; exact e
    · exact rank_trans ho (h2 i (p - 1) (by omega) (by omega)) e
  rw [isColsT, hc]
  refine ⟨fun i hi => ?_, fun i j hij hj => ?_, fun u hu hd2 => ?_⟩
  · unfold cins
    split
    · have := h1 i (by omega); omega
    · split
      · omega
      · have := h1 (i - 1) (by omega); omega
  · unfold cins
    rcases Nat.lt_trichotomy i p with w | w | w
    · rw [if_pos w]
      rcases Nat.lt_trichotomy j p with y | y | y
      · rw [if_pos y]; exact h2 i j hij (by omega)
      · rw [if_neg (by omega), if_pos y]; exact hup i w
      · rw [if_neg (by omega), if_neg (by omega)]; exact h2 i (j - 1) (by omega) (by omega)
    · rw [if_neg (by omega), if_pos w, if_neg (by omega), if_neg (by omega)]
      exact hlo (j - 1) (by omega) (by omega)
    · rw [if_neg (by omega), if_neg (by omega), if_neg (by omega), if_neg (by omega)]
      exact h2 (i - 1) (j - 1) (by omega) (by omega)
  · by_cases e : u = t
    · exact ⟨p, by omega, by unfold cins; rw [if_neg (Nat.lt_irrefl _), if_pos rfl, e]⟩
    · obtain ⟨i, hi, rfl⟩ := h3 u (by omega) hd2
      rcases Nat.lt_or_ge i p with w | w
      · exact ⟨i, by omega, by unfold cins; rw [if_pos w]⟩
      · exact ⟨i + 1, by omega, by unfold cins; rw [if_neg (by omega), if_neg (by omega), Nat.add_sub_cancel]⟩
theorem rank_at {E : Ex} : True := trivial
set_option maxHeartbeats 4000000 in
theorem sp_X7_begin {E : Ex} {B : Nat × Nat} {S : Stat} {D : Dat} {q T o ob c g : Nat} {dg : Int} (hq : sqS S q T o) (hT : tS S T) (hTD : tD D T) (lT : T + 18 < q) (hob : oS S D ob T c g) (lob : ob < q ∨ q + 159 < ob)
    (K : ∀ (S' : Stat) (D' : Dat) (tc : Nat → Nat), S' = setR S q 18 (some ob) → bgW q D D' → isCols c g tc → (∀ i : Nat, i < 35 → D' (q + 11) i = tc i ∧ D' (q + 12) (tc i) = i) → D' q 15 = 0 → D' q 16 = dg → (∀ i, i ≠ 15 → i ≠ 16 → D' q i = D q i) → wD 1 2 D' (q + 2) 1 → E (.inl none) B S' D') : Wp P_X7_begin E 0 [some (aR q), some (aR ob), some (aI dg)] [] B S D := by
  have oo := hob.2.2.1
  have q1 := hq.1
  have hS1 : (setR S q 18 (some ob)).1 = S.1 := rfl
  have hS2 : ∀ a i, a ≠ q ∨ i < 18 ∨ 18 < i → (setR S q 18 (some ob)).2.1 a i = S.2.1 a i := fun a i h => by
    simp only [setR, pmur]; rw [if_neg (by omega)]
  have hTn : T ≠ q := by omega
  refine wp_in ?_
  simp only [P_X7_begin, i_kil, i_icon, i_lcon, i_null, i_loadI, i_loadL, i_loadR, i_istore, i_lstore, i_astore, i_iinc, i_dup, i_dup2, i_pop, i_iadd, i_isub, i_imul, i_idiv, i_irem, i_ineg, i_iand, i_ior, i_ishl, i_ishr, i_lxor, i_ladd, i_lsub, i_lmul, i_ldiv, i_lrem, i_lneg, i_lshl, i_lcmp, i_i2l, i_l2i, i_i2b, i_i2s, i_ifeq, i_ifne, i_iflt, i_ifge, i_ifgt, i_ifle, i_cmpeq, i_cmpne, i_cmplt, i_cmpge, i_cmpgt, i_cmple, i_acmpeq, i_acmpne, i_ifnull, i_ifnonnull, i_getI, i_getR, i_putI, i_putZ, i_putR, i_ald, i_ldL, i_ldR, i_ast, i_stL, i_stR, i_alen, i_new, i_newa, i_iret, i_zret, i_lret, i_aret, i_vret, i_raise, i_throw, i_recv, i_objinit, i_tsw3, lget, lset, lput1, lput2, lkil, ltrim, largs, isL, takev, dropv, nthv, pushO, catv, gd, true_and, and_true, Option.some.injEq, Prod.mk.injEq, exists_eq_left', if_true, if_false, reduceCtorEq, Bool.false_eq_true, lcmp_ge, lcmp_lt, lcmp_le, lcmp_gt, lcmp_eq, true_or, or_true, not_true_eq_false, not_false_eq_true, false_implies, true_implies, List.length_cons, List.length_nil, q1]
  generalize hS' : setR S q 18 (some ob) = S' at *
  have hT' : tS S' T := hT.sq fun a h1 h2 => ⟨by rw [hS1], fun i => hS2 a i (.inl (by omega))⟩
  have hob' : ∀ D1 : Dat, (∀ i, D1 ob i = D ob i) → oS S' D1 ob T c g := fun D1 h => by
    obtain ⟨o1, o2, o3, o4⟩ := hob
    exact ⟨by rw [hS1]; exact o1, by rw [hS2 _ _ (.inl (by omega))]; exact o2, o3, fun e => by rw [h]; exact o4 e⟩
  obtain ⟨-, g2, g3, g4, g5, g6, g7, g8, g9, g10, g11, g12, g13, g14, g15, g16, g17, g18, g19, -⟩ := id hq
  have k1 : S'.1 q = some (7, 0) := by rw [hS1]; exact q1
  have k2 : S'.2.1 q 0 = some T := by rw [hS2 _ _ (.inr (.inl (by decide)))]; exact g2
  have k6 : S'.2.1 q 3 = some (q + 2) := by rw [hS2 _ _ (.inr (.inl (by decide)))]; exact g6
  have k7 : wS 3 S' (q + 2) 160 := ⟨by rw [hS1]; exact g7.1, by rw [hS2 _ _ (.inl (by omega))]; exact g7.2.1, by rw [hS1]; exact g7.2.2⟩
  have k71 := k7.1
  have k16 : S'.2.1 q 8 = some (q + 11) := by rw [hS2 _ _ (.inr (.inl (by decide)))]; exact g16
  have k17 : S'.1 (q + 11) = some (102, 35) := by rw [hS1]; exact g17
  have k18 : S'.2.1 q 9 = some (q + 12) := by rw [hS2 _ _ (.inr (.inl (by decide)))]; exact g18
  have k19 : S'.1 (q + 12) = some (100, 455) := by rw [hS1]; exact g19
  have t1 := hT'.1
  simp only [P_X7_begin, i_kil, i_icon, i_lcon, i_null, i_loadI, i_loadL, i_loadR, i_istore, i_lstore, i_astore, i_iinc, i_dup, i_dup2, i_pop, i_iadd, i_isub, i_imul, i_idiv, i_irem, i_ineg, i_iand, i_ior, i_ishl, i_ishr, i_lxor, i_ladd, i_lsub, i_lmul, i_ldiv, i_lrem, i_lneg, i_lshl, i_lcmp, i_i2l, i_l2i, i_i2b, i_i2s, i_ifeq, i_ifne, i_iflt, i_ifge, i_ifgt, i_ifle, i_cmpeq, i_cmpne, i_cmplt, i_cmpge, i_cmpgt, i_cmple, i_acmpeq, i_acmpne, i_ifnull, i_ifnonnull, i_getI, i_getR, i_putI, i_putZ, i_putR, i_ald, i_ldL, i_ldR, i_ast, i_stL, i_stR, i_alen, i_new, i_newa, i_iret, i_zret, i_lret, i_aret, i_vret, i_raise, i_throw, i_recv, i_objinit, i_tsw3, lget, lset, lput1, lput2, lkil, ltrim, largs, isL, takev, dropv, nthv, pushO, catv, gd, true_and, and_true, Option.some.injEq, Prod.mk.injEq, exists_eq_left', if_true, if_false, reduceCtorEq, Bool.false_eq_true, lcmp_ge, lcmp_lt, lcmp_le, lcmp_gt, lcmp_eq, true_or, or_true, not_true_eq_false, not_false_eq_true, false_implies, true_implies, List.length_cons, List.length_nil, k1, k6]
  repeat (first | refine ⟨in_small (by omega) (by omega), ?_⟩ | (show (_ → _) ∧ (_ → _); first | refine ⟨by omega, fun _ => ?_⟩ | refine ⟨fun _ => ?_, by omega⟩) | refine ⟨by omega, ?_⟩ | refine ⟨⟨_, rfl, by assumption⟩, ?_⟩ | refine ⟨okT_I _, ?_⟩ | refine ⟨okT_S (by omega) (by omega), ?_⟩ | refine ⟨okT_B (by omega) (by omega), ?_⟩ | refine call0 (gd_of rfl) ?_)
  refine sp_X3_set k7 (by omega) (by omega) (by omega) fun D1 f1 f2 => ?_
  have O1 : bgW q D D1 := fun a i a1 a2 a3 a4 a5 => by
    rw [f1 a i (by omega) (by omega)]
    simp only [pmu]; rw [if_neg (fun w => by omega), if_neg (fun w => by omega)]
  have Q1 : ∀ i, D1 q i = if i = 16 then dg else if i = 15 then 0 else D q i := fun i => by
    rw [f1 _ _ (by omega) (by omega)]
    simp only [pmu, true_and]
  simp only [P_X7_begin, i_kil, i_icon, i_lcon, i_null, i_loadI, i_loadL, i_loadR, i_istore, i_lstore, i_astore, i_iinc, i_dup, i_dup2, i_pop, i_iadd, i_isub, i_imul, i_idiv, i_irem, i_ineg, i_iand, i_ior, i_ishl, i_ishr, i_lxor, i_ladd, i_lsub, i_lmul, i_ldiv, i_lrem, i_lneg, i_lshl, i_lcmp, i_i2l, i_l2i, i_i2b, i_i2s, i_ifeq, i_ifne, i_iflt, i_ifge, i_ifgt, i_ifle, i_cmpeq, i_cmpne, i_cmplt, i_cmpge, i_cmpgt, i_cmple, i_acmpeq, i_acmpne, i_ifnull, i_ifnonnull, i_getI, i_getR, i_putI, i_putZ, i_putR, i_ald, i_ldL, i_ldR, i_ast, i_stL, i_stR, i_alen, i_new, i_newa, i_iret, i_zret, i_lret, i_aret, i_vret, i_raise, i_throw, i_recv, i_objinit, i_tsw3, lget, lset, lput1, lput2, lkil, ltrim, largs, isL, takev, dropv, nthv, pushO, catv, gd, true_and, and_true, Option.some.injEq, Prod.mk.injEq, exists_eq_left', if_true, if_false, reduceCtorEq, Bool.false_eq_true, lcmp_ge, lcmp_lt, lcmp_le, lcmp_gt, lcmp_eq, true_or, or_true, not_true_eq_false, not_false_eq_true, false_implies, true_implies, List.length_cons, List.length_nil]
  -- the last loop
  have last : ∀ (tc : Nat → Nat), isCols c g tc → ∀ (L k : Nat) (D2 : Dat), k + L = 35 → bgW q D D2 → (∀ i, D2 q i = D1 q i) → wD 1 2 D2 (q + 2) 1 → (∀ i : Nat, i < 35 → D2 (q + 11) i = tc i) → (∀ i : Nat, i < k → D2 (q + 12) (tc i) = i) → Wp P_X7_begin E 5 [some (aR q), none, none, none, some (aI k)] [] B S' D2 := by
    intro tc htc L
    induction L with
    | zero =>
      intro k D2 hk h1 h2 h3 h4 h5
      have : k = 35 := by omega
      subst this
      refine wp_in ?_
      simp only [P_X7_begin, i_kil, i_icon, i_lcon, i_null, i_loadI, i_loadL, i_loadR, i_istore, i_lstore, i_astore, i_iinc, i_dup, i_dup2, i_pop, i_iadd, i_isub, i_imul, i_idiv, i_irem, i_ineg, i_iand, i_ior, i_ishl, i_ishr, i_lxor, i_ladd, i_lsub, i_lmul, i_ldiv, i_lrem, i_lneg, i_lshl, i_lcmp, i_i2l, i_l2i, i_i2b, i_i2s, i_ifeq, i_ifne, i_iflt, i_ifge, i_ifgt, i_ifle, i_cmpeq, i_cmpne, i_cmplt, i_cmpge, i_cmpgt, i_cmple, i_acmpeq, i_acmpne, i_ifnull, i_ifnonnull, i_getI, i_getR, i_putI, i_putZ, i_putR, i_ald, i_ldL, i_ldR, i_ast, i_stL, i_stR, i_alen, i_new, i_newa, i_iret, i_zret, i_lret, i_aret, i_vret, i_raise, i_throw, i_recv, i_objinit, i_tsw3, lget, lset, lput1, lput2, lkil, ltrim, largs, isL, takev, dropv, nthv, pushO, catv, gd, true_and, and_true, Option.some.injEq, Prod.mk.injEq, exists_eq_left', if_true, if_false, reduceCtorEq, Bool.false_eq_true, lcmp_ge, lcmp_lt, lcmp_le, lcmp_gt, lcmp_eq, true_or, or_true, not_true_eq_false, not_false_eq_true, false_implies, true_implies, List.length_cons, List.length_nil]
      repeat (first | refine ⟨in_small (by omega) (by omega), ?_⟩ | (show (_ → _) ∧ (_ → _); first | refine ⟨by omega, fun _ => ?_⟩ | refine ⟨fun _ => ?_, by omega⟩) | refine ⟨by omega, ?_⟩ | refine ⟨⟨_, rfl, by assumption⟩, ?_⟩ | refine ⟨okT_I _, ?_⟩ | refine ⟨okT_S (by omega) (by omega), ?_⟩ | refine ⟨okT_B (by omega) (by omega), ?_⟩ | refine call0 (gd_of rfl) ?_)
      refine K S' D2 tc rfl h1 htc (fun i hi => ⟨h4 i hi, h5 i hi⟩) (by rw [h2, Q1]; rfl) (by rw [h2, Q1]; rfl) (fun i a b => by rw [h2, Q1, if_neg b, if_neg a]) h3
    | succ L ih =>
      intro k D2 hk h1 h2 h3 h4 h5
      have e1 := h4 k (by omega)
      have b1 := htc.1 k (by omega)
      refine wp_in ?_
      simp only [P_X7_begin, i_kil, i_icon, i_lcon, i_null, i_loadI, i_loadL, i_loadR, i_istore, i_lstore, i_astore, i_iinc, i_dup, i_dup2, i_pop, i_iadd, i_isub, i_imul, i_idiv, i_irem, i_ineg, i_iand, i_ior, i_ishl, i_ishr, i_lxor, i_ladd, i_lsub, i_lmul, i_ldiv, i_lrem, i_lneg, i_lshl, i_lcmp, i_i2l, i_l2i, i_i2b, i_i2s, i_ifeq, i_ifne, i_iflt, i_ifge, i_ifgt, i_ifle, i_cmpeq, i_cmpne, i_cmplt, i_cmpge, i_cmpgt, i_cmple, i_acmpeq, i_acmpne, i_ifnull, i_ifnonnull, i_getI, i_getR, i_putI, i_putZ, i_putR, i_ald, i_ldL, i_ldR, i_ast, i_stL, i_stR, i_alen, i_new, i_newa, i_iret, i_zret, i_lret, i_aret, i_vret, i_raise, i_throw, i_recv, i_objinit, i_tsw3, lget, lset, lput1, lput2, lkil, ltrim, largs, isL, takev, dropv, nthv, pushO, catv, gd, true_and, and_true, Option.some.injEq, Prod.mk.injEq, exists_eq_left', if_true, if_false, reduceCtorEq, Bool.false_eq_true, lcmp_ge, lcmp_lt, lcmp_le, lcmp_gt, lcmp_eq, true_or, or_true, not_true_eq_false, not_false_eq_true, false_implies, true_implies, List.length_cons, List.length_nil, k1, k16, k17, k18, k19, e1]
      repeat (first | refine ⟨in_small (by omega) (by omega), ?_⟩ | (show (_ → _) ∧ (_ → _); first | refine ⟨by omega, fun _ => ?_⟩ | refine ⟨fun _ => ?_, by omega⟩) | refine ⟨by omega, ?_⟩ | refine ⟨⟨_, rfl, by assumption⟩, ?_⟩ | refine ⟨okT_I _, ?_⟩ | refine ⟨okT_S (by omega) (by omega), ?_⟩ | refine ⟨okT_B (by omega) (by omega), ?_⟩ | refine call0 (gd_of rfl) ?_)
      have fr : ∀ a i, a ≠ q + 12 → pmu D2 (q + 12) (tc k : Int) (k : Int) a i = D2 a i := fun a i h => by simp only [pmu]; rw [if_neg (fun w => h w.1)]
      refine ih (k + 1) _ (by omega) (fun a i a1 a2 a3 a4 a5 => by rw [fr a i a5]; exact h1 a i a1 a2 a3 a4 a5) (fun i => by rw [fr _ _ (by omega)]; exact h2 i) (h3.congr (fun i => fr _ _ (by omega)) (fun i => fr _ _ (by omega))) (fun i hi => by rw [fr _ _ (by omega)]; exact h4 i hi) fun i hi => ?_
      simp only [pmu, true_and]
      by_cases w : i = k
      · rw [w, if_pos rfl]
      · rw [if_neg (fun x => w (htc.inj oo (by omega) (by omega) (by omega)))]
        exact h5 i (by omega)
  -- the terms
  have loop : ∀ (L t : Nat) (D2 : Dat) (tc : Nat → Nat), t + L = 455 → bgW q D D2 → (∀ i, D2 q i = D1 q i) → wD 1 2 D2 (q + 2) 1 → isColsT c g t tc → (∀ i : Nat, i < c4 t → D2 (q + 11) i = tc i) → Wp P_X7_begin E 1 [some (aR q), some (aR ob), none, some (aI (c4 t : Nat)), some (aI t)] [] B S' D2 := by
    intro L
    induction L with
    | zero =>
      intro t D2 tc ht h1 h2 h3 h4 h5
      have : t = 455 := by omega
      subst this
      refine wp_in ?_
      simp only [P_X7_begin, i_kil, i_icon, i_lcon, i_null, i_loadI, i_loadL, i_loadR, i_istore, i_lstore, i_astore, i_iinc, i_dup, i_dup2, i_pop, i_iadd, i_isub, i_imul, i_idiv, i_irem, i_ineg, i_iand, i_ior, i_ishl, i_ishr, i_lxor, i_ladd, i_lsub, i_lmul, i_ldiv, i_lrem, i_lneg, i_lshl, i_lcmp, i_i2l, i_l2i, i_i2b, i_i2s, i_ifeq, i_ifne, i_iflt, i_ifge, i_ifgt, i_ifle, i_cmpeq, i_cmpne, i_cmplt, i_cmpge, i_cmpgt, i_cmple, i_acmpeq, i_acmpne, i_ifnull, i_ifnonnull, i_getI, i_getR, i_putI, i_putZ, i_putR, i_ald, i_ldL, i_ldR, i_ast, i_stL, i_stR, i_alen, i_new, i_newa, i_iret, i_zret, i_lret, i_aret, i_vret, i_raise, i_throw, i_recv, i_objinit, i_tsw3, lget, lset, lput1, lput2, lkil, ltrim, largs, isL, takev, dropv, nthv, pushO, catv, gd, true_and, and_true, Option.some.injEq, Prod.mk.injEq, exists_eq_left', if_true, if_false, reduceCtorEq, Bool.false_eq_true, lcmp_ge, lcmp_lt, lcmp_le, lcmp_gt, lcmp_eq, true_or, or_true, not_true_eq_false, not_false_eq_true, false_implies, true_implies, List.length_cons, List.length_nil]
      repeat (first | refine ⟨in_small (by omega) (by omega), ?_⟩ | (show (_ → _) ∧ (_ → _); first | refine ⟨by omega, fun _ => ?_⟩ | refine ⟨fun _ => ?_, by omega⟩) | refine ⟨by omega, ?_⟩ | refine ⟨⟨_, rfl, by assumption⟩, ?_⟩ | refine ⟨okT_I _, ?_⟩ | refine ⟨okT_S (by omega) (by omega), ?_⟩ | refine ⟨okT_B (by omega) (by omega), ?_⟩ | refine call0 (gd_of rfl) ?_)
      have hcc : isCols c g tc := by
        obtain ⟨a1, a2, a3⟩ := h4
        rw [c4_all] at a1 a2 a3
        exact ⟨a1, a2, a3⟩
      rw [c4_all] at h5
      exact last tc hcc 35 0 D2 rfl h1 h2 h3 h5 fun i hi => by omega
    | succ L ih =>
      intro t D2 tc ht h1 h2 h3 h4 h5
      have hTD2 : tD (pmu D2 (q + 12) (t : Int) (-7)) T := hTD.congr fun a i a1 a2 => by
        simp only [pmu]; rw [if_neg (fun w => by omega)]; exact h1 a i (by omega) (by omega) (by omega) (by omega) (by omega)
      have fr : ∀ a i, a ≠ q + 12 → pmu D2 (q + 12) (t : Int) (-7) a i = D2 a i := fun a i h => by simp only [pmu]; rw [if_neg (fun w => h w.1)]
      have hc455 : c4 t ≤ 35 := by rw [← c4_all]; exact c4_mono (by omega)
      have next : ∀ (D3 : Dat) (tc3 : Nat → Nat), bgW q D D3 → (∀ i, D3 q i = D1 q i) → wD 1 2 D3 (q + 2) 1 → isColsT c g (t + 1) tc3 → (∀ i : Nat, i < c4 (t + 1) → D3 (q + 11) i = tc3 i) → Wp P_X7_begin E 4 [some (aR q), some (aR ob), none, some (aI (c4 (t + 1) : Nat)), some (aI t)] [] B S' D3 := fun D3 tc3 a1 a2 a3 a4 a5 => by
        refine wp_in ?_
        simp only [P_X7_begin, i_kil, i_icon, i_lcon, i_null, i_loadI, i_loadL, i_loadR, i_istore, i_lstore, i_astore, i_iinc, i_dup, i_dup2, i_pop, i_iadd, i_isub, i_imul, i_idiv, i_irem, i_ineg, i_iand, i_ior, i_ishl, i_ishr, i_lxor, i_ladd, i_lsub, i_lmul, i_ldiv, i_lrem, i_lneg, i_lshl, i_lcmp, i_i2l, i_l2i, i_i2b, i_i2s, i_ifeq, i_ifne, i_iflt, i_ifge, i_ifgt, i_ifle, i_cmpeq, i_cmpne, i_cmplt, i_cmpge, i_cmpgt, i_cmple, i_acmpeq, i_acmpne, i_ifnull, i_ifnonnull, i_getI, i_getR, i_putI, i_putZ, i_putR, i_ald, i_ldL, i_ldR, i_ast, i_stL, i_stR, i_alen, i_new, i_newa, i_iret, i_zret, i_lret, i_aret, i_vret, i_raise, i_throw, i_recv, i_objinit, i_tsw3, lget, lset, lput1, lput2, lkil, ltrim, largs, isL, takev, dropv, nthv, pushO, catv, gd, true_and, and_true, Option.some.injEq, Prod.mk.injEq, exists_eq_left', if_true, if_false, reduceCtorEq, Bool.false_eq_true, lcmp_ge, lcmp_lt, lcmp_le, lcmp_gt, lcmp_eq, true_or, or_true, not_true_eq_false, not_false_eq_true, false_implies, true_implies, List.length_cons, List.length_nil]
        repeat (first | refine ⟨in_small (by omega) (by omega), ?_⟩ | (show (_ → _) ∧ (_ → _); first | refine ⟨by omega, fun _ => ?_⟩ | refine ⟨fun _ => ?_, by omega⟩) | refine ⟨by omega, ?_⟩ | refine ⟨⟨_, rfl, by assumption⟩, ?_⟩ | refine ⟨okT_I _, ?_⟩ | refine ⟨okT_S (by omega) (by omega), ?_⟩ | refine ⟨okT_B (by omega) (by omega), ?_⟩ | refine call0 (gd_of rfl) ?_)
        exact ih (t + 1) D3 tc3 (by omega) a1 a2 a3 a4 a5
      refine wp_in ?_
      simp only [P_X7_begin, i_kil, i_icon, i_lcon, i_null, i_loadI, i_loadL, i_loadR, i_istore, i_lstore, i_astore, i_iinc, i_dup, i_dup2, i_pop, i_iadd, i_isub, i_imul, i_idiv, i_irem, i_ineg, i_iand, i_ior, i_ishl, i_ishr, i_lxor, i_ladd, i_lsub, i_lmul, i_ldiv, i_lrem, i_lneg, i_lshl, i_lcmp, i_i2l, i_l2i, i_i2b, i_i2s, i_ifeq, i_ifne, i_iflt, i_ifge, i_ifgt, i_ifle, i_cmpeq, i_cmpne, i_cmplt, i_cmpge, i_cmpgt, i_cmple, i_acmpeq, i_acmpne, i_ifnull, i_ifnonnull, i_getI, i_getR, i_putI, i_putZ, i_putR, i_ald, i_ldL, i_ldR, i_ast, i_stL, i_stR, i_alen, i_new, i_newa, i_iret, i_zret, i_lret, i_aret, i_vret, i_raise, i_throw, i_recv, i_objinit, i_tsw3, lget, lset, lput1, lput2, lkil, ltrim, largs, isL, takev, dropv, nthv, pushO, catv, gd, true_and, and_true, Option.some.injEq, Prod.mk.injEq, exists_eq_left', if_true, if_false, reduceCtorEq, Bool.false_eq_true, lcmp_ge, lcmp_lt, lcmp_le, lcmp_gt, lcmp_eq, true_or, or_true, not_true_eq_false, not_false_eq_true, false_implies, true_implies, List.length_cons, List.length_nil, k1, k2, k18, k19, t1]
      repeat (first | refine ⟨in_small (by omega) (by omega), ?_⟩ | (show (_ → _) ∧ (_ → _); first | refine ⟨by omega, fun _ => ?_⟩ | refine ⟨fun _ => ?_, by omega⟩) | refine ⟨by omega, ?_⟩ | refine ⟨⟨_, rfl, by assumption⟩, ?_⟩ | refine ⟨okT_I _, ?_⟩ | refine ⟨okT_S (by omega) (by omega), ?_⟩ | refine ⟨okT_B (by omega) (by omega), ?_⟩ | refine call0 (gd_of rfl) ?_)
      refine degree_at hT' hTD2 (t := t) (by omega) rfl ?_
      simp only [P_X7_begin, i_kil, i_icon, i_lcon, i_null, i_loadI, i_loadL, i_loadR, i_istore, i_lstore, i_astore, i_iinc, i_dup, i_dup2, i_pop, i_iadd, i_isub, i_imul, i_idiv, i_irem, i_ineg, i_iand, i_ior, i_ishl, i_ishr, i_lxor, i_ladd, i_lsub, i_lmul, i_ldiv, i_lrem, i_lneg, i_lshl, i_lcmp, i_i2l, i_l2i, i_i2b, i_i2s, i_ifeq, i_ifne, i_iflt, i_ifge, i_ifgt, i_ifle, i_cmpeq, i_cmpne, i_cmplt, i_cmpge, i_cmpgt, i_cmple, i_acmpeq, i_acmpne, i_ifnull, i_ifnonnull, i_getI, i_getR, i_putI, i_putZ, i_putR, i_ald, i_ldL, i_ldR, i_ast, i_stL, i_stR, i_alen, i_new, i_newa, i_iret, i_zret, i_lret, i_aret, i_vret, i_raise, i_throw, i_recv, i_objinit, i_tsw3, lget, lset, lput1, lput2, lkil, ltrim, largs, isL, takev, dropv, nthv, pushO, catv, gd, true_and, and_true, Option.some.injEq, Prod.mk.injEq, exists_eq_left', if_true, if_false, reduceCtorEq, Bool.false_eq_true, lcmp_ge, lcmp_lt, lcmp_le, lcmp_gt, lcmp_eq, true_or, or_true, not_true_eq_false, not_false_eq_true, false_implies, true_implies, List.length_cons, List.length_nil]
      refine ⟨fun hd => ?_, fun hd => ?_⟩
      · have hd4 : tdg t ≤ 4 := by omega
        have hcs : c4 (t + 1) = c4 t + 1 := by simp only [c4]; rw [if_pos hd4]
        have hc34 : c4 t < 35 := by rw [← c4_all]; exact c4_pos 455 (by omega) hd4
        -- its place
        have shift : ∀ (p : Nat) (D3 : Dat), p ≤ c4 t → bgW q D D3 → (∀ i, D3 q i = D1 q i) → wD 1 2 D3 (q + 2) 1 → (∀ i : Nat, i < p → D3 (q + 11) i = tc i) → (∀ i : Nat, p < i → i ≤ c4 t → D3 (q + 11) i = tc (i - 1)) → (∀ i, p ≤ i → i < c4 t → 0 < rankI c g t (tc i)) → Wp P_X7_begin E 2 [some (aR q), some (aR ob), none, some (aI (c4 t : Nat)), some (aI t), some (aI p)] [] B S' D3 := by
          intro p
          have fin : ∀ (p : Nat) (D3 : Dat), p ≤ c4 t → bgW q D D3 → (∀ i, D3 q i = D1 q i) → wD 1 2 D3 (q + 2) 1 → (∀ i : Nat, i < p → D3 (q + 11) i = tc i) → (∀ i : Nat, p < i → i ≤ c4 t → D3 (q + 11) i = tc (i - 1)) → (∀ i, p ≤ i → i < c4 t → 0 < rankI c g t (tc i)) → (0 < p → ¬ 0 < rankI c g t (tc (p - 1))) → Wp P_X7_begin E 3 [some (aR q), some (aR ob), none, some (aI (c4 t : Nat)), some (aI t), some (aI p)] [] B S' D3 := fun p D3 hp b1 b2 b3 b4 b5 b6 b7 => by
            refine wp_in ?_
            simp only [P_X7_begin, i_kil, i_icon, i_lcon, i_null, i_loadI, i_loadL, i_loadR, i_istore, i_lstore, i_astore, i_iinc, i_dup, i_dup2, i_pop, i_iadd, i_isub, i_imul, i_idiv, i_irem, i_ineg, i_iand, i_ior, i_ishl, i_ishr, i_lxor, i_ladd, i_lsub, i_lmul, i_ldiv, i_lrem, i_lneg, i_lshl, i_lcmp, i_i2l, i_l2i, i_i2b, i_i2s, i_ifeq, i_ifne, i_iflt, i_ifge, i_ifgt, i_ifle, i_cmpeq, i_cmpne, i_cmplt, i_cmpge, i_cmpgt, i_cmple, i_acmpeq, i_acmpne, i_ifnull, i_ifnonnull, i_getI, i_getR, i_putI, i_putZ, i_putR, i_ald, i_ldL, i_ldR, i_ast, i_stL, i_stR, i_alen, i_new, i_newa, i_iret, i_zret, i_lret, i_aret, i_vret, i_raise, i_throw, i_recv, i_objinit, i_tsw3, lget, lset, lput1, lput2, lkil, ltrim, largs, isL, takev, dropv, nthv, pushO, catv, gd, true_and, and_true, Option.some.injEq, Prod.mk.injEq, exists_eq_left', if_true, if_false, reduceCtorEq, Bool.false_eq_true, lcmp_ge, lcmp_lt, lcmp_le, lcmp_gt, lcmp_eq, true_or, or_true, not_true_eq_false, not_false_eq_true, false_implies, true_implies, List.length_cons, List.length_nil, k1, k16, k17]
            repeat (first | refine ⟨in_small (by omega) (by omega), ?_⟩ | (show (_ → _) ∧ (_ → _); first | refine ⟨by omega, fun _ => ?_⟩ | refine ⟨fun _ => ?_, by omega⟩) | refine ⟨by omega, ?_⟩ | refine ⟨⟨_, rfl, by assumption⟩, ?_⟩ | refine ⟨okT_I _, ?_⟩ | refine ⟨okT_S (by omega) (by omega), ?_⟩ | refine ⟨okT_B (by omega) (by omega), ?_⟩ | refine call0 (gd_of rfl) ?_)
            have fr3 : ∀ a i, a ≠ q + 11 → pmu D3 (q + 11) (p : Int) (t : Int) a i = D3 a i := fun a i h => by simp only [pmu]; rw [if_neg (fun w => h w.1)]
            have := next (pmu D3 (q + 11) (p : Int) (t : Int)) (cins tc p t) (fun a i a1 a2 a3 a4 a5 => by rw [fr3 a i a4]; exact b1 a i a1 a2 a3 a4 a5) (fun i => by rw [fr3 _ _ (by omega)]; exact b2 i) (b3.congr (fun i => fr3 _ _ (by omega)) (fun i => fr3 _ _ (by omega))) (h4.ins oo (by omega) hd4 hp b6 b7) (fun i hi => by
              simp only [pmu, true_and]
              unfold cins
              rcases Nat.lt_trichotomy i p with w | w | w
              · rw [if_neg (by omega), if_pos w]; exact b4 i w
              · rw [if_pos (by omega), if_neg (by omega), if_pos w]
              · rw [if_neg (by omega), if_neg (by omega), if_neg (by omega)]; exact b5 i w (by omega))
            rw [hcs] at this
            rw [show (((c4 t + 1 : Nat)) : Int) = (c4 t : Int) + 1 by omega] at this
            exact this
          induction p with
          | zero =>
            intro D3 hp b1 b2 b3 b4 b5 b6
            refine wp_in ?_
            simp only [P_X7_begin, i_kil, i_icon, i_lcon, i_null, i_loadI, i_loadL, i_loadR, i_istore, i_lstore, i_astore, i_iinc, i_dup, i_dup2, i_pop, i_iadd, i_isub, i_imul, i_idiv, i_irem, i_ineg, i_iand, i_ior, i_ishl, i_ishr, i_lxor, i_ladd, i_lsub, i_lmul, i_ldiv, i_lrem, i_lneg, i_lshl, i_lcmp, i_i2l, i_l2i, i_i2b, i_i2s, i_ifeq, i_ifne, i_iflt, i_ifge, i_ifgt, i_ifle, i_cmpeq, i_cmpne, i_cmplt, i_cmpge, i_cmpgt, i_cmple, i_acmpeq, i_acmpne, i_ifnull, i_ifnonnull, i_getI, i_getR, i_putI, i_putZ, i_putR, i_ald, i_ldL, i_ldR, i_ast, i_stL, i_stR, i_alen, i_new, i_newa, i_iret, i_zret, i_lret, i_aret, i_vret, i_raise, i_throw, i_recv, i_objinit, i_tsw3, lget, lset, lput1, lput2, lkil, ltrim, largs, isL, takev, dropv, nthv, pushO, catv, gd, true_and, and_true, Option.some.injEq, Prod.mk.injEq, exists_eq_left', if_true, if_false, reduceCtorEq, Bool.false_eq_true, lcmp_ge, lcmp_lt, lcmp_le, lcmp_gt, lcmp_eq, true_or, or_true, not_true_eq_false, not_false_eq_true, false_implies, true_implies, List.length_cons, List.length_nil]
            repeat (first | refine ⟨in_small (by omega) (by omega), ?_⟩ | (show (_ → _) ∧ (_ → _); first | refine ⟨by omega, fun _ => ?_⟩ | refine ⟨fun _ => ?_, by omega⟩) | refine ⟨by omega, ?_⟩ | refine ⟨⟨_, rfl, by assumption⟩, ?_⟩ | refine ⟨okT_I _, ?_⟩ | refine ⟨okT_S (by omega) (by omega), ?_⟩ | refine ⟨okT_B (by omega) (by omega), ?_⟩ | refine call0 (gd_of rfl) ?_)
            exact fin 0 D3 hp b1 b2 b3 b4 b5 b6 fun w => by omega
          | succ p ihp =>
            intro D3 hp b1 b2 b3 b4 b5 b6
            have x1 : ((p + 1 : Nat) : Int) - 1 = (p : Nat) := by omega
            have e1 := b4 p (by omega)
            have b0 := (h4.1 p (by omega)).1
            refine wp_in ?_
            simp only [P_X7_begin, i_kil, i_icon, i_lcon, i_null, i_loadI, i_loadL, i_loadR, i_istore, i_lstore, i_astore, i_iinc, i_dup, i_dup2, i_pop, i_iadd, i_isub, i_imul, i_idiv, i_irem, i_ineg, i_iand, i_ior, i_ishl, i_ishr, i_lxor, i_ladd, i_lsub, i_lmul, i_ldiv, i_lrem, i_lneg, i_lshl, i_lcmp, i_i2l, i_l2i, i_i2b, i_i2s, i_ifeq, i_ifne, i_iflt, i_ifge, i_ifgt, i_ifle, i_cmpeq, i_cmpne, i_cmplt, i_cmpge, i_cmpgt, i_cmple, i_acmpeq, i_acmpne, i_ifnull, i_ifnonnull, i_getI, i_getR, i_putI, i_putZ, i_putR, i_ald, i_ldL, i_ldR, i_ast, i_stL, i_stR, i_alen, i_new, i_newa, i_iret, i_zret, i_lret, i_aret, i_vret, i_raise, i_throw, i_recv, i_objinit, i_tsw3, lget, lset, lput1, lput2, lkil, ltrim, largs, isL, takev, dropv, nthv, pushO, catv, gd, true_and, and_true, Option.some.injEq, Prod.mk.injEq, exists_eq_left', if_true, if_false, reduceCtorEq, Bool.false_eq_true, lcmp_ge, lcmp_lt, lcmp_le, lcmp_gt, lcmp_eq, true_or, or_true, not_true_eq_false, not_false_eq_true, false_implies, true_implies, List.length_cons, List.length_nil, k1, k16, k17, x1, e1]
            repeat (first | refine ⟨in_small (by omega) (by omega), ?_⟩ | (show (_ → _) ∧ (_ → _); first | refine ⟨by omega, fun _ => ?_⟩ | refine ⟨fun _ => ?_, by omega⟩) | refine ⟨by omega, ?_⟩ | refine ⟨⟨_, rfl, by assumption⟩, ?_⟩ | refine ⟨okT_I _, ?_⟩ | refine ⟨okT_S (by omega) (by omega), ?_⟩ | refine ⟨okT_B (by omega) (by omega), ?_⟩ | refine call0 (gd_of rfl) ?_)
            refine wp_rank (t := t) (u := tc p) (by rfl) (hob' D3 fun i => b1 ob i (by omega) (by omega) (by omega) (by omega) (by omega)) hT' (hTD.congr fun a i a1 a2 => b1 a i (by omega) (by omega) (by omega) (by omega) (by omega)) (by omega) (by omega) rfl rfl ?_
            simp only [P_X7_begin, i_kil, i_icon, i_lcon, i_null, i_loadI, i_loadL, i_loadR, i_istore, i_lstore, i_astore, i_iinc, i_dup, i_dup2, i_pop, i_iadd, i_isub, i_imul, i_idiv, i_irem, i_ineg, i_iand, i_ior, i_ishl, i_ishr, i_lxor, i_ladd, i_lsub, i_lmul, i_ldiv, i_lrem, i_lneg, i_lshl, i_lcmp, i_i2l, i_l2i, i_i2b, i_i2s, i_ifeq, i_ifne, i_iflt, i_ifge, i_ifgt, i_ifle, i_cmpeq, i_cmpne, i_cmplt, i_cmpge, i_cmpgt, i_cmple, i_acmpeq, i_acmpne, i_ifnull, i_ifnonnull, i_getI, i_getR, i_putI, i_putZ, i_putR, i_ald, i_ldL, i_ldR, i_ast, i_stL, i_stR, i_alen, i_new, i_newa, i_iret, i_zret, i_lret, i_aret, i_vret, i_raise, i_throw, i_recv, i_objinit, i_tsw3, lget, lset, lput1, lput2, lkil, ltrim, largs, isL, takev, dropv, nthv, pushO, catv, gd, true_and, and_true, Option.some.injEq, Prod.mk.injEq, exists_eq_left', if_true, if_false, reduceCtorEq, Bool.false_eq_true, lcmp_ge, lcmp_lt, lcmp_le, lcmp_gt, lcmp_eq, true_or, or_true, not_true_eq_false, not_false_eq_true, false_implies, true_implies, List.length_cons, List.length_nil, k1, k16, k17, x1, e1]
            refine ⟨fun w => fin (p + 1) D3 hp b1 b2 b3 b4 b5 b6 fun _ => by rw [Nat.add_sub_cancel]; omega, fun w => ?_⟩
            repeat (first | refine ⟨in_small (by omega) (by omega), ?_⟩ | (show (_ → _) ∧ (_ → _); first | refine ⟨by omega, fun _ => ?_⟩ | refine ⟨fun _ => ?_, by omega⟩) | refine ⟨by omega, ?_⟩ | refine ⟨⟨_, rfl, by assumption⟩, ?_⟩ | refine ⟨okT_I _, ?_⟩ | refine ⟨okT_S (by omega) (by omega), ?_⟩ | refine ⟨okT_B (by omega) (by omega), ?_⟩ | refine call0 (gd_of rfl) ?_)
            rw [show ((p + 1 : Nat) : Int) + -1 = (p : Nat) by omega]
            have fr3 : ∀ a i, a ≠ q + 11 → pmu D3 (q + 11) ((p + 1 : Nat) : Int) (tc p : Int) a i = D3 a i := fun a i h => by simp only [pmu]; rw [if_neg (fun w => h w.1)]
            refine ihp _ (by omega) (fun a i a1 a2 a3 a4 a5 => by rw [fr3 a i a4]; exact b1 a i a1 a2 a3 a4 a5) (fun i => by rw [fr3 _ _ (by omega)]; exact b2 i) (b3.congr (fun i => fr3 _ _ (by omega)) (fun i => fr3 _ _ (by omega))) (fun i hi => ?_) (fun i hi hi2 => ?_) (fun i hi hi2 => ?_)
            · simp only [pmu, true_and]; rw [if_neg (by omega)]; exact b4 i (by omega)
            · simp only [pmu, true_and]
              by_cases y : i = p + 1
              · rw [if_pos (by omega), y, Nat.add_sub_cancel]
              · rw [if_neg (by omega)]; exact b5 i (by omega) hi2
            · by_cases y : i = p
              · rw [y]; exact w
              · exact b6 i (by omega) hi2
        refine shift (c4 t) _ (Nat.le_refl _) (fun a i a1 a2 a3 a4 a5 => by rw [fr a i a5]; exact h1 a i a1 a2 a3 a4 a5) (fun i => by rw [fr _ _ (by omega)]; exact h2 i) (h3.congr (fun i => fr _ _ (by omega)) (fun i => fr _ _ (by omega))) (fun i hi => by rw [fr _ _ (by omega)]; exact h5 i hi) (fun i hi hi2 => by omega) (fun i hi hi2 => by omega)
      · have hcs : c4 (t + 1) = c4 t := by simp only [c4]; rw [if_neg (by omega)]; omega
        have := next (pmu D2 (q + 12) (t : Int) (-7)) tc (fun a i a1 a2 a3 a4 a5 => by rw [fr a i a5]; exact h1 a i a1 a2 a3 a4 a5) (fun i => by rw [fr _ _ (by omega)]; exact h2 i) (h3.congr (fun i => fr _ _ (by omega)) (fun i => fr _ _ (by omega))) (by
          rw [isColsT, hcs]
          refine ⟨fun i hi => by have := h4.1 i hi; omega, h4.2.1, fun u hu hd2 => h4.2.2 u (by
            by_cases e : u = t
            · rw [e] at hd2; omega
            · omega) hd2⟩) (fun i hi => by rw [hcs] at hi; rw [fr _ _ (by omega)]; exact h5 i hi)
        rw [hcs] at this
        exact this
  refine loop 455 0 D1 (fun _ => 0) rfl O1 (fun _ => rfl) f2 ⟨fun i hi => by have : i < 0 := hi; omega, fun i j _ hj => by have : j < 0 := hj; omega, fun u hu => by omega⟩ fun i hi => by have : i < 0 := hi; omega
