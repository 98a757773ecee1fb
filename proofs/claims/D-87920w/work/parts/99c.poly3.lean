/-! the component's polynomials: what they hold -/
set_option maxRecDepth 100000
set_option linter.unusedVariables false
/-- how many terms have a number other than 0 -/
def pcnt (φ : Nat → Rat) : Nat → Nat
  | 0 => 0
  | n + 1 => pcnt φ n + (if φ n = 0 then 0 else 1)
def pupd (φ : Nat → Rat) (t : Nat) (x : Rat) : Nat → Rat := fun u => if u = t then x else φ u
theorem pcnt_upd (φ : Nat → Rat) (t : Nat) (x : Rat) (n : Nat) : (n ≤ t → pcnt (pupd φ t x) n = pcnt φ n) ∧ (t < n → pcnt (pupd φ t x) n + (if φ t = 0 then 0 else 1) = pcnt φ n + (if x = 0 then 0 else 1)) := by
  induction n with
  | zero => exact ⟨fun _ => rfl, fun h => absurd h (Nat.not_lt_zero t)⟩
  | succ n ih =>
    refine ⟨fun h => ?_, fun h => ?_⟩
    · simp only [pcnt]
      rw [ih.1 (by omega)]
      have e : pupd φ t x n = φ n := by simp only [pupd]; rw [if_neg (by omega)]
      rw [e]
    · simp only [pcnt]
      by_cases hn : n = t
      · subst hn
        rw [ih.1 (Nat.le_refl _)]
        have e : pupd φ n x n = x := by simp only [pupd, if_true]
        rw [e]
        omega
      · have e : pupd φ t x n = φ n := by simp only [pupd]; rw [if_neg hn]
        rw [e]
        have := ih.2 (by omega)
        omega
theorem pcnt_le (φ : Nat → Rat) (n : Nat) : pcnt φ n ≤ n := by
  induction n with
  | zero => exact Nat.le_refl _
  | succ n ih => simp only [pcnt]; split <;> omega
/-- the polynomial at p holds the numbers φ -/
def pD (D : Dat) (p : Nat) (φ : Nat → Rat) : Prop := (∀ t : Nat, t < 455 → slot (D (p + 1)) (30 * (t : Int)) (φ t).num ∧ (φ t ≠ 0 → slot (D (p + 1)) (30 * (t : Int) + 15) ((φ t).den : Int))) ∧ D p 1 = pcnt φ 455
theorem slot.congr {f g : Int → Int} {a z : Int} (h : slot f a z) (e : ∀ i, a ≤ i → i < a + 15 → g i = f i) : slot g a z := by
  obtain ⟨n, h1, h2, h3, h4⟩ := h
  have h5 : ∀ i : Int, 0 ≤ i → i < n → g (a + 1 + i) = f (a + 1 + i) := fun i g1 g2 => e _ (by omega) (by omega)
  refine ⟨n, h1, by rw [e a (by omega) (by omega)]; exact h2, ⟨fun i g1 g2 => ?_, fun g0 => ?_⟩, ?_⟩
  · show 0 ≤ g (a + 1 + i) ∧ g (a + 1 + i) < 1000000000
    rw [h5 i g1 g2]; exact h3.1 i g1 g2
  · show g (a + 1 + ((n : Int) - 1)) ≠ 0
    rw [h5 _ (by omega) (by omega)]; exact h3.2 g0
  · rw [h4]; exact dv_congr fun i g1 g2 => (h5 i g1 g2).symm
theorem pD.at {D : Dat} {p t : Nat} {φ : Nat → Rat} (h : pD D p φ) (ht : t < 455) : D (p + 1) (30 * (t : Int)) = 0 ↔ φ t = 0 := by
  have h1 := (h.1 t ht).1.zero
  rw [h1]
  exact Rat.num_eq_zero
theorem sp_X5_has {E : Ex} {B : Nat × Nat} {S : Stat} {D : Dat} {p t : Nat} {φ : Nat → Rat} (hp : pS S p) (hD : pD D p φ) (ht : t < 455) (k : E (.inl (some (.inl (if φ t = 0 then 0 else 1)))) B S D) : Wp P_X5_has E 0 [some (aR p), some (aI t)] [] B S D := by
  obtain ⟨p1, p2, p3⟩ := hp
  have h0 := hD.at ht
  refine wp_in ?_
  simp only [P_X5_has, i_kil, i_icon, i_lcon, i_null, i_loadI, i_loadL, i_loadR, i_istore, i_lstore, i_astore, i_iinc, i_dup, i_dup2, i_pop, i_iadd, i_isub, i_imul, i_idiv, i_irem, i_ineg, i_iand, i_ior, i_ishl, i_ishr, i_lxor, i_ladd, i_lsub, i_lmul, i_ldiv, i_lrem, i_lneg, i_lshl, i_lcmp, i_i2l, i_l2i, i_i2b, i_i2s, i_ifeq, i_ifne, i_iflt, i_ifge, i_ifgt, i_ifle, i_cmpeq, i_cmpne, i_cmplt, i_cmpge, i_cmpgt, i_cmple, i_acmpeq, i_acmpne, i_ifnull, i_ifnonnull, i_getI, i_getR, i_putI, i_putZ, i_putR, i_ald, i_ldL, i_ldR, i_ast, i_stL, i_stR, i_alen, i_new, i_newa, i_iret, i_zret, i_lret, i_aret, i_vret, i_raise, i_throw, i_recv, i_objinit, i_tsw3, lget, lset, lput1, lput2, lkil, ltrim, largs, isL, takev, dropv, nthv, pushO, catv, gd, true_and, and_true, Option.some.injEq, Prod.mk.injEq, exists_eq_left', if_true, if_false, reduceCtorEq, Bool.false_eq_true, lcmp_ge, lcmp_lt, lcmp_le, lcmp_gt, lcmp_eq, true_or, or_true, not_true_eq_false, not_false_eq_true, false_implies, true_implies, List.length_cons, List.length_nil, p1, p2, p3]
  refine ⟨in_small (by omega) (by omega), by omega, by omega, fun h => ?_, fun h => ?_⟩
  · rw [if_pos (h0.mp h)] at k
    refine wp_in ?_
    simp only [P_X5_has, i_kil, i_icon, i_lcon, i_null, i_loadI, i_loadL, i_loadR, i_istore, i_lstore, i_astore, i_iinc, i_dup, i_dup2, i_pop, i_iadd, i_isub, i_imul, i_idiv, i_irem, i_ineg, i_iand, i_ior, i_ishl, i_ishr, i_lxor, i_ladd, i_lsub, i_lmul, i_ldiv, i_lrem, i_lneg, i_lshl, i_lcmp, i_i2l, i_l2i, i_i2b, i_i2s, i_ifeq, i_ifne, i_iflt, i_ifge, i_ifgt, i_ifle, i_cmpeq, i_cmpne, i_cmplt, i_cmpge, i_cmpgt, i_cmple, i_acmpeq, i_acmpne, i_ifnull, i_ifnonnull, i_getI, i_getR, i_putI, i_putZ, i_putR, i_ald, i_ldL, i_ldR, i_ast, i_stL, i_stR, i_alen, i_new, i_newa, i_iret, i_zret, i_lret, i_aret, i_vret, i_raise, i_throw, i_recv, i_objinit, i_tsw3, lget, lset, lput1, lput2, lkil, ltrim, largs, isL, takev, dropv, nthv, pushO, catv, gd, true_and, and_true, Option.some.injEq, Prod.mk.injEq, exists_eq_left', if_true, if_false, reduceCtorEq, Bool.false_eq_true, lcmp_ge, lcmp_lt, lcmp_le, lcmp_gt, lcmp_eq, true_or, or_true, not_true_eq_false, not_false_eq_true, false_implies, true_implies, List.length_cons, List.length_nil]
    exact k
  · rw [if_neg (fun g => h (h0.mpr g))] at k
    refine wp_in ?_
    simp only [P_X5_has, i_kil, i_icon, i_lcon, i_null, i_loadI, i_loadL, i_loadR, i_istore, i_lstore, i_astore, i_iinc, i_dup, i_dup2, i_pop, i_iadd, i_isub, i_imul, i_idiv, i_irem, i_ineg, i_iand, i_ior, i_ishl, i_ishr, i_lxor, i_ladd, i_lsub, i_lmul, i_ldiv, i_lrem, i_lneg, i_lshl, i_lcmp, i_i2l, i_l2i, i_i2b, i_i2s, i_ifeq, i_ifne, i_iflt, i_ifge, i_ifgt, i_ifle, i_cmpeq, i_cmpne, i_cmplt, i_cmpge, i_cmpgt, i_cmple, i_acmpeq, i_acmpne, i_ifnull, i_ifnonnull, i_getI, i_getR, i_putI, i_putZ, i_putR, i_ald, i_ldL, i_ldR, i_ast, i_stL, i_stR, i_alen, i_new, i_newa, i_iret, i_zret, i_lret, i_aret, i_vret, i_raise, i_throw, i_recv, i_objinit, i_tsw3, lget, lset, lput1, lput2, lkil, ltrim, largs, isL, takev, dropv, nthv, pushO, catv, gd, true_and, and_true, Option.some.injEq, Prod.mk.injEq, exists_eq_left', if_true, if_false, reduceCtorEq, Bool.false_eq_true, lcmp_ge, lcmp_lt, lcmp_le, lcmp_gt, lcmp_eq, true_or, or_true, not_true_eq_false, not_false_eq_true, false_implies, true_implies, List.length_cons, List.length_nil]
    exact k
/-- a work on a polynomial's number of one term -/
def pO (D D' : Dat) (p : Nat) : Prop := ∀ c i, c ≠ p → c ≠ p + 1 → D' c i = D c i
set_option maxHeartbeats 1000000 in
theorem sp_X5_drop {E : Ex} {B : Nat × Nat} {S : Stat} {D : Dat} {p t : Nat} {φ : Nat → Rat} (hp : pS S p) (hD : pD D p φ) (ht : t < 455)
    (k : ∀ D' : Dat, pO D D' p → pD D' p (pupd φ t 0) → E (.inl none) B S D') : Wp P_X5_drop E 0 [some (aR p), some (aI t)] [] B S D := by
  have hp0 := hp
  obtain ⟨p1, p2, p3⟩ := hp
  have hc := (pcnt_upd φ t 0 455).2 ht
  rw [if_pos rfl] at hc
  have hle := pcnt_le φ 455
  have last : ∀ D1 : Dat, (∀ c i, c ≠ p → D1 c i = D c i) → D1 p 1 = pcnt (pupd φ t 0) 455 → Wp P_X5_drop E 1 [some (aR p), some (aI t)] [] B S D1 := by
    intro D1 hf hm
    refine wp_in ?_
    simp only [P_X5_drop, i_kil, i_icon, i_lcon, i_null, i_loadI, i_loadL, i_loadR, i_istore, i_lstore, i_astore, i_iinc, i_dup, i_dup2, i_pop, i_iadd, i_isub, i_imul, i_idiv, i_irem, i_ineg, i_iand, i_ior, i_ishl, i_ishr, i_lxor, i_ladd, i_lsub, i_lmul, i_ldiv, i_lrem, i_lneg, i_lshl, i_lcmp, i_i2l, i_l2i, i_i2b, i_i2s, i_ifeq, i_ifne, i_iflt, i_ifge, i_ifgt, i_ifle, i_cmpeq, i_cmpne, i_cmplt, i_cmpge, i_cmpgt, i_cmple, i_acmpeq, i_acmpne, i_ifnull, i_ifnonnull, i_getI, i_getR, i_putI, i_putZ, i_putR, i_ald, i_ldL, i_ldR, i_ast, i_stL, i_stR, i_alen, i_new, i_newa, i_iret, i_zret, i_lret, i_aret, i_vret, i_raise, i_throw, i_recv, i_objinit, i_tsw3, lget, lset, lput1, lput2, lkil, ltrim, largs, isL, takev, dropv, nthv, pushO, catv, gd, true_and, and_true, Option.some.injEq, Prod.mk.injEq, exists_eq_left', if_true, if_false, reduceCtorEq, Bool.false_eq_true, lcmp_ge, lcmp_lt, lcmp_le, lcmp_gt, lcmp_eq, true_or, or_true, not_true_eq_false, not_false_eq_true, false_implies, true_implies, List.length_cons, List.length_nil, p1, p2, p3]
    refine ⟨in_small (by omega) (by omega), by omega, by omega, by simp [okT], ?_⟩
    refine k _ (fun c i c1 c2 => by simp [pmu, c2, hf c i c1]) ⟨fun u hu => ?_, ?_⟩
    · have er : ∀ i, pmu D1 (p + 1) (30 * (t : Int)) 0 (p + 1) i = if i = 30 * (t : Int) then 0 else D (p + 1) i := fun i => by
        simp only [pmu, true_and]
        rw [hf _ _ (by omega)]
      by_cases h : u = t
      · subst h
        have e : pupd φ u 0 u = 0 := by simp only [pupd, if_true]
        rw [e]
        refine ⟨⟨0, by omega, ?_, ⟨fun i g1 g2 => by omega, fun g => by omega⟩, rfl⟩, fun g => absurd rfl g⟩
        rw [er, if_pos rfl]; rfl
      · have e : pupd φ t 0 u = φ u := by simp only [pupd]; rw [if_neg h]
        rw [e]
        obtain ⟨s1, s2⟩ := hD.1 u hu
        refine ⟨s1.congr fun i g1 g2 => ?_, fun g => (s2 g).congr fun i g1 g2 => ?_⟩
        · rw [er, if_neg (by omega)]
        · rw [er, if_neg (by omega)]
    · simp only [pmu]
      rw [if_neg (fun h => by omega)]
      exact hm
  refine wp_in ?_
  simp only [P_X5_drop, i_kil, i_icon, i_lcon, i_null, i_loadI, i_loadL, i_loadR, i_istore, i_lstore, i_astore, i_iinc, i_dup, i_dup2, i_pop, i_iadd, i_isub, i_imul, i_idiv, i_irem, i_ineg, i_iand, i_ior, i_ishl, i_ishr, i_lxor, i_ladd, i_lsub, i_lmul, i_ldiv, i_lrem, i_lneg, i_lshl, i_lcmp, i_i2l, i_l2i, i_i2b, i_i2s, i_ifeq, i_ifne, i_iflt, i_ifge, i_ifgt, i_ifle, i_cmpeq, i_cmpne, i_cmplt, i_cmpge, i_cmpgt, i_cmple, i_acmpeq, i_acmpne, i_ifnull, i_ifnonnull, i_getI, i_getR, i_putI, i_putZ, i_putR, i_ald, i_ldL, i_ldR, i_ast, i_stL, i_stR, i_alen, i_new, i_newa, i_iret, i_zret, i_lret, i_aret, i_vret, i_raise, i_throw, i_recv, i_objinit, i_tsw3, lget, lset, lput1, lput2, lkil, ltrim, largs, isL, takev, dropv, nthv, pushO, catv, gd, true_and, and_true, Option.some.injEq, Prod.mk.injEq, exists_eq_left', if_true, if_false, reduceCtorEq, Bool.false_eq_true, lcmp_ge, lcmp_lt, lcmp_le, lcmp_gt, lcmp_eq, true_or, or_true, not_true_eq_false, not_false_eq_true, false_implies, true_implies, List.length_cons, List.length_nil, p1]
  refine ⟨⟨p, rfl, p1⟩, call0 (gd_of rfl) ?_⟩
  refine sp_X5_has hp0 hD ht ?_
  simp only [P_X5_drop, i_kil, i_icon, i_lcon, i_null, i_loadI, i_loadL, i_loadR, i_istore, i_lstore, i_astore, i_iinc, i_dup, i_dup2, i_pop, i_iadd, i_isub, i_imul, i_idiv, i_irem, i_ineg, i_iand, i_ior, i_ishl, i_ishr, i_lxor, i_ladd, i_lsub, i_lmul, i_ldiv, i_lrem, i_lneg, i_lshl, i_lcmp, i_i2l, i_l2i, i_i2b, i_i2s, i_ifeq, i_ifne, i_iflt, i_ifge, i_ifgt, i_ifle, i_cmpeq, i_cmpne, i_cmplt, i_cmpge, i_cmpgt, i_cmple, i_acmpeq, i_acmpne, i_ifnull, i_ifnonnull, i_getI, i_getR, i_putI, i_putZ, i_putR, i_ald, i_ldL, i_ldR, i_ast, i_stL, i_stR, i_alen, i_new, i_newa, i_iret, i_zret, i_lret, i_aret, i_vret, i_raise, i_throw, i_recv, i_objinit, i_tsw3, lget, lset, lput1, lput2, lkil, ltrim, largs, isL, takev, dropv, nthv, pushO, catv, gd, true_and, and_true, Option.some.injEq, Prod.mk.injEq, exists_eq_left', if_true, if_false, reduceCtorEq, Bool.false_eq_true, lcmp_ge, lcmp_lt, lcmp_le, lcmp_gt, lcmp_eq, true_or, or_true, not_true_eq_false, not_false_eq_true, false_implies, true_implies, List.length_cons, List.length_nil, p1]
  refine ⟨fun h => ?_, fun h => ?_⟩
  · have h0 : φ t = 0 := by
      rcases Classical.em (φ t = 0) with g | g
      · exact g
      · rw [if_neg g] at h; exact absurd h (by decide)
    rw [if_pos h0] at hc
    exact last D (fun _ _ _ => rfl) (by rw [hD.2]; omega)
  · have h0 : ¬ φ t = 0 := fun g => by rw [if_pos g] at h; exact h rfl
    rw [if_neg h0] at hc
    refine ⟨in_small (by rw [hD.2]; omega) (by rw [hD.2]; omega), ?_⟩
    exact last _ (fun c i c1 => by simp [pmu, c1]) (by simp [pmu]; rw [hD.2]; omega)
