/-! the component's polynomials: slots -/
set_option maxRecDepth 100000
set_option linter.unusedVariables false
/-- a polynomial's row of slots -/
def pS (S : Stat) (p : Nat) : Prop := S.1 p = some (5, 0) ∧ S.2.1 p 0 = some (p + 1) ∧ S.1 (p + 1) = some (100, 13650)
/-- a slot of the row f holds a whole -/
def slot (f : Int → Int) (at0 : Int) (z : Int) : Prop := ∃ n : Nat, n ≤ 14 ∧ f at0 = Int.sign z * n ∧ dcan (fun i => f (at0 + 1 + i)) n ∧ (z.natAbs : Int) = dv (fun i => f (at0 + 1 + i)) n
theorem slot.zero {f : Int → Int} {a z : Int} (h : slot f a z) : f a = 0 ↔ z = 0 := by
  obtain ⟨n, h1, h2, h3, h4⟩ := h
  have hn := dv_nn h3.1
  constructor
  · intro h
    rw [h] at h2
    rcases sgn_cases z with g | g | g
    · rw [g.1] at h2
      have hn0 : n = 0 := by omega
      subst hn0
      simp only [dv] at h4
      omega
    · exact g.2
    · rw [g.1] at h2
      have hn0 : n = 0 := by omega
      subst hn0
      simp only [dv] at h4
      omega
  · intro h
    rw [h2, h]; simp
set_option maxHeartbeats 1000000 in
theorem sp_X5_save {E : Ex} {B : Nat × Nat} {S : Stat} {D : Dat} {p w r a : Nat} {z : Int} (hp : pS S p) (hw : wS 3 S w r) (hpw : p + 1 ≠ w + 1) (hz : wD 1 2 D w z) (hb : (z.natAbs : Int) < 1000000000 ^ 14) (hr : 14 ≤ r) (ha : a + 15 ≤ 13650)
    (k : ∀ D' : Dat, (∀ c i, ¬ (c = p + 1 ∧ (a : Int) ≤ i ∧ i < a + 15) → D' c i = D c i) → slot (D' (p + 1)) a z → E (.inl none) B S D') : Wp P_X5_save E 0 [some (aR p), some (aI a), some (aR w)] [] B S D := by
  obtain ⟨p1, p2, p3⟩ := hp
  obtain ⟨w1, w2, w3⟩ := hw
  obtain ⟨n, hn, z1, z2, z3, z4⟩ := hz.nat hb
  have npw : p + 1 ≠ w := fun h => by rw [← h, p3] at w1; simp at w1
  have loop : ∀ (L j : Nat) (D' : Dat), j + L = n → (∀ c i, ¬ (c = p + 1 ∧ (a : Int) ≤ i ∧ i < a + 15) → D' c i = D c i) → D' (p + 1) a = Int.sign z * n → (∀ i : Int, 0 ≤ i → i < j → D' (p + 1) (a + 1 + i) = D (w + 1) i) → Wp P_X5_save E 1 [some (aR p), some (aI a), some (aR w), some (aI j)] [] B S D' := by
    intro L
    induction L with
    | zero =>
      intro j D' hj hf h0 hd
      have hjn : j = n := by omega
      subst hjn
      have e1 : D' w 1 = j := by rw [hf _ _ (fun h => npw h.1.symm), z1]
      refine wp_in ?_
      simp only [P_X5_save, i_kil, i_icon, i_lcon, i_null, i_loadI, i_loadL, i_loadR, i_istore, i_lstore, i_astore, i_iinc, i_dup, i_dup2, i_pop, i_iadd, i_isub, i_imul, i_idiv, i_irem, i_ineg, i_iand, i_ior, i_ishl, i_ishr, i_lxor, i_ladd, i_lsub, i_lmul, i_ldiv, i_lrem, i_lneg, i_lshl, i_lcmp, i_i2l, i_l2i, i_i2b, i_i2s, i_ifeq, i_ifne, i_iflt, i_ifge, i_ifgt, i_ifle, i_cmpeq, i_cmpne, i_cmplt, i_cmpge, i_cmpgt, i_cmple, i_acmpeq, i_acmpne, i_ifnull, i_ifnonnull, i_getI, i_getR, i_putI, i_putZ, i_putR, i_ald, i_ldL, i_ldR, i_ast, i_stL, i_stR, i_alen, i_new, i_newa, i_iret, i_zret, i_lret, i_aret, i_vret, i_raise, i_throw, i_recv, i_objinit, i_tsw3, lget, lset, lput1, lput2, lkil, ltrim, largs, isL, takev, dropv, nthv, pushO, catv, gd, true_and, and_true, Option.some.injEq, Prod.mk.injEq, exists_eq_left', if_true, if_false, reduceCtorEq, Bool.false_eq_true, lcmp_ge, lcmp_lt, lcmp_le, lcmp_gt, lcmp_eq, true_or, or_true, not_true_eq_false, not_false_eq_true, false_implies, true_implies, List.length_cons, List.length_nil, p1, p2, p3, w1, w2, w3, e1]
      refine ⟨fun _ => k D' hf ⟨j, hn, h0, ⟨fun i g1 g2 => ?_, fun g => ?_⟩, ?_⟩, fun h => absurd h (Int.lt_irrefl _)⟩
      · show 0 ≤ D' (p + 1) (a + 1 + i) ∧ D' (p + 1) (a + 1 + i) < 1000000000
        rw [hd i g1 g2]; exact z2.1 i g1 g2
      · show D' (p + 1) (a + 1 + ((j : Int) - 1)) ≠ 0
        rw [hd _ (by omega) (by omega)]; exact z2.2 g
      · rw [z4]; exact dv_congr fun i g1 g2 => (hd i g1 g2).symm
    | succ L ih =>
      intro j D' hj hf h0 hd
      have e1 : D' w 1 = n := by rw [hf _ _ (fun h => npw h.1.symm), z1]
      have e2 : D' (w + 1) j = D (w + 1) j := hf _ _ (fun h => hpw h.1.symm)
      refine wp_in ?_
      simp only [P_X5_save, i_kil, i_icon, i_lcon, i_null, i_loadI, i_loadL, i_loadR, i_istore, i_lstore, i_astore, i_iinc, i_dup, i_dup2, i_pop, i_iadd, i_isub, i_imul, i_idiv, i_irem, i_ineg, i_iand, i_ior, i_ishl, i_ishr, i_lxor, i_ladd, i_lsub, i_lmul, i_ldiv, i_lrem, i_lneg, i_lshl, i_lcmp, i_i2l, i_l2i, i_i2b, i_i2s, i_ifeq, i_ifne, i_iflt, i_ifge, i_ifgt, i_ifle, i_cmpeq, i_cmpne, i_cmplt, i_cmpge, i_cmpgt, i_cmple, i_acmpeq, i_acmpne, i_ifnull, i_ifnonnull, i_getI, i_getR, i_putI, i_putZ, i_putR, i_ald, i_ldL, i_ldR, i_ast, i_stL, i_stR, i_alen, i_new, i_newa, i_iret, i_zret, i_lret, i_aret, i_vret, i_raise, i_throw, i_recv, i_objinit, i_tsw3, lget, lset, lput1, lput2, lkil, ltrim, largs, isL, takev, dropv, nthv, pushO, catv, gd, true_and, and_true, Option.some.injEq, Prod.mk.injEq, exists_eq_left', if_true, if_false, reduceCtorEq, Bool.false_eq_true, lcmp_ge, lcmp_lt, lcmp_le, lcmp_gt, lcmp_eq, true_or, or_true, not_true_eq_false, not_false_eq_true, false_implies, true_implies, List.length_cons, List.length_nil, p1, p2, p3, w1, w2, w3, e1, e2]
      refine ⟨fun h => by omega, fun _ => ⟨in_small (by omega) (by omega), in_small (by omega) (by omega), by omega, by omega, by omega, by omega, by simp [okT], in_small (by omega) (by omega), ?_⟩⟩
      refine ih (j + 1) _ (by omega) (fun c i h => ?_) ?_ (fun i g1 g2 => ?_)
      · simp only [pmu]
        rw [if_neg (fun g => h ⟨g.1, by omega, by omega⟩)]
        exact hf c i h
      · simp only [pmu]
        rw [if_neg (fun g => by omega)]
        exact h0
      · simp only [pmu, true_and]
        split
        · rename_i hi
          rw [show i = (j : Int) by omega]
        · exact hd i g1 (by omega)
  refine wp_in ?_
  simp only [P_X5_save, i_kil, i_icon, i_lcon, i_null, i_loadI, i_loadL, i_loadR, i_istore, i_lstore, i_astore, i_iinc, i_dup, i_dup2, i_pop, i_iadd, i_isub, i_imul, i_idiv, i_irem, i_ineg, i_iand, i_ior, i_ishl, i_ishr, i_lxor, i_ladd, i_lsub, i_lmul, i_ldiv, i_lrem, i_lneg, i_lshl, i_lcmp, i_i2l, i_l2i, i_i2b, i_i2s, i_ifeq, i_ifne, i_iflt, i_ifge, i_ifgt, i_ifle, i_cmpeq, i_cmpne, i_cmplt, i_cmpge, i_cmpgt, i_cmple, i_acmpeq, i_acmpne, i_ifnull, i_ifnonnull, i_getI, i_getR, i_putI, i_putZ, i_putR, i_ald, i_ldL, i_ldR, i_ast, i_stL, i_stR, i_alen, i_new, i_newa, i_iret, i_zret, i_lret, i_aret, i_vret, i_raise, i_throw, i_recv, i_objinit, i_tsw3, lget, lset, lput1, lput2, lkil, ltrim, largs, isL, takev, dropv, nthv, pushO, catv, gd, true_and, and_true, Option.some.injEq, Prod.mk.injEq, exists_eq_left', if_true, if_false, reduceCtorEq, Bool.false_eq_true, lcmp_ge, lcmp_lt, lcmp_le, lcmp_gt, lcmp_eq, true_or, or_true, not_true_eq_false, not_false_eq_true, false_implies, true_implies, List.length_cons, List.length_nil, p1, p2, p3, w1, w2, w3, z1, z3]
  refine ⟨in_small (by rcases sgn_cases z with g | g | g <;> rw [g.1] <;> omega) (by rcases sgn_cases z with g | g | g <;> rw [g.1] <;> omega), by omega, by omega, by simp [okT], ?_⟩
  refine loop n 0 _ (by omega) (fun c i h => ?_) (by simp [pmu]) (fun i g1 g2 => by omega)
  simp only [pmu]
  rw [if_neg (fun g => h ⟨g.1, by omega, by omega⟩)]
