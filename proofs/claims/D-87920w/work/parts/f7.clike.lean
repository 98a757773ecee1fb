/-! the component: are two polynomials alike -/
-- needs: f6.cops2
set_option maxRecDepth 100000
set_option linter.unusedVariables false
theorem slot_eq {f g : Int → Int} {a z z' : Int} (h : slot f a z) (h' : slot g a z') : z = z' ↔ f a = g a ∧ ∀ i : Int, 1 ≤ i → i ≤ (f a).natAbs → f (a + i) = g (a + i) := by
  have s0 := h.zero
  have s0' := h'.zero
  obtain ⟨n, a1, a2, a3, a4⟩ := h
  obtain ⟨m, b1, b2, b3, b4⟩ := h'
  have ab : ∀ (z : Int) (n : Nat), z ≠ 0 → (Int.sign z * (n : Int)).natAbs = n := fun z n hz => by
    rw [Int.natAbs_mul, Int.natAbs_sign, if_neg hz]; omega
  constructor
  · intro e
    subst e
    have hnm : n = m := dcan_uniq a3 b3 (by rw [← a4, ← b4])
    subst hnm
    refine ⟨by rw [a2, b2], fun i h1 h2 => ?_⟩
    by_cases hz : z = 0
    · rw [s0.mpr hz] at h2; omega
    · rw [a2, ab z n hz] at h2
      have := dv_inj a3.1 b3.1 (by rw [← a4, ← b4]) (i - 1) (by omega) (by omega)
      rw [show a + 1 + (i - 1) = a + i by omega] at this
      exact this
  · intro ⟨e, hd⟩
    by_cases hz : z = 0
    · rw [hz, eq_comm]
      exact s0'.mp (by rw [← e]; exact s0.mpr hz)
    · have hz' : z' ≠ 0 := fun w => hz (s0.mp (by rw [e]; exact s0'.mpr w))
      have e2 := e
      rw [a2, b2] at e2
      have hnm : n = m := by rw [← ab z n hz, ← ab z' m hz', e2]
      subst hnm
      have hn0 : n ≠ 0 := fun w => by
        subst w
        have : (z.natAbs : Int) = 0 := a4
        omega
      have hsg : Int.sign z = Int.sign z' := Int.eq_of_mul_eq_mul_right (by omega : (n : Int) ≠ 0) e2
      have hdv : dv (fun i => f (a + 1 + i)) n = dv (fun i => g (a + 1 + i)) n := dv_congr fun i h1 h2 => by
        show f (a + 1 + i) = g (a + 1 + i)
        rw [show a + 1 + i = a + (i + 1) by omega]
        refine hd (i + 1) (by omega) ?_
        rw [a2, ab z n hz]; omega
      rw [sgn_mul_abs z, sgn_mul_abs z', hsg, a4, b4, hdv]
theorem slot_n {f : Int → Int} {a z : Int} (h : slot f a z) : (f a).natAbs ≤ 14 := by
  obtain ⟨n, a1, a2, a3, a4⟩ := h
  rw [a2, Int.natAbs_mul, Int.natAbs_sign]
  split <;> omega
section LIK
variable {S : Stat} {D : Dat}
theorem sp_X5_isLikeAt {E : Ex} {B : Nat × Nat} {p q t : Nat} {φ ψ : Nat → Rat} (hp : pS S p) (hq : pS S q) (hD : pD D p φ) (hD' : pD D q ψ) (ht : t < 455)
    (K : ∀ v : Int, (v = 0 ∨ v = 1) → (v = 1 ↔ φ t = ψ t) → E (.inl (some (.inl v))) B S D) : Wp P_X5_isLikeAt E 0 [some (aR p), some (aR q), some (aI t)] [] B S D := by
  obtain ⟨p1, p2, p3⟩ := hp
  obtain ⟨q1, q2, q3⟩ := hq
  obtain ⟨f1, f2⟩ := hD.1 t ht
  obtain ⟨g1, g2⟩ := hD'.1 t ht
  have z1 : D (p + 1) (30 * (t : Int)) = 0 ↔ φ t = 0 := hD.at ht
  have z2 : D (q + 1) (30 * (t : Int)) = 0 ↔ ψ t = 0 := hD'.at ht
  obtain ⟨a, ha⟩ : ∃ a : Int, a = 30 * (t : Int) := ⟨_, rfl⟩
  rw [← ha] at f1 f2 g1 g2 z1 z2
  have hn := slot_n f1
  let A : Prop := D (p + 1) a = D (q + 1) a ∧ (D (p + 1) a = 0 ∨ D (p + 1) (a + 15) = D (q + 1) (a + 15))
  let X : Prop := ∀ i : Int, 1 ≤ i → i ≤ (D (p + 1) a).natAbs → D (p + 1) (a + i) = D (q + 1) (a + i)
  let Y : Prop := D (p + 1) a ≠ 0 → ∀ i : Int, 1 ≤ i → i ≤ D (p + 1) (a + 15) → D (p + 1) (a + 15 + i) = D (q + 1) (a + 15 + i)
  have dpos : φ t ≠ 0 → D (p + 1) (a + 15) = (D (p + 1) (a + 15)).natAbs ∧ (D (p + 1) (a + 15)).natAbs ≤ 14 := fun h => by
    have s := f2 h
    have hn2 := slot_n s
    obtain ⟨n, a1, a2, a3, a4⟩ := s
    have : Int.sign (((φ t).den : Nat) : Int) = 1 := Int.sign_eq_one_of_pos (by have := (φ t).den_pos; omega)
    rw [this] at a2
    refine ⟨?_, hn2⟩
    rw [a2]; omega
  have law : (A ∧ X ∧ Y) ↔ φ t = ψ t := by
    constructor
    · intro ⟨⟨h1, h2⟩, h3, h4⟩
      have en : (φ t).num = (ψ t).num := (slot_eq f1 g1).mpr ⟨h1, h3⟩
      by_cases h0 : φ t = 0
      · rw [h0, eq_comm]
        exact z2.mp (by rw [← h1]; exact z1.mpr h0)
      · have h0' : ψ t ≠ 0 := fun w => h0 (z1.mp (by rw [h1]; exact z2.mpr w))
        have hz : D (p + 1) a ≠ 0 := fun w => h0 (z1.mp w)
        have ed : (((φ t).den : Nat) : Int) = ((ψ t).den : Nat) := (slot_eq (f2 h0) (g2 h0')).mpr ⟨by
          rcases h2 with h2 | h2
          · exact absurd h2 hz
          · exact h2, fun i i1 i2 => h4 hz i i1 (by have := (dpos h0).1; omega)⟩
        exact Rat.ext en (by omega)
    · intro e
      have s1 := (slot_eq f1 g1).mp (by rw [e])
      by_cases h0 : φ t = 0
      · refine ⟨⟨s1.1, .inl (z1.mpr h0)⟩, s1.2, fun w => absurd (z1.mpr h0) w⟩
      · have h0' : ψ t ≠ 0 := by rw [← e]; exact h0
        have s2 := (slot_eq (f2 h0) (g2 h0')).mp (by rw [e])
        exact ⟨⟨s1.1, .inr s2.1⟩, s1.2, fun _ i i1 i2 => s2.2 i i1 (by have := (dpos h0).1; omega)⟩
  have fin : ∀ (l0 l1 l2 l3 : Option PV) (v : Int), (v = 0 ∨ v = 1) → (v = 1 ↔ φ t = ψ t) → Wp P_X5_isLikeAt E 9 [l0, l1, l2, l3, some (aI v)] [] B S D := fun l0 l1 l2 l3 v h1 h2 => by
    refine wp_in ?_
    simp only [P_X5_isLikeAt, i_kil, i_icon, i_lcon, i_null, i_loadI, i_loadL, i_loadR, i_istore, i_lstore, i_astore, i_iinc, i_dup, i_dup2, i_pop, i_iadd, i_isub, i_imul, i_idiv, i_irem, i_ineg, i_iand, i_ior, i_ishl, i_ishr, i_lxor, i_ladd, i_lsub, i_lmul, i_ldiv, i_lrem, i_lneg, i_lshl, i_lcmp, i_i2l, i_l2i, i_i2b, i_i2s, i_ifeq, i_ifne, i_iflt, i_ifge, i_ifgt, i_ifle, i_cmpeq, i_cmpne, i_cmplt, i_cmpge, i_cmpgt, i_cmple, i_acmpeq, i_acmpne, i_ifnull, i_ifnonnull, i_getI, i_getR, i_putI, i_putZ, i_putR, i_ald, i_ldL, i_ldR, i_ast, i_stL, i_stR, i_alen, i_new, i_newa, i_iret, i_zret, i_lret, i_aret, i_vret, i_raise, i_throw, i_recv, i_objinit, i_tsw3, lget, lset, lput1, lput2, lkil, ltrim, largs, isL, takev, dropv, nthv, pushO, catv, gd, true_and, and_true, Option.some.injEq, Prod.mk.injEq, exists_eq_left', if_true, if_false, reduceCtorEq, Bool.false_eq_true, lcmp_ge, lcmp_lt, lcmp_le, lcmp_gt, lcmp_eq, true_or, or_true, not_true_eq_false, not_false_eq_true, false_implies, true_implies, List.length_cons, List.length_nil]
    rcases h1 with h1 | h1 <;> subst h1
    · exact ⟨.inl rfl, K 0 (.inl rfl) h2⟩
    · exact ⟨.inr rfl, K 1 (.inr rfl) h2⟩
  have seven : ∀ (L : Nat) (k v : Int), 1 ≤ k → k + (L : Int) = 16 → (v = 0 ∨ v = 1) → (v = 1 ↔ A ∧ X ∧ (D (p + 1) a ≠ 0 → ∀ i : Int, 1 ≤ i → i < k → i ≤ D (p + 1) (a + 15) → D (p + 1) (a + 15 + i) = D (q + 1) (a + 15 + i))) → Wp P_X5_isLikeAt E 7 [some (aR p), some (aR q), none, some (aI a), some (aI v), some (aI (D (p + 1) a).natAbs), some (aI k)] [] B S D := by
    intro L
    induction L with
    | zero =>
      intro k v k1 hk h1 h2
      refine wp_in ?_
      simp only [P_X5_isLikeAt, i_kil, i_icon, i_lcon, i_null, i_loadI, i_loadL, i_loadR, i_istore, i_lstore, i_astore, i_iinc, i_dup, i_dup2, i_pop, i_iadd, i_isub, i_imul, i_idiv, i_irem, i_ineg, i_iand, i_ior, i_ishl, i_ishr, i_lxor, i_ladd, i_lsub, i_lmul, i_ldiv, i_lrem, i_lneg, i_lshl, i_lcmp, i_i2l, i_l2i, i_i2b, i_i2s, i_ifeq, i_ifne, i_iflt, i_ifge, i_ifgt, i_ifle, i_cmpeq, i_cmpne, i_cmplt, i_cmpge, i_cmpgt, i_cmple, i_acmpeq, i_acmpne, i_ifnull, i_ifnonnull, i_getI, i_getR, i_putI, i_putZ, i_putR, i_ald, i_ldL, i_ldR, i_ast, i_stL, i_stR, i_alen, i_new, i_newa, i_iret, i_zret, i_lret, i_aret, i_vret, i_raise, i_throw, i_recv, i_objinit, i_tsw3, lget, lset, lput1, lput2, lkil, ltrim, largs, isL, takev, dropv, nthv, pushO, catv, gd, true_and, and_true, Option.some.injEq, Prod.mk.injEq, exists_eq_left', if_true, if_false, reduceCtorEq, Bool.false_eq_true, lcmp_ge, lcmp_lt, lcmp_le, lcmp_gt, lcmp_eq, true_or, or_true, not_true_eq_false, not_false_eq_true, false_implies, true_implies, List.length_cons, List.length_nil, p1, p2, p3, q1, q2, q3]
      refine ⟨fun w => fin _ _ _ _ v h1 ?_, fun w => ?_⟩
      · rw [h2, ← law]
        exact ⟨fun z => ⟨z.1, z.2.1, fun y => absurd y (by omega)⟩, fun z => ⟨z.1, z.2.1, fun y => absurd y (by omega)⟩⟩
      · have h0 : φ t ≠ 0 := fun y => by have := z1.mpr y; omega
        have := dpos h0
        repeat (first | refine ⟨in_small (by omega) (by omega), ?_⟩ | (show (_ → _) ∧ (_ → _); first | refine ⟨by omega, fun _ => ?_⟩ | refine ⟨fun _ => ?_, by omega⟩) | refine ⟨by omega, ?_⟩ | refine ⟨⟨_, rfl, by assumption⟩, ?_⟩ | refine ⟨okT_I _, ?_⟩ | refine call0 (gd_of rfl) ?_)
        refine fin _ _ _ _ v h1 ?_
        rw [h2, ← law]
        exact ⟨fun z => ⟨z.1, z.2.1, fun y i i1 i2 => z.2.2 y i i1 (by omega) i2⟩, fun z => ⟨z.1, z.2.1, fun y i i1 _ i2 => z.2.2 y i i1 i2⟩⟩
    | succ L ih =>
      intro k v k1 hk h1 h2
      refine wp_in ?_
      simp only [P_X5_isLikeAt, i_kil, i_icon, i_lcon, i_null, i_loadI, i_loadL, i_loadR, i_istore, i_lstore, i_astore, i_iinc, i_dup, i_dup2, i_pop, i_iadd, i_isub, i_imul, i_idiv, i_irem, i_ineg, i_iand, i_ior, i_ishl, i_ishr, i_lxor, i_ladd, i_lsub, i_lmul, i_ldiv, i_lrem, i_lneg, i_lshl, i_lcmp, i_i2l, i_l2i, i_i2b, i_i2s, i_ifeq, i_ifne, i_iflt, i_ifge, i_ifgt, i_ifle, i_cmpeq, i_cmpne, i_cmplt, i_cmpge, i_cmpgt, i_cmple, i_acmpeq, i_acmpne, i_ifnull, i_ifnonnull, i_getI, i_getR, i_putI, i_putZ, i_putR, i_ald, i_ldL, i_ldR, i_ast, i_stL, i_stR, i_alen, i_new, i_newa, i_iret, i_zret, i_lret, i_aret, i_vret, i_raise, i_throw, i_recv, i_objinit, i_tsw3, lget, lset, lput1, lput2, lkil, ltrim, largs, isL, takev, dropv, nthv, pushO, catv, gd, true_and, and_true, Option.some.injEq, Prod.mk.injEq, exists_eq_left', if_true, if_false, reduceCtorEq, Bool.false_eq_true, lcmp_ge, lcmp_lt, lcmp_le, lcmp_gt, lcmp_eq, true_or, or_true, not_true_eq_false, not_false_eq_true, false_implies, true_implies, List.length_cons, List.length_nil, p1, p2, p3, q1, q2, q3]
      refine ⟨fun w => fin _ _ _ _ v h1 ?_, fun w => ?_⟩
      · rw [h2, ← law]
        exact ⟨fun z => ⟨z.1, z.2.1, fun y => absurd y (by omega)⟩, fun z => ⟨z.1, z.2.1, fun y => absurd y (by omega)⟩⟩
      · have h0 : φ t ≠ 0 := fun y => by have := z1.mpr y; omega
        have hd0 : D (p + 1) a ≠ 0 := fun y => h0 (z1.mp y)
        have := dpos h0
        repeat (first | refine ⟨in_small (by omega) (by omega), ?_⟩ | (show (_ → _) ∧ (_ → _); first | refine ⟨by omega, fun _ => ?_⟩ | refine ⟨fun _ => ?_, by omega⟩) | refine ⟨by omega, ?_⟩ | refine ⟨⟨_, rfl, by assumption⟩, ?_⟩ | refine ⟨okT_I _, ?_⟩ | refine call0 (gd_of rfl) ?_)
        refine ⟨fun w2 => fin _ _ _ _ v h1 ?_, fun w2 => ⟨fun w3 => fin _ _ _ _ v h1 ?_, fun w3 => ?_⟩⟩
        · rw [h2, ← law]
          exact ⟨fun z => ⟨z.1, z.2.1, fun y i i1 i2 => z.2.2 y i i1 (by omega) i2⟩, fun z => ⟨z.1, z.2.1, fun y i i1 _ i2 => z.2.2 y i i1 i2⟩⟩
        · rw [h2, ← law]
          have no : ¬ (v = 1) := by omega
          rw [h2] at no
          exact ⟨fun z => absurd z no, fun z => absurd ⟨z.1, z.2.1, fun y i i1 _ i2 => z.2.2 y i i1 i2⟩ no⟩
        · have v1 : v = 1 := by omega
          have hh := h2.mp v1
          have eight : ∀ u : Int, (u = 1 ∧ D (p + 1) (a + 15 + k) = D (q + 1) (a + 15 + k) ∨ u = 0 ∧ ¬ D (p + 1) (a + 15 + k) = D (q + 1) (a + 15 + k)) → Wp P_X5_isLikeAt E 8 [some (aR p), some (aR q), none, some (aI a), none, some (aI (D (p + 1) a).natAbs), some (aI k)] [.inl u] B S D := fun u hu => by
            refine wp_in ?_
            simp only [P_X5_isLikeAt, i_kil, i_icon, i_lcon, i_null, i_loadI, i_loadL, i_loadR, i_istore, i_lstore, i_astore, i_iinc, i_dup, i_dup2, i_pop, i_iadd, i_isub, i_imul, i_idiv, i_irem, i_ineg, i_iand, i_ior, i_ishl, i_ishr, i_lxor, i_ladd, i_lsub, i_lmul, i_ldiv, i_lrem, i_lneg, i_lshl, i_lcmp, i_i2l, i_l2i, i_i2b, i_i2s, i_ifeq, i_ifne, i_iflt, i_ifge, i_ifgt, i_ifle, i_cmpeq, i_cmpne, i_cmplt, i_cmpge, i_cmpgt, i_cmple, i_acmpeq, i_acmpne, i_ifnull, i_ifnonnull, i_getI, i_getR, i_putI, i_putZ, i_putR, i_ald, i_ldL, i_ldR, i_ast, i_stL, i_stR, i_alen, i_new, i_newa, i_iret, i_zret, i_lret, i_aret, i_vret, i_raise, i_throw, i_recv, i_objinit, i_tsw3, lget, lset, lput1, lput2, lkil, ltrim, largs, isL, takev, dropv, nthv, pushO, catv, gd, true_and, and_true, Option.some.injEq, Prod.mk.injEq, exists_eq_left', if_true, if_false, reduceCtorEq, Bool.false_eq_true, lcmp_ge, lcmp_lt, lcmp_le, lcmp_gt, lcmp_eq, true_or, or_true, not_true_eq_false, not_false_eq_true, false_implies, true_implies, List.length_cons, List.length_nil]
            repeat (first | refine ⟨in_small (by omega) (by omega), ?_⟩ | (show (_ → _) ∧ (_ → _); first | refine ⟨by omega, fun _ => ?_⟩ | refine ⟨fun _ => ?_, by omega⟩) | refine ⟨by omega, ?_⟩ | refine ⟨⟨_, rfl, by assumption⟩, ?_⟩ | refine ⟨okT_I _, ?_⟩ | refine call0 (gd_of rfl) ?_)
            refine ih (k + 1) u (by omega) (by omega) (by omega) ⟨fun y => ⟨hh.1, hh.2.1, fun z i i1 i2 i3 => ?_⟩, fun y => ?_⟩
            · rcases Int.decEq i k with w4 | w4
              · exact hh.2.2 z i i1 (by omega) i3
              · subst w4
                rcases hu with hu | hu
                · exact hu.2
                · omega
            · rcases hu with hu | hu
              · exact hu.1
              · exact absurd (y.2.2 hd0 k k1 (by omega) (by omega)) hu.2
          repeat (first | refine ⟨in_small (by omega) (by omega), ?_⟩ | (show (_ → _) ∧ (_ → _); first | refine ⟨by omega, fun _ => ?_⟩ | refine ⟨fun _ => ?_, by omega⟩) | refine ⟨by omega, ?_⟩ | refine ⟨⟨_, rfl, by assumption⟩, ?_⟩ | refine ⟨okT_I _, ?_⟩ | refine call0 (gd_of rfl) ?_)
          exact ⟨fun w4 => eight 0 (.inr ⟨rfl, w4⟩), fun w4 => eight 1 (.inl ⟨rfl, w4⟩)⟩
  have four : ∀ (L : Nat) (k v : Int), 1 ≤ k → k + (L : Int) = 16 → (v = 0 ∨ v = 1) → (v = 1 ↔ A ∧ ∀ i : Int, 1 ≤ i → i < k → i ≤ (D (p + 1) a).natAbs → D (p + 1) (a + i) = D (q + 1) (a + i)) → Wp P_X5_isLikeAt E 4 [some (aR p), some (aR q), none, some (aI a), some (aI v), some (aI (D (p + 1) a).natAbs), some (aI k)] [] B S D := by
    have six : ∀ (v : Int), (v = 0 ∨ v = 1) → (v = 1 ↔ A ∧ X) → Wp P_X5_isLikeAt E 6 [some (aR p), some (aR q), none, some (aI a), some (aI v), some (aI (D (p + 1) a).natAbs)] [] B S D := fun v h1 h2 => by
      refine wp_in ?_
      simp only [P_X5_isLikeAt, i_kil, i_icon, i_lcon, i_null, i_loadI, i_loadL, i_loadR, i_istore, i_lstore, i_astore, i_iinc, i_dup, i_dup2, i_pop, i_iadd, i_isub, i_imul, i_idiv, i_irem, i_ineg, i_iand, i_ior, i_ishl, i_ishr, i_lxor, i_ladd, i_lsub, i_lmul, i_ldiv, i_lrem, i_lneg, i_lshl, i_lcmp, i_i2l, i_l2i, i_i2b, i_i2s, i_ifeq, i_ifne, i_iflt, i_ifge, i_ifgt, i_ifle, i_cmpeq, i_cmpne, i_cmplt, i_cmpge, i_cmpgt, i_cmple, i_acmpeq, i_acmpne, i_ifnull, i_ifnonnull, i_getI, i_getR, i_putI, i_putZ, i_putR, i_ald, i_ldL, i_ldR, i_ast, i_stL, i_stR, i_alen, i_new, i_newa, i_iret, i_zret, i_lret, i_aret, i_vret, i_raise, i_throw, i_recv, i_objinit, i_tsw3, lget, lset, lput1, lput2, lkil, ltrim, largs, isL, takev, dropv, nthv, pushO, catv, gd, true_and, and_true, Option.some.injEq, Prod.mk.injEq, exists_eq_left', if_true, if_false, reduceCtorEq, Bool.false_eq_true, lcmp_ge, lcmp_lt, lcmp_le, lcmp_gt, lcmp_eq, true_or, or_true, not_true_eq_false, not_false_eq_true, false_implies, true_implies, List.length_cons, List.length_nil]
      refine seven 15 1 v (by omega) (by omega) h1 ?_
      rw [h2]
      exact ⟨fun z => ⟨z.1, z.2, fun _ i i1 i2 _ => by omega⟩, fun z => ⟨z.1, z.2.1⟩⟩
    intro L
    induction L with
    | zero =>
      intro k v k1 hk h1 h2
      refine wp_in ?_
      simp only [P_X5_isLikeAt, i_kil, i_icon, i_lcon, i_null, i_loadI, i_loadL, i_loadR, i_istore, i_lstore, i_astore, i_iinc, i_dup, i_dup2, i_pop, i_iadd, i_isub, i_imul, i_idiv, i_irem, i_ineg, i_iand, i_ior, i_ishl, i_ishr, i_lxor, i_ladd, i_lsub, i_lmul, i_ldiv, i_lrem, i_lneg, i_lshl, i_lcmp, i_i2l, i_l2i, i_i2b, i_i2s, i_ifeq, i_ifne, i_iflt, i_ifge, i_ifgt, i_ifle, i_cmpeq, i_cmpne, i_cmplt, i_cmpge, i_cmpgt, i_cmple, i_acmpeq, i_acmpne, i_ifnull, i_ifnonnull, i_getI, i_getR, i_putI, i_putZ, i_putR, i_ald, i_ldL, i_ldR, i_ast, i_stL, i_stR, i_alen, i_new, i_newa, i_iret, i_zret, i_lret, i_aret, i_vret, i_raise, i_throw, i_recv, i_objinit, i_tsw3, lget, lset, lput1, lput2, lkil, ltrim, largs, isL, takev, dropv, nthv, pushO, catv, gd, true_and, and_true, Option.some.injEq, Prod.mk.injEq, exists_eq_left', if_true, if_false, reduceCtorEq, Bool.false_eq_true, lcmp_ge, lcmp_lt, lcmp_le, lcmp_gt, lcmp_eq, true_or, or_true, not_true_eq_false, not_false_eq_true, false_implies, true_implies, List.length_cons, List.length_nil, p1, p2, p3, q1, q2, q3]
      refine ⟨fun w => six v h1 ?_, fun w => by omega⟩
      rw [h2]
      exact ⟨fun z => ⟨z.1, fun i i1 i2 => z.2 i i1 (by omega) i2⟩, fun z => ⟨z.1, fun i i1 _ i2 => z.2 i i1 i2⟩⟩
    | succ L ih =>
      intro k v k1 hk h1 h2
      refine wp_in ?_
      simp only [P_X5_isLikeAt, i_kil, i_icon, i_lcon, i_null, i_loadI, i_loadL, i_loadR, i_istore, i_lstore, i_astore, i_iinc, i_dup, i_dup2, i_pop, i_iadd, i_isub, i_imul, i_idiv, i_irem, i_ineg, i_iand, i_ior, i_ishl, i_ishr, i_lxor, i_ladd, i_lsub, i_lmul, i_ldiv, i_lrem, i_lneg, i_lshl, i_lcmp, i_i2l, i_l2i, i_i2b, i_i2s, i_ifeq, i_ifne, i_iflt, i_ifge, i_ifgt, i_ifle, i_cmpeq, i_cmpne, i_cmplt, i_cmpge, i_cmpgt, i_cmple, i_acmpeq, i_acmpne, i_ifnull, i_ifnonnull, i_getI, i_getR, i_putI, i_putZ, i_putR, i_ald, i_ldL, i_ldR, i_ast, i_stL, i_stR, i_alen, i_new, i_newa, i_iret, i_zret, i_lret, i_aret, i_vret, i_raise, i_throw, i_recv, i_objinit, i_tsw3, lget, lset, lput1, lput2, lkil, ltrim, largs, isL, takev, dropv, nthv, pushO, catv, gd, true_and, and_true, Option.some.injEq, Prod.mk.injEq, exists_eq_left', if_true, if_false, reduceCtorEq, Bool.false_eq_true, lcmp_ge, lcmp_lt, lcmp_le, lcmp_gt, lcmp_eq, true_or, or_true, not_true_eq_false, not_false_eq_true, false_implies, true_implies, List.length_cons, List.length_nil, p1, p2, p3, q1, q2, q3]
      refine ⟨fun w => six v h1 ?_, fun w => ⟨fun w3 => six v h1 ?_, fun w3 => ?_⟩⟩
      · rw [h2]
        exact ⟨fun z => ⟨z.1, fun i i1 i2 => z.2 i i1 (by omega) i2⟩, fun z => ⟨z.1, fun i i1 _ i2 => z.2 i i1 i2⟩⟩
      · rw [h2]
        have no : ¬ (v = 1) := by omega
        rw [h2] at no
        exact ⟨fun z => absurd z no, fun z => absurd ⟨z.1, fun i i1 _ i2 => z.2 i i1 i2⟩ no⟩
      · have v1 : v = 1 := by omega
        have hh := h2.mp v1
        have five : ∀ u : Int, (u = 1 ∧ D (p + 1) (a + k) = D (q + 1) (a + k) ∨ u = 0 ∧ ¬ D (p + 1) (a + k) = D (q + 1) (a + k)) → Wp P_X5_isLikeAt E 5 [some (aR p), some (aR q), none, some (aI a), none, some (aI (D (p + 1) a).natAbs), some (aI k)] [.inl u] B S D := fun u hu => by
          refine wp_in ?_
          simp only [P_X5_isLikeAt, i_kil, i_icon, i_lcon, i_null, i_loadI, i_loadL, i_loadR, i_istore, i_lstore, i_astore, i_iinc, i_dup, i_dup2, i_pop, i_iadd, i_isub, i_imul, i_idiv, i_irem, i_ineg, i_iand, i_ior, i_ishl, i_ishr, i_lxor, i_ladd, i_lsub, i_lmul, i_ldiv, i_lrem, i_lneg, i_lshl, i_lcmp, i_i2l, i_l2i, i_i2b, i_i2s, i_ifeq, i_ifne, i_iflt, i_ifge, i_ifgt, i_ifle, i_cmpeq, i_cmpne, i_cmplt, i_cmpge, i_cmpgt, i_cmple, i_acmpeq, i_acmpne, i_ifnull, i_ifnonnull, i_getI, i_getR, i_putI, i_putZ, i_putR, i_ald, i_ldL, i_ldR, i_ast, i_stL, i_stR, i_alen, i_new, i_newa, i_iret, i_zret, i_lret, i_aret, i_vret, i_raise, i_throw, i_recv, i_objinit, i_tsw3, lget, lset, lput1, lput2, lkil, ltrim, largs, isL, takev, dropv, nthv, pushO, catv, gd, true_and, and_true, Option.some.injEq, Prod.mk.injEq, exists_eq_left', if_true, if_false, reduceCtorEq, Bool.false_eq_true, lcmp_ge, lcmp_lt, lcmp_le, lcmp_gt, lcmp_eq, true_or, or_true, not_true_eq_false, not_false_eq_true, false_implies, true_implies, List.length_cons, List.length_nil]
          repeat (first | refine ⟨in_small (by omega) (by omega), ?_⟩ | (show (_ → _) ∧ (_ → _); first | refine ⟨by omega, fun _ => ?_⟩ | refine ⟨fun _ => ?_, by omega⟩) | refine ⟨by omega, ?_⟩ | refine ⟨⟨_, rfl, by assumption⟩, ?_⟩ | refine ⟨okT_I _, ?_⟩ | refine call0 (gd_of rfl) ?_)
          refine ih (k + 1) u (by omega) (by omega) (by omega) ⟨fun y => ⟨hh.1, fun i i1 i2 i3 => ?_⟩, fun y => ?_⟩
          · rcases Int.decEq i k with w4 | w4
            · exact hh.2 i i1 (by omega) i3
            · subst w4
              rcases hu with hu | hu
              · exact hu.2
              · omega
          · rcases hu with hu | hu
            · exact hu.1
            · exact absurd (y.2 k k1 (by omega) (by omega)) hu.2
        repeat (first | refine ⟨in_small (by omega) (by omega), ?_⟩ | (show (_ → _) ∧ (_ → _); first | refine ⟨by omega, fun _ => ?_⟩ | refine ⟨fun _ => ?_, by omega⟩) | refine ⟨by omega, ?_⟩ | refine ⟨⟨_, rfl, by assumption⟩, ?_⟩ | refine ⟨okT_I _, ?_⟩ | refine call0 (gd_of rfl) ?_)
        exact ⟨fun w4 => five 0 (.inr ⟨rfl, w4⟩), fun w4 => five 1 (.inl ⟨rfl, w4⟩)⟩
  have three : ∀ v : Int, (v = 0 ∨ v = 1) → (v = 1 ↔ A) → Wp P_X5_isLikeAt E 3 [some (aR p), some (aR q), none, some (aI a)] [.inl v] B S D := fun v h1 h2 => by
    refine wp_in ?_
    simp only [P_X5_isLikeAt, i_kil, i_icon, i_lcon, i_null, i_loadI, i_loadL, i_loadR, i_istore, i_lstore, i_astore, i_iinc, i_dup, i_dup2, i_pop, i_iadd, i_isub, i_imul, i_idiv, i_irem, i_ineg, i_iand, i_ior, i_ishl, i_ishr, i_lxor, i_ladd, i_lsub, i_lmul, i_ldiv, i_lrem, i_lneg, i_lshl, i_lcmp, i_i2l, i_l2i, i_i2b, i_i2s, i_ifeq, i_ifne, i_iflt, i_ifge, i_ifgt, i_ifle, i_cmpeq, i_cmpne, i_cmplt, i_cmpge, i_cmpgt, i_cmple, i_acmpeq, i_acmpne, i_ifnull, i_ifnonnull, i_getI, i_getR, i_putI, i_putZ, i_putR, i_ald, i_ldL, i_ldR, i_ast, i_stL, i_stR, i_alen, i_new, i_newa, i_iret, i_zret, i_lret, i_aret, i_vret, i_raise, i_throw, i_recv, i_objinit, i_tsw3, lget, lset, lput1, lput2, lkil, ltrim, largs, isL, takev, dropv, nthv, pushO, catv, gd, true_and, and_true, Option.some.injEq, Prod.mk.injEq, exists_eq_left', if_true, if_false, reduceCtorEq, Bool.false_eq_true, lcmp_ge, lcmp_lt, lcmp_le, lcmp_gt, lcmp_eq, true_or, or_true, not_true_eq_false, not_false_eq_true, false_implies, true_implies, List.length_cons, List.length_nil, p1, p2, p3]
    repeat (first | refine ⟨in_small (by omega) (by omega), ?_⟩ | (show (_ → _) ∧ (_ → _); first | refine ⟨by omega, fun _ => ?_⟩ | refine ⟨fun _ => ?_, by omega⟩) | refine ⟨by omega, ?_⟩ | refine ⟨⟨_, rfl, by assumption⟩, ?_⟩ | refine ⟨okT_I _, ?_⟩ | refine call0 (gd_of rfl) ?_)
    refine sp_J9_abs (by omega) (by omega) ?_
    simp only [P_X5_isLikeAt, i_kil, i_icon, i_lcon, i_null, i_loadI, i_loadL, i_loadR, i_istore, i_lstore, i_astore, i_iinc, i_dup, i_dup2, i_pop, i_iadd, i_isub, i_imul, i_idiv, i_irem, i_ineg, i_iand, i_ior, i_ishl, i_ishr, i_lxor, i_ladd, i_lsub, i_lmul, i_ldiv, i_lrem, i_lneg, i_lshl, i_lcmp, i_i2l, i_l2i, i_i2b, i_i2s, i_ifeq, i_ifne, i_iflt, i_ifge, i_ifgt, i_ifle, i_cmpeq, i_cmpne, i_cmplt, i_cmpge, i_cmpgt, i_cmple, i_acmpeq, i_acmpne, i_ifnull, i_ifnonnull, i_getI, i_getR, i_putI, i_putZ, i_putR, i_ald, i_ldL, i_ldR, i_ast, i_stL, i_stR, i_alen, i_new, i_newa, i_iret, i_zret, i_lret, i_aret, i_vret, i_raise, i_throw, i_recv, i_objinit, i_tsw3, lget, lset, lput1, lput2, lkil, ltrim, largs, isL, takev, dropv, nthv, pushO, catv, gd, true_and, and_true, Option.some.injEq, Prod.mk.injEq, exists_eq_left', if_true, if_false, reduceCtorEq, Bool.false_eq_true, lcmp_ge, lcmp_lt, lcmp_le, lcmp_gt, lcmp_eq, true_or, or_true, not_true_eq_false, not_false_eq_true, false_implies, true_implies, List.length_cons, List.length_nil]
    exact four 15 1 v (by omega) (by omega) h1 (by rw [h2]; exact ⟨fun z => ⟨z, fun i i1 i2 _ => by omega⟩, fun z => z.1⟩)
  have one : A → Wp P_X5_isLikeAt E 1 [some (aR p), some (aR q), none, some (aI a)] [] B S D := fun h => by
    refine wp_in ?_
    simp only [P_X5_isLikeAt, i_kil, i_icon, i_lcon, i_null, i_loadI, i_loadL, i_loadR, i_istore, i_lstore, i_astore, i_iinc, i_dup, i_dup2, i_pop, i_iadd, i_isub, i_imul, i_idiv, i_irem, i_ineg, i_iand, i_ior, i_ishl, i_ishr, i_lxor, i_ladd, i_lsub, i_lmul, i_ldiv, i_lrem, i_lneg, i_lshl, i_lcmp, i_i2l, i_l2i, i_i2b, i_i2s, i_ifeq, i_ifne, i_iflt, i_ifge, i_ifgt, i_ifle, i_cmpeq, i_cmpne, i_cmplt, i_cmpge, i_cmpgt, i_cmple, i_acmpeq, i_acmpne, i_ifnull, i_ifnonnull, i_getI, i_getR, i_putI, i_putZ, i_putR, i_ald, i_ldL, i_ldR, i_ast, i_stL, i_stR, i_alen, i_new, i_newa, i_iret, i_zret, i_lret, i_aret, i_vret, i_raise, i_throw, i_recv, i_objinit, i_tsw3, lget, lset, lput1, lput2, lkil, ltrim, largs, isL, takev, dropv, nthv, pushO, catv, gd, true_and, and_true, Option.some.injEq, Prod.mk.injEq, exists_eq_left', if_true, if_false, reduceCtorEq, Bool.false_eq_true, lcmp_ge, lcmp_lt, lcmp_le, lcmp_gt, lcmp_eq, true_or, or_true, not_true_eq_false, not_false_eq_true, false_implies, true_implies, List.length_cons, List.length_nil]
    exact three 1 (.inr rfl) ⟨fun _ => h, fun _ => rfl⟩
  have two : ¬ A → Wp P_X5_isLikeAt E 2 [some (aR p), some (aR q), none, some (aI a)] [] B S D := fun h => by
    refine wp_in ?_
    simp only [P_X5_isLikeAt, i_kil, i_icon, i_lcon, i_null, i_loadI, i_loadL, i_loadR, i_istore, i_lstore, i_astore, i_iinc, i_dup, i_dup2, i_pop, i_iadd, i_isub, i_imul, i_idiv, i_irem, i_ineg, i_iand, i_ior, i_ishl, i_ishr, i_lxor, i_ladd, i_lsub, i_lmul, i_ldiv, i_lrem, i_lneg, i_lshl, i_lcmp, i_i2l, i_l2i, i_i2b, i_i2s, i_ifeq, i_ifne, i_iflt, i_ifge, i_ifgt, i_ifle, i_cmpeq, i_cmpne, i_cmplt, i_cmpge, i_cmpgt, i_cmple, i_acmpeq, i_acmpne, i_ifnull, i_ifnonnull, i_getI, i_getR, i_putI, i_putZ, i_putR, i_ald, i_ldL, i_ldR, i_ast, i_stL, i_stR, i_alen, i_new, i_newa, i_iret, i_zret, i_lret, i_aret, i_vret, i_raise, i_throw, i_recv, i_objinit, i_tsw3, lget, lset, lput1, lput2, lkil, ltrim, largs, isL, takev, dropv, nthv, pushO, catv, gd, true_and, and_true, Option.some.injEq, Prod.mk.injEq, exists_eq_left', if_true, if_false, reduceCtorEq, Bool.false_eq_true, lcmp_ge, lcmp_lt, lcmp_le, lcmp_gt, lcmp_eq, true_or, or_true, not_true_eq_false, not_false_eq_true, false_implies, true_implies, List.length_cons, List.length_nil]
    exact three 0 (.inl rfl) ⟨fun y => absurd y (by decide), fun y => absurd y h⟩
  refine wp_in ?_
  simp only [P_X5_isLikeAt, i_kil, i_icon, i_lcon, i_null, i_loadI, i_loadL, i_loadR, i_istore, i_lstore, i_astore, i_iinc, i_dup, i_dup2, i_pop, i_iadd, i_isub, i_imul, i_idiv, i_irem, i_ineg, i_iand, i_ior, i_ishl, i_ishr, i_lxor, i_ladd, i_lsub, i_lmul, i_ldiv, i_lrem, i_lneg, i_lshl, i_lcmp, i_i2l, i_l2i, i_i2b, i_i2s, i_ifeq, i_ifne, i_iflt, i_ifge, i_ifgt, i_ifle, i_cmpeq, i_cmpne, i_cmplt, i_cmpge, i_cmpgt, i_cmple, i_acmpeq, i_acmpne, i_ifnull, i_ifnonnull, i_getI, i_getR, i_putI, i_putZ, i_putR, i_ald, i_ldL, i_ldR, i_ast, i_stL, i_stR, i_alen, i_new, i_newa, i_iret, i_zret, i_lret, i_aret, i_vret, i_raise, i_throw, i_recv, i_objinit, i_tsw3, lget, lset, lput1, lput2, lkil, ltrim, largs, isL, takev, dropv, nthv, pushO, catv, gd, true_and, and_true, Option.some.injEq, Prod.mk.injEq, exists_eq_left', if_true, if_false, reduceCtorEq, Bool.false_eq_true, lcmp_ge, lcmp_lt, lcmp_le, lcmp_gt, lcmp_eq, true_or, or_true, not_true_eq_false, not_false_eq_true, false_implies, true_implies, List.length_cons, List.length_nil, p1, p2, p3, q1, q2, q3]
  rw [← ha]
  repeat (first | refine ⟨in_small (by omega) (by omega), ?_⟩ | (show (_ → _) ∧ (_ → _); first | refine ⟨by omega, fun _ => ?_⟩ | refine ⟨fun _ => ?_, by omega⟩) | refine ⟨by omega, ?_⟩ | refine ⟨⟨_, rfl, by assumption⟩, ?_⟩ | refine ⟨okT_I _, ?_⟩ | refine call0 (gd_of rfl) ?_)
  refine ⟨fun w => two fun z => w z.1, fun w => ?_⟩
  repeat (first | refine ⟨in_small (by omega) (by omega), ?_⟩ | (show (_ → _) ∧ (_ → _); first | refine ⟨by omega, fun _ => ?_⟩ | refine ⟨fun _ => ?_, by omega⟩) | refine ⟨by omega, ?_⟩ | refine ⟨⟨_, rfl, by assumption⟩, ?_⟩ | refine ⟨okT_I _, ?_⟩ | refine call0 (gd_of rfl) ?_)
  refine ⟨fun w2 => one ⟨w, .inl w2⟩, fun w2 => ?_⟩
  repeat (first | refine ⟨in_small (by omega) (by omega), ?_⟩ | (show (_ → _) ∧ (_ → _); first | refine ⟨by omega, fun _ => ?_⟩ | refine ⟨fun _ => ?_, by omega⟩) | refine ⟨by omega, ?_⟩ | refine ⟨⟨_, rfl, by assumption⟩, ?_⟩ | refine ⟨okT_I _, ?_⟩ | refine call0 (gd_of rfl) ?_)
  exact ⟨fun w3 => two fun z => by
    rcases z.2 with z | z
    · exact w2 z
    · exact w3 z, fun w3 => one ⟨w, .inr w3⟩⟩
theorem sp_X5_isLike {E : Ex} {B : Nat × Nat} {p q : Nat} {φ ψ : Nat → Rat} (hp : pS S p) (hq : pS S q) (hD : pP D p φ) (hD' : pP D q ψ)
    (K : ∀ v : Int, (v = 0 ∨ v = 1) → (v = 1 ↔ φ = ψ) → E (.inl (some (.inl v))) B S D) : Wp P_X5_isLike E 0 [some (aR p), some (aR q)] [] B S D := by
  have p1 := hp.1
  have q1 := hq.1
  have c1 := hD.1.2
  have c2 := hD'.1.2
  have fin : ∀ (l0 l1 : Option PV) (v : Int), (v = 0 ∨ v = 1) → (v = 1 ↔ φ = ψ) → Wp P_X5_isLike E 3 [l0, l1, some (aI v)] [] B S D := fun l0 l1 v h1 h2 => by
    refine wp_in ?_
    simp only [P_X5_isLike, i_kil, i_icon, i_lcon, i_null, i_loadI, i_loadL, i_loadR, i_istore, i_lstore, i_astore, i_iinc, i_dup, i_dup2, i_pop, i_iadd, i_isub, i_imul, i_idiv, i_irem, i_ineg, i_iand, i_ior, i_ishl, i_ishr, i_lxor, i_ladd, i_lsub, i_lmul, i_ldiv, i_lrem, i_lneg, i_lshl, i_lcmp, i_i2l, i_l2i, i_i2b, i_i2s, i_ifeq, i_ifne, i_iflt, i_ifge, i_ifgt, i_ifle, i_cmpeq, i_cmpne, i_cmplt, i_cmpge, i_cmpgt, i_cmple, i_acmpeq, i_acmpne, i_ifnull, i_ifnonnull, i_getI, i_getR, i_putI, i_putZ, i_putR, i_ald, i_ldL, i_ldR, i_ast, i_stL, i_stR, i_alen, i_new, i_newa, i_iret, i_zret, i_lret, i_aret, i_vret, i_raise, i_throw, i_recv, i_objinit, i_tsw3, lget, lset, lput1, lput2, lkil, ltrim, largs, isL, takev, dropv, nthv, pushO, catv, gd, true_and, and_true, Option.some.injEq, Prod.mk.injEq, exists_eq_left', if_true, if_false, reduceCtorEq, Bool.false_eq_true, lcmp_ge, lcmp_lt, lcmp_le, lcmp_gt, lcmp_eq, true_or, or_true, not_true_eq_false, not_false_eq_true, false_implies, true_implies, List.length_cons, List.length_nil]
    rcases h1 with h1 | h1 <;> subst h1
    · exact ⟨.inl rfl, K 0 (.inl rfl) h2⟩
    · exact ⟨.inr rfl, K 1 (.inr rfl) h2⟩
  have loop : ∀ (L k : Nat) (v : Int), k + L = 455 → (v = 0 ∨ v = 1) → (v = 1 ↔ pcnt φ 455 = pcnt ψ 455 ∧ ∀ t, t < k → φ t = ψ t) → Wp P_X5_isLike E 2 [some (aR p), some (aR q), some (aI v), some (aI k)] [] B S D := by
    intro L
    induction L with
    | zero =>
      intro k v hk h1 h2
      have : k = 455 := by omega
      subst this
      refine wp_in ?_
      simp only [P_X5_isLike, i_kil, i_icon, i_lcon, i_null, i_loadI, i_loadL, i_loadR, i_istore, i_lstore, i_astore, i_iinc, i_dup, i_dup2, i_pop, i_iadd, i_isub, i_imul, i_idiv, i_irem, i_ineg, i_iand, i_ior, i_ishl, i_ishr, i_lxor, i_ladd, i_lsub, i_lmul, i_ldiv, i_lrem, i_lneg, i_lshl, i_lcmp, i_i2l, i_l2i, i_i2b, i_i2s, i_ifeq, i_ifne, i_iflt, i_ifge, i_ifgt, i_ifle, i_cmpeq, i_cmpne, i_cmplt, i_cmpge, i_cmpgt, i_cmple, i_acmpeq, i_acmpne, i_ifnull, i_ifnonnull, i_getI, i_getR, i_putI, i_putZ, i_putR, i_ald, i_ldL, i_ldR, i_ast, i_stL, i_stR, i_alen, i_new, i_newa, i_iret, i_zret, i_lret, i_aret, i_vret, i_raise, i_throw, i_recv, i_objinit, i_tsw3, lget, lset, lput1, lput2, lkil, ltrim, largs, isL, takev, dropv, nthv, pushO, catv, gd, true_and, and_true, Option.some.injEq, Prod.mk.injEq, exists_eq_left', if_true, if_false, reduceCtorEq, Bool.false_eq_true, lcmp_ge, lcmp_lt, lcmp_le, lcmp_gt, lcmp_eq, true_or, or_true, not_true_eq_false, not_false_eq_true, false_implies, true_implies, List.length_cons, List.length_nil]
      refine ⟨fun _ => fin _ _ v h1 ?_, fun w => absurd w (by decide)⟩
      rw [h2]
      constructor
      · intro z
        funext t
        by_cases ht : t < 455
        · exact z.2 t ht
        · rw [hD.2.2 t (by omega), hD'.2.2 t (by omega)]
      · intro z
        rw [z]; exact ⟨rfl, fun _ _ => rfl⟩
    | succ L ih =>
      intro k v hk h1 h2
      refine wp_in ?_
      simp only [P_X5_isLike, i_kil, i_icon, i_lcon, i_null, i_loadI, i_loadL, i_loadR, i_istore, i_lstore, i_astore, i_iinc, i_dup, i_dup2, i_pop, i_iadd, i_isub, i_imul, i_idiv, i_irem, i_ineg, i_iand, i_ior, i_ishl, i_ishr, i_lxor, i_ladd, i_lsub, i_lmul, i_ldiv, i_lrem, i_lneg, i_lshl, i_lcmp, i_i2l, i_l2i, i_i2b, i_i2s, i_ifeq, i_ifne, i_iflt, i_ifge, i_ifgt, i_ifle, i_cmpeq, i_cmpne, i_cmplt, i_cmpge, i_cmpgt, i_cmple, i_acmpeq, i_acmpne, i_ifnull, i_ifnonnull, i_getI, i_getR, i_putI, i_putZ, i_putR, i_ald, i_ldL, i_ldR, i_ast, i_stL, i_stR, i_alen, i_new, i_newa, i_iret, i_zret, i_lret, i_aret, i_vret, i_raise, i_throw, i_recv, i_objinit, i_tsw3, lget, lset, lput1, lput2, lkil, ltrim, largs, isL, takev, dropv, nthv, pushO, catv, gd, true_and, and_true, Option.some.injEq, Prod.mk.injEq, exists_eq_left', if_true, if_false, reduceCtorEq, Bool.false_eq_true, lcmp_ge, lcmp_lt, lcmp_le, lcmp_gt, lcmp_eq, true_or, or_true, not_true_eq_false, not_false_eq_true, false_implies, true_implies, List.length_cons, List.length_nil, p1, q1]
      refine ⟨fun w => by omega, fun _ => ⟨fun w => fin _ _ v h1 ?_, fun w => ?_⟩⟩
      · have no : ¬ v = 1 := by omega
        exact ⟨fun z => absurd z no, fun z => absurd (h2.mpr (by rw [z]; exact ⟨rfl, fun _ _ => rfl⟩)) no⟩
      · have v1 : v = 1 := by omega
        have hh := h2.mp v1
        repeat (first | refine ⟨in_small (by omega) (by omega), ?_⟩ | (show (_ → _) ∧ (_ → _); first | refine ⟨by omega, fun _ => ?_⟩ | refine ⟨fun _ => ?_, by omega⟩) | refine ⟨by omega, ?_⟩ | refine ⟨⟨_, rfl, by assumption⟩, ?_⟩ | refine ⟨okT_I _, ?_⟩ | refine call0 (gd_of rfl) ?_)
        refine sp_X5_isLikeAt hp hq hD.1 hD'.1 (by omega) fun u u1 u2 => ?_
        simp only [P_X5_isLike, i_kil, i_icon, i_lcon, i_null, i_loadI, i_loadL, i_loadR, i_istore, i_lstore, i_astore, i_iinc, i_dup, i_dup2, i_pop, i_iadd, i_isub, i_imul, i_idiv, i_irem, i_ineg, i_iand, i_ior, i_ishl, i_ishr, i_lxor, i_ladd, i_lsub, i_lmul, i_ldiv, i_lrem, i_lneg, i_lshl, i_lcmp, i_i2l, i_l2i, i_i2b, i_i2s, i_ifeq, i_ifne, i_iflt, i_ifge, i_ifgt, i_ifle, i_cmpeq, i_cmpne, i_cmplt, i_cmpge, i_cmpgt, i_cmple, i_acmpeq, i_acmpne, i_ifnull, i_ifnonnull, i_getI, i_getR, i_putI, i_putZ, i_putR, i_ald, i_ldL, i_ldR, i_ast, i_stL, i_stR, i_alen, i_new, i_newa, i_iret, i_zret, i_lret, i_aret, i_vret, i_raise, i_throw, i_recv, i_objinit, i_tsw3, lget, lset, lput1, lput2, lkil, ltrim, largs, isL, takev, dropv, nthv, pushO, catv, gd, true_and, and_true, Option.some.injEq, Prod.mk.injEq, exists_eq_left', if_true, if_false, reduceCtorEq, Bool.false_eq_true, lcmp_ge, lcmp_lt, lcmp_le, lcmp_gt, lcmp_eq, true_or, or_true, not_true_eq_false, not_false_eq_true, false_implies, true_implies, List.length_cons, List.length_nil]
        repeat (first | refine ⟨in_small (by omega) (by omega), ?_⟩ | (show (_ → _) ∧ (_ → _); first | refine ⟨by omega, fun _ => ?_⟩ | refine ⟨fun _ => ?_, by omega⟩) | refine ⟨by omega, ?_⟩ | refine ⟨⟨_, rfl, by assumption⟩, ?_⟩ | refine ⟨okT_I _, ?_⟩ | refine call0 (gd_of rfl) ?_)
        refine ih (k + 1) u (by omega) u1 ⟨fun y => ⟨hh.1, fun t ht => ?_⟩, fun y => u2.mpr (y.2 k (by omega))⟩
        rcases Nat.decEq t k with w4 | w4
        · exact hh.2 t (by omega)
        · subst w4; exact u2.mp y
  have one : ∀ v : Int, (v = 0 ∨ v = 1) → (v = 1 ↔ pcnt φ 455 = pcnt ψ 455) → Wp P_X5_isLike E 1 [some (aR p), some (aR q)] [.inl v] B S D := fun v h1 h2 => by
    refine wp_in ?_
    simp only [P_X5_isLike, i_kil, i_icon, i_lcon, i_null, i_loadI, i_loadL, i_loadR, i_istore, i_lstore, i_astore, i_iinc, i_dup, i_dup2, i_pop, i_iadd, i_isub, i_imul, i_idiv, i_irem, i_ineg, i_iand, i_ior, i_ishl, i_ishr, i_lxor, i_ladd, i_lsub, i_lmul, i_ldiv, i_lrem, i_lneg, i_lshl, i_lcmp, i_i2l, i_l2i, i_i2b, i_i2s, i_ifeq, i_ifne, i_iflt, i_ifge, i_ifgt, i_ifle, i_cmpeq, i_cmpne, i_cmplt, i_cmpge, i_cmpgt, i_cmple, i_acmpeq, i_acmpne, i_ifnull, i_ifnonnull, i_getI, i_getR, i_putI, i_putZ, i_putR, i_ald, i_ldL, i_ldR, i_ast, i_stL, i_stR, i_alen, i_new, i_newa, i_iret, i_zret, i_lret, i_aret, i_vret, i_raise, i_throw, i_recv, i_objinit, i_tsw3, lget, lset, lput1, lput2, lkil, ltrim, largs, isL, takev, dropv, nthv, pushO, catv, gd, true_and, and_true, Option.some.injEq, Prod.mk.injEq, exists_eq_left', if_true, if_false, reduceCtorEq, Bool.false_eq_true, lcmp_ge, lcmp_lt, lcmp_le, lcmp_gt, lcmp_eq, true_or, or_true, not_true_eq_false, not_false_eq_true, false_implies, true_implies, List.length_cons, List.length_nil]
    exact loop 455 0 v rfl h1 (by rw [h2]; exact ⟨fun z => ⟨z, fun t ht => absurd ht (Nat.not_lt_zero _)⟩, fun z => z.1⟩)
  refine wp_in ?_
  simp only [P_X5_isLike, i_kil, i_icon, i_lcon, i_null, i_loadI, i_loadL, i_loadR, i_istore, i_lstore, i_astore, i_iinc, i_dup, i_dup2, i_pop, i_iadd, i_isub, i_imul, i_idiv, i_irem, i_ineg, i_iand, i_ior, i_ishl, i_ishr, i_lxor, i_ladd, i_lsub, i_lmul, i_ldiv, i_lrem, i_lneg, i_lshl, i_lcmp, i_i2l, i_l2i, i_i2b, i_i2s, i_ifeq, i_ifne, i_iflt, i_ifge, i_ifgt, i_ifle, i_cmpeq, i_cmpne, i_cmplt, i_cmpge, i_cmpgt, i_cmple, i_acmpeq, i_acmpne, i_ifnull, i_ifnonnull, i_getI, i_getR, i_putI, i_putZ, i_putR, i_ald, i_ldL, i_ldR, i_ast, i_stL, i_stR, i_alen, i_new, i_newa, i_iret, i_zret, i_lret, i_aret, i_vret, i_raise, i_throw, i_recv, i_objinit, i_tsw3, lget, lset, lput1, lput2, lkil, ltrim, largs, isL, takev, dropv, nthv, pushO, catv, gd, true_and, and_true, Option.some.injEq, Prod.mk.injEq, exists_eq_left', if_true, if_false, reduceCtorEq, Bool.false_eq_true, lcmp_ge, lcmp_lt, lcmp_le, lcmp_gt, lcmp_eq, true_or, or_true, not_true_eq_false, not_false_eq_true, false_implies, true_implies, List.length_cons, List.length_nil, p1, q1, c1, c2]
  exact ⟨fun w => one 0 (.inl rfl) ⟨fun y => absurd y (by decide), fun y => absurd (by rw [y]) w⟩, fun w => one 1 (.inr rfl) ⟨fun _ => by omega, fun _ => rfl⟩⟩
end LIK
