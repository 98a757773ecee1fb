/-! the model's multiply, over its wide row; r may be one of the two -/
set_option maxRecDepth 100000
set_option linter.unusedVariables false
/-- what leaves all but r and the wide row -/
def wOh (D D' : Dat) (t h : Nat) : Prop := ∀ c i, c ≠ t → c ≠ t + 1 → c ≠ h → D' c i = D c i
set_option maxHeartbeats 1000000 in
/-- the last part: the wide row goes into r -/
theorem sp_X16_mulC {E : Ex} {B : Nat × Nat} {S : Stat} {D : Dat} {M t r h N : Nat} {s z : Int} (ht : wS 17 S t r) (hM : S.1 M = some (16, 0)) (h1 : S.2.1 M 0 = some h) (h2 : S.1 h = some (100, 264)) (hth : h ≠ t + 1) (hN : N ≤ r) (hN2 : N ≤ 264) (h0 : r < 1000) (hd : dcan (D h) N) (hs : (N = 0 ∧ s = 0) ∨ (0 < N ∧ (s = 1 ∨ s = -1))) (hz : z = s * dv (D h) N)
    (k : ∀ D' : Dat, wO D D' t → wD 2 1 D' t z → E (.inl none) B S D') :
    ∀ (L j : Nat) (D' : Dat), j + L = N → (∀ c i, c ≠ t + 1 → D' c i = D c i) → (∀ i : Int, 0 ≤ i → i < j → D' (t + 1) i = D h i) →
      Wp P_X16_multiply E 8 [some (aR M), some (aR t), none, none, some (aI N), some (aI s), some (aI j)] [] B S D' := by
  obtain ⟨t1, t2, t3⟩ := ht
  intro L
  induction L with
  | zero =>
    intro j D' hj hk hc
    refine wp_in ?_
    simp only [P_X16_multiply, i_kil, i_icon, i_lcon, i_null, i_loadI, i_loadL, i_loadR, i_istore, i_lstore, i_astore, i_iinc, i_dup, i_dup2, i_pop, i_iadd, i_isub, i_imul, i_idiv, i_irem, i_ineg, i_iand, i_ior, i_ishl, i_ishr, i_lxor, i_ladd, i_lsub, i_lmul, i_ldiv, i_lrem, i_lneg, i_lshl, i_lcmp, i_i2l, i_l2i, i_i2b, i_i2s, i_ifeq, i_ifne, i_iflt, i_ifge, i_ifgt, i_ifle, i_cmpeq, i_cmpne, i_cmplt, i_cmpge, i_cmpgt, i_cmple, i_acmpeq, i_acmpne, i_ifnull, i_ifnonnull, i_getI, i_getR, i_putI, i_putZ, i_putR, i_ald, i_ldL, i_ldR, i_ast, i_stL, i_stR, i_alen, i_new, i_newa, i_iret, i_zret, i_lret, i_aret, i_vret, i_raise, i_throw, i_recv, i_objinit, i_tsw3, lget, lset, lput1, lput2, lkil, ltrim, largs, isL, takev, dropv, nthv, pushO, catv, gd, true_and, and_true, Option.some.injEq, Prod.mk.injEq, exists_eq_left', if_true, if_false, reduceCtorEq, Bool.false_eq_true, lcmp_ge, lcmp_lt, lcmp_le, lcmp_gt, lcmp_eq, true_or, or_true, not_true_eq_false, not_false_eq_true, false_implies, true_implies, List.length_cons, List.length_nil, t1, t2, t3]
    refine ⟨fun _ => ?_, fun h => by omega⟩
    refine k _ (fun c i c1 c2 => by simp [pmu, c1, hk c i c2]) ?_
    have e : ∀ v w : Int, pmu (pmu D' t 2 v) t 1 w (t + 1) = D' (t + 1) := fun v w => by funext i; simp [pmu]
    have hdd : dcan (D' (t + 1)) N := ⟨hd.1.congr fun i g1 g2 => hc i g1 (by omega), fun g => by rw [hc _ (by omega) (by omega)]; exact hd.2 g⟩
    have := wD.mk (kn := 2) (ks := 1) (D := pmu (pmu D' t 2 N) t 1 s) (w := t) (n := N) (s := s) (by simp [pmu]) (by rw [e]; exact hdd) (by simp [pmu]) hs
    rw [e, dv_congr (g := D h) (fun i g1 g2 => hc i g1 (by omega)), ← hz] at this
    exact this
  | succ L ih =>
    intro j D' hj hk hc
    refine wp_in ?_
    simp only [P_X16_multiply, i_kil, i_icon, i_lcon, i_null, i_loadI, i_loadL, i_loadR, i_istore, i_lstore, i_astore, i_iinc, i_dup, i_dup2, i_pop, i_iadd, i_isub, i_imul, i_idiv, i_irem, i_ineg, i_iand, i_ior, i_ishl, i_ishr, i_lxor, i_ladd, i_lsub, i_lmul, i_ldiv, i_lrem, i_lneg, i_lshl, i_lcmp, i_i2l, i_l2i, i_i2b, i_i2s, i_ifeq, i_ifne, i_iflt, i_ifge, i_ifgt, i_ifle, i_cmpeq, i_cmpne, i_cmplt, i_cmpge, i_cmpgt, i_cmple, i_acmpeq, i_acmpne, i_ifnull, i_ifnonnull, i_getI, i_getR, i_putI, i_putZ, i_putR, i_ald, i_ldL, i_ldR, i_ast, i_stL, i_stR, i_alen, i_new, i_newa, i_iret, i_zret, i_lret, i_aret, i_vret, i_raise, i_throw, i_recv, i_objinit, i_tsw3, lget, lset, lput1, lput2, lkil, ltrim, largs, isL, takev, dropv, nthv, pushO, catv, gd, true_and, and_true, Option.some.injEq, Prod.mk.injEq, exists_eq_left', if_true, if_false, reduceCtorEq, Bool.false_eq_true, lcmp_ge, lcmp_lt, lcmp_le, lcmp_gt, lcmp_eq, true_or, or_true, not_true_eq_false, not_false_eq_true, false_implies, true_implies, List.length_cons, List.length_nil, t1, t2, t3, hM, h1, h2]
    have e1 : D' h j = D h j := hk _ _ hth
    rw [e1]
    refine ⟨fun h => by omega, fun _ => ⟨by omega, by omega, by omega, by omega, by simp [okT], in_small (by omega) (by omega), ?_⟩⟩
    refine ih (j + 1) _ (by omega) (fun c i c1 => by simp [pmu, c1, hk c i c1]) (fun i g1 g2 => ?_)
    simp only [pmu, true_and]
    split
    · rename_i hi; rw [hi]
    · exact hc i g1 (by omega)
set_option maxHeartbeats 1000000 in
theorem sp_X16_multiply {E : Ex} {B : Nat × Nat} {S : Stat} {D : Dat} {M t a b h r ra rb p q : Nat} {x y : Int} (ht : wS 17 S t r) (ha : wS 17 S a ra) (hb : wS 17 S b rb) (hM : S.1 M = some (16, 0)) (h1 : S.2.1 M 0 = some h) (h2 : S.1 h = some (100, 264)) (hth : h ≠ t + 1) (hah : h ≠ a + 1) (hbh : h ≠ b + 1) (hx : wD 2 1 D a x) (hy : wD 2 1 D b y) (hp : (x.natAbs : Int) < 1000000000 ^ p) (hq : (y.natAbs : Int) < 1000000000 ^ q) (hpa : p ≤ ra) (hqb : q ≤ rb) (hpq : p + q ≤ r) (hpq2 : p + q ≤ 264) (h0 : r < 1000) (m1 : ra < 1000) (m2 : rb < 1000)
    (k : ∀ D' : Dat, wOh D D' t h → wD 2 1 D' t (x * y) → E (.inl none) B S D') : Wp P_X16_multiply E 0 [some (aR M), some (aR t), some (aR a), some (aR b)] [] B S D := by
  have ht0 := ht
  obtain ⟨n, hnp, a1, a2, a3, a4⟩ := hx.nat hp
  obtain ⟨m, hmq, b1, b2, b3, b4⟩ := hy.nat hq
  obtain ⟨t1, t2, t3⟩ := ht
  obtain ⟨u1, u2, u3⟩ := ha
  obtain ⟨v1, v2, v3⟩ := hb
  have nah : h ≠ a := fun g => by rw [g, u1] at h2; simp at h2
  have nbh : h ≠ b := fun g => by rw [g, v1] at h2; simp at h2
  have nth : h ≠ t := fun g => by rw [g, t1] at h2; simp at h2
  refine wp_in ?_
  simp only [P_X16_multiply, i_kil, i_icon, i_lcon, i_null, i_loadI, i_loadL, i_loadR, i_istore, i_lstore, i_astore, i_iinc, i_dup, i_dup2, i_pop, i_iadd, i_isub, i_imul, i_idiv, i_irem, i_ineg, i_iand, i_ior, i_ishl, i_ishr, i_lxor, i_ladd, i_lsub, i_lmul, i_ldiv, i_lrem, i_lneg, i_lshl, i_lcmp, i_i2l, i_l2i, i_i2b, i_i2s, i_ifeq, i_ifne, i_iflt, i_ifge, i_ifgt, i_ifle, i_cmpeq, i_cmpne, i_cmplt, i_cmpge, i_cmpgt, i_cmple, i_acmpeq, i_acmpne, i_ifnull, i_ifnonnull, i_getI, i_getR, i_putI, i_putZ, i_putR, i_ald, i_ldL, i_ldR, i_ast, i_stL, i_stR, i_alen, i_new, i_newa, i_iret, i_zret, i_lret, i_aret, i_vret, i_raise, i_throw, i_recv, i_objinit, i_tsw3, lget, lset, lput1, lput2, lkil, ltrim, largs, isL, takev, dropv, nthv, pushO, catv, gd, true_and, and_true, Option.some.injEq, Prod.mk.injEq, exists_eq_left', if_true, if_false, reduceCtorEq, Bool.false_eq_true, lcmp_ge, lcmp_lt, lcmp_le, lcmp_gt, lcmp_eq, true_or, or_true, not_true_eq_false, not_false_eq_true, false_implies, true_implies, List.length_cons, List.length_nil, u1, v1, a1, b1, a3, b3, hM]
  have zero : x * y = 0 → Wp P_X16_multiply E 1 [none, some (aR t)] [] B S D := fun g => by
    refine wp_in ?_
    simp only [P_X16_multiply, i_kil, i_icon, i_lcon, i_null, i_loadI, i_loadL, i_loadR, i_istore, i_lstore, i_astore, i_iinc, i_dup, i_dup2, i_pop, i_iadd, i_isub, i_imul, i_idiv, i_irem, i_ineg, i_iand, i_ior, i_ishl, i_ishr, i_lxor, i_ladd, i_lsub, i_lmul, i_ldiv, i_lrem, i_lneg, i_lshl, i_lcmp, i_i2l, i_l2i, i_i2b, i_i2s, i_ifeq, i_ifne, i_iflt, i_ifge, i_ifgt, i_ifle, i_cmpeq, i_cmpne, i_cmplt, i_cmpge, i_cmpgt, i_cmple, i_acmpeq, i_acmpne, i_ifnull, i_ifnonnull, i_getI, i_getR, i_putI, i_putZ, i_putR, i_ald, i_ldL, i_ldR, i_ast, i_stL, i_stR, i_alen, i_new, i_newa, i_iret, i_zret, i_lret, i_aret, i_vret, i_raise, i_throw, i_recv, i_objinit, i_tsw3, lget, lset, lput1, lput2, lkil, ltrim, largs, isL, takev, dropv, nthv, pushO, catv, gd, true_and, and_true, Option.some.injEq, Prod.mk.injEq, exists_eq_left', if_true, if_false, reduceCtorEq, Bool.false_eq_true, lcmp_ge, lcmp_lt, lcmp_le, lcmp_gt, lcmp_eq, true_or, or_true, not_true_eq_false, not_false_eq_true, false_implies, true_implies, List.length_cons, List.length_nil, t1]
    refine k _ (fun c i c1 c2 c3 => by simp [pmu, c1]) ?_
    rw [g]
    exact ⟨0, by simp [pmu], ⟨fun i h0 h1 => by omega, fun h => absurd h (by decide)⟩, by simp [pmu], rfl⟩
  refine ⟨fun g => zero (by rw [Int.sign_eq_zero_iff_zero.mp g, Int.zero_mul]), fun g1 => ⟨fun g2 => ⟨in_small (by omega) (by omega), ?_⟩, fun g => zero (by rw [Int.sign_eq_zero_iff_zero.mp g, Int.mul_zero])⟩⟩
  have hx0 : x ≠ 0 := fun g => g1 (by rw [g]; rfl)
  have hy0 : y ≠ 0 := fun g => g2 (by rw [g]; rfl)
  have hn1 : 0 < n := by
    rcases Nat.eq_zero_or_pos n with g | g
    · subst g; simp only [dv] at a4; omega
    · exact g
  have hm1 : 0 < m := by
    rcases Nat.eq_zero_or_pos m with g | g
    · subst g; simp only [dv] at b4; omega
    · exact g
  have dig : ∀ {D' : Dat}, (∀ c i, c ≠ h → D' c i = D c i) → D' a 2 = n ∧ D' b 2 = m ∧ D' a 1 = Int.sign x ∧ D' b 1 = Int.sign y ∧ D' (a + 1) = D (a + 1) ∧ D' (b + 1) = D (b + 1) := fun hk =>
    ⟨by rw [hk a 2 (Ne.symm nah), a1], by rw [hk b 2 (Ne.symm nbh), b1], by rw [hk a 1 (Ne.symm nah), a3], by rw [hk b 1 (Ne.symm nbh), b3], funext fun i => hk _ i (Ne.symm hah), funext fun i => hk _ i (Ne.symm hbh)⟩
  -- the rows
  have rows : ∀ (L i : Nat) (D' : Dat), i + L = n → (∀ c i, c ≠ h → D' c i = D c i) → dok (D' h) (n + m) → (∀ j : Int, (i + m : Nat) ≤ j → j < (n + m : Nat) → D' h j = 0) → dv (D' h) (n + m) = dv (D (a + 1)) i * dv (D (b + 1)) m →
      Wp P_X16_multiply E 3 [some (aR M), some (aR t), some (aR a), some (aR b), some (aI ((n : Int) + m)), some (aI i)] [] B S D' := by
    intro L
    induction L with
    | zero =>
      intro i D' hi hk hd hz hv
      have hin : i = n := by omega
      subst hin
      obtain ⟨e1, e2, e3, e4, e5, e6⟩ := dig hk
      refine wp_in ?_
      simp only [P_X16_multiply, i_kil, i_icon, i_lcon, i_null, i_loadI, i_loadL, i_loadR, i_istore, i_lstore, i_astore, i_iinc, i_dup, i_dup2, i_pop, i_iadd, i_isub, i_imul, i_idiv, i_irem, i_ineg, i_iand, i_ior, i_ishl, i_ishr, i_lxor, i_ladd, i_lsub, i_lmul, i_ldiv, i_lrem, i_lneg, i_lshl, i_lcmp, i_i2l, i_l2i, i_i2b, i_i2s, i_ifeq, i_ifne, i_iflt, i_ifge, i_ifgt, i_ifle, i_cmpeq, i_cmpne, i_cmplt, i_cmpge, i_cmpgt, i_cmple, i_acmpeq, i_acmpne, i_ifnull, i_ifnonnull, i_getI, i_getR, i_putI, i_putZ, i_putR, i_ald, i_ldL, i_ldR, i_ast, i_stL, i_stR, i_alen, i_new, i_newa, i_iret, i_zret, i_lret, i_aret, i_vret, i_raise, i_throw, i_recv, i_objinit, i_tsw3, lget, lset, lput1, lput2, lkil, ltrim, largs, isL, takev, dropv, nthv, pushO, catv, gd, true_and, and_true, Option.some.injEq, Prod.mk.injEq, exists_eq_left', if_true, if_false, reduceCtorEq, Bool.false_eq_true, lcmp_ge, lcmp_lt, lcmp_le, lcmp_gt, lcmp_eq, true_or, or_true, not_true_eq_false, not_false_eq_true, false_implies, true_implies, List.length_cons, List.length_nil, t1, t2, t3, u1, u2, u3, v1, v2, v3, hM, h1, h2, e1, e3, e4]
      have hprod : dv (D' h) (i + m) = x.natAbs * y.natAbs := by rw [hv, a4, b4]
      have hxy1 : x * y = Int.sign x * Int.sign y * (x.natAbs * y.natAbs) := by
        have h1 := sgn_mul_abs x
        have h2 := sgn_mul_abs y
        generalize Int.sign x = s1 at *
        generalize Int.sign y = s2 at *
        generalize (x.natAbs : Int) = z1 at *
        generalize (y.natAbs : Int) = z2 at *
        subst h1; subst h2; grind
      have hsg : Int.sign x * Int.sign y = 1 ∨ Int.sign x * Int.sign y = -1 := by
        rcases sgn_cases x with g | g | g <;> rcases sgn_cases y with g' | g' | g' <;> first | omega | (rw [g.1, g'.1]; decide)
      have hbig : 1000000000 ^ (i + m - 2) ≤ dv (D' h) (i + m) := by
        have q1 : 1000000000 ^ (i - 1) ≤ dv (D (a + 1)) i := by
          obtain ⟨i', rfl⟩ : ∃ i', i = i' + 1 := ⟨i - 1, by omega⟩
          exact dv_ge a2.1 a2.top
        have q2 : 1000000000 ^ (m - 1) ≤ dv (D (b + 1)) m := by
          obtain ⟨i', rfl⟩ : ∃ i', m = i' + 1 := ⟨m - 1, by omega⟩
          exact dv_ge b2.1 b2.top
        rw [hv, show i + m - 2 = (i - 1) + (m - 1) by omega, pw_add]
        exact Int.mul_le_mul q1 q2 (by have := pw_pos (m - 1); omega) (by have := pw_pos (i - 1); omega)
      have close : ∀ N : Nat, N ≤ i + m → 0 < N → dcan (D' h) N → dv (D' h) N = dv (D' h) (i + m) → Wp P_X16_multiply E 8 [some (aR M), some (aR t), none, none, some (aI N), some (aI (Int.sign x * Int.sign y)), some (aI 0)] [] B S D' := by
        intro N q1 q2 q3 q4
        refine sp_X16_mulC ht0 hM h1 h2 hth (by omega) (by omega) h0 q3 (.inr ⟨q2, hsg⟩) (z := x * y) (by rw [q4, hprod]; exact hxy1) (fun D'' f1 f2 => k D'' (fun c i c1 c2 c3 => by rw [f1 c i c1 c2, hk c i c3]) f2) N 0 D' (by omega) (fun _ _ _ => rfl) (fun i h1 h2 => by omega)
      refine ⟨fun _ => ⟨by unfold inI; omega, in_small (by omega) (by omega), by omega, by omega, fun g => wp_in ?_, fun g => wp_in ?_⟩, fun g => by omega⟩
      · simp only [P_X16_multiply, i_kil, i_icon, i_lcon, i_null, i_loadI, i_loadL, i_loadR, i_istore, i_lstore, i_astore, i_iinc, i_dup, i_dup2, i_pop, i_iadd, i_isub, i_imul, i_idiv, i_irem, i_ineg, i_iand, i_ior, i_ishl, i_ishr, i_lxor, i_ladd, i_lsub, i_lmul, i_ldiv, i_lrem, i_lneg, i_lshl, i_lcmp, i_i2l, i_l2i, i_i2b, i_i2s, i_ifeq, i_ifne, i_iflt, i_ifge, i_ifgt, i_ifle, i_cmpeq, i_cmpne, i_cmplt, i_cmpge, i_cmpgt, i_cmple, i_acmpeq, i_acmpne, i_ifnull, i_ifnonnull, i_getI, i_getR, i_putI, i_putZ, i_putR, i_ald, i_ldL, i_ldR, i_ast, i_stL, i_stR, i_alen, i_new, i_newa, i_iret, i_zret, i_lret, i_aret, i_vret, i_raise, i_throw, i_recv, i_objinit, i_tsw3, lget, lset, lput1, lput2, lkil, ltrim, largs, isL, takev, dropv, nthv, pushO, catv, gd, true_and, and_true, Option.some.injEq, Prod.mk.injEq, exists_eq_left', if_true, if_false, reduceCtorEq, Bool.false_eq_true, lcmp_ge, lcmp_lt, lcmp_le, lcmp_gt, lcmp_eq, true_or, or_true, not_true_eq_false, not_false_eq_true, false_implies, true_implies, List.length_cons, List.length_nil, t1]
        rw [Int.sub_zero]
        refine ⟨in_small (by omega) (by omega), ?_⟩
        have R := close (i + m) (Nat.le_refl _) (by omega) ⟨hd, fun _ => by rw [show ((i + m : Nat) : Int) - 1 = (i : Int) + m - 1 by omega]; exact g⟩ rfl
        rw [show ((i + m : Nat) : Int) = (i : Int) + m by omega] at R
        exact R
      · simp only [P_X16_multiply, i_kil, i_icon, i_lcon, i_null, i_loadI, i_loadL, i_loadR, i_istore, i_lstore, i_astore, i_iinc, i_dup, i_dup2, i_pop, i_iadd, i_isub, i_imul, i_idiv, i_irem, i_ineg, i_iand, i_ior, i_ishl, i_ishr, i_lxor, i_ladd, i_lsub, i_lmul, i_ldiv, i_lrem, i_lneg, i_lshl, i_lcmp, i_i2l, i_l2i, i_i2b, i_i2s, i_ifeq, i_ifne, i_iflt, i_ifge, i_ifgt, i_ifle, i_cmpeq, i_cmpne, i_cmplt, i_cmpge, i_cmpgt, i_cmple, i_acmpeq, i_acmpne, i_ifnull, i_ifnonnull, i_getI, i_getR, i_putI, i_putZ, i_putR, i_ald, i_ldL, i_ldR, i_ast, i_stL, i_stR, i_alen, i_new, i_newa, i_iret, i_zret, i_lret, i_aret, i_vret, i_raise, i_throw, i_recv, i_objinit, i_tsw3, lget, lset, lput1, lput2, lkil, ltrim, largs, isL, takev, dropv, nthv, pushO, catv, gd, true_and, and_true, Option.some.injEq, Prod.mk.injEq, exists_eq_left', if_true, if_false, reduceCtorEq, Bool.false_eq_true, lcmp_ge, lcmp_lt, lcmp_le, lcmp_gt, lcmp_eq, true_or, or_true, not_true_eq_false, not_false_eq_true, false_implies, true_implies, List.length_cons, List.length_nil, t1]
        refine ⟨in_small (by omega) (by omega), ?_⟩
        have eN : i + m = (i + m - 1) + 1 := by omega
        have e0 : dv (D' h) (i + m) = dv (D' h) (i + m - 1) := by
          have e1 : dv (D' h) (i + m - 1 + 1) = dv (D' h) (i + m - 1) + D' h ((i + m - 1 : Nat) : Int) * 1000000000 ^ (i + m - 1) := rfl
          rw [← eN, show ((i + m - 1 : Nat) : Int) = (i : Int) + m - 1 by omega, g, Int.zero_mul, Int.add_zero] at e1
          exact e1
        have R := close (i + m - 1) (by omega) (by omega) (dcan_of_ge (hd.mono (by omega)) fun q' hq' => by
          rw [← e0, show q' = i + m - 2 by omega]; exact hbig) e0.symm
        rw [show ((i + m - 1 : Nat) : Int) = (i : Int) + m - 1 by omega] at R
        exact R
    | succ L ih =>
      intro i D' hi hk hd hz hv
      obtain ⟨e1, e2, e3, e4, e5, e6⟩ := dig hk
      have cx := a2.1 i (by omega) (by omega)
      -- the row's end
      have rowend : ∀ (j : Nat) (D' : Dat), (∀ c i, c ≠ h → D' c i = D c i) → m ≤ j → dok (D' h) (n + m) → (∀ l : Int, (i + 1 + m : Nat) ≤ l → l < (n + m : Nat) → D' h l = 0) → dv (D' h) (n + m) = dv (D (a + 1)) (i + 1) * dv (D (b + 1)) m →
          Wp P_X16_multiply E 4 [some (aR M), some (aR t), some (aR a), some (aR b), some (aI ((n : Int) + m)), some (aI i), some (aL 0), none, some (aI j)] [] B S D' := by
        intro j D' hk hj hd hz hv
        obtain ⟨e1, e2, e3, e4, e5, e6⟩ := dig hk
        refine wp_in ?_
        simp only [P_X16_multiply, i_kil, i_icon, i_lcon, i_null, i_loadI, i_loadL, i_loadR, i_istore, i_lstore, i_astore, i_iinc, i_dup, i_dup2, i_pop, i_iadd, i_isub, i_imul, i_idiv, i_irem, i_ineg, i_iand, i_ior, i_ishl, i_ishr, i_lxor, i_ladd, i_lsub, i_lmul, i_ldiv, i_lrem, i_lneg, i_lshl, i_lcmp, i_i2l, i_l2i, i_i2b, i_i2s, i_ifeq, i_ifne, i_iflt, i_ifge, i_ifgt, i_ifle, i_cmpeq, i_cmpne, i_cmplt, i_cmpge, i_cmpgt, i_cmple, i_acmpeq, i_acmpne, i_ifnull, i_ifnonnull, i_getI, i_getR, i_putI, i_putZ, i_putR, i_ald, i_ldL, i_ldR, i_ast, i_stL, i_stR, i_alen, i_new, i_newa, i_iret, i_zret, i_lret, i_aret, i_vret, i_raise, i_throw, i_recv, i_objinit, i_tsw3, lget, lset, lput1, lput2, lkil, ltrim, largs, isL, takev, dropv, nthv, pushO, catv, gd, true_and, and_true, Option.some.injEq, Prod.mk.injEq, exists_eq_left', if_true, if_false, reduceCtorEq, Bool.false_eq_true, lcmp_ge, lcmp_lt, lcmp_le, lcmp_gt, lcmp_eq, true_or, or_true, not_true_eq_false, not_false_eq_true, false_implies, true_implies, List.length_cons, List.length_nil, t1, t2, t3, u1, u2, u3, v1, v2, v3, hM, h1, h2, e1, e2]
        refine ⟨fun g => by omega, fun _ => ⟨fun _ => ⟨in_small (by omega) (by omega), ?_⟩, fun g => absurd g (by omega)⟩⟩
        exact ih (i + 1) D' (by omega) hk hd hz hv
      have step : ∀ (pr wv ov T : Int) (j : Nat) (D' : Dat), T = ov + (wv + pr) → 0 ≤ wv ∧ wv < 1000000000 → 0 ≤ pr ∧ pr < 1000000000000000000 → 0 ≤ ov ∧ ov < 1000000000 → i + j < n + m →
          Wp P_X16_multiply E 4 [some (aR M), some (aR t), some (aR a), some (aR b), some (aI ((n : Int) + m)), some (aI i), some (aL (T / 1000000000)), none, some (aI ((j : Int) + 1))] [] B S (pmu D' h ((i : Int) + j) (T % 1000000000)) →
          Wp P_X16_multiply E 6 [some (aR M), some (aR t), some (aR a), some (aR b), some (aI ((n : Int) + m)), some (aI i), none, none, some (aI j)] [aL pr, aL wv, aL ov] B S D' := by
        intro pr wv ov T j D' hT q1 q2 q3 hij H
        refine wp_in ?_
        simp only [P_X16_multiply, i_kil, i_icon, i_lcon, i_null, i_loadI, i_loadL, i_loadR, i_istore, i_lstore, i_astore, i_iinc, i_dup, i_dup2, i_pop, i_iadd, i_isub, i_imul, i_idiv, i_irem, i_ineg, i_iand, i_ior, i_ishl, i_ishr, i_lxor, i_ladd, i_lsub, i_lmul, i_ldiv, i_lrem, i_lneg, i_lshl, i_lcmp, i_i2l, i_l2i, i_i2b, i_i2s, i_ifeq, i_ifne, i_iflt, i_ifge, i_ifgt, i_ifle, i_cmpeq, i_cmpne, i_cmplt, i_cmpge, i_cmpgt, i_cmple, i_acmpeq, i_acmpne, i_ifnull, i_ifnonnull, i_getI, i_getR, i_putI, i_putZ, i_putR, i_ald, i_ldL, i_ldR, i_ast, i_stL, i_stR, i_alen, i_new, i_newa, i_iret, i_zret, i_lret, i_aret, i_vret, i_raise, i_throw, i_recv, i_objinit, i_tsw3, lget, lset, lput1, lput2, lkil, ltrim, largs, isL, takev, dropv, nthv, pushO, catv, gd, true_and, and_true, Option.some.injEq, Prod.mk.injEq, exists_eq_left', if_true, if_false, reduceCtorEq, Bool.false_eq_true, lcmp_ge, lcmp_lt, lcmp_le, lcmp_gt, lcmp_eq, true_or, or_true, not_true_eq_false, not_false_eq_true, false_implies, true_implies, List.length_cons, List.length_nil, t1, t2, t3, u1, u2, u3, v1, v2, v3, hM, h1, h2]
        rw [← hT, tdiv_nn (by omega), tmod_nn (by omega)]
        refine ⟨by unfold inL; omega, by unfold inL; omega, in_small (by omega) (by omega), by decide, by unfold inL; omega, by unfold inI; omega, by omega, by omega, by simp [okT], by decide, by unfold inL; omega, in_small (by omega) (by omega), ?_⟩
        exact H
      -- one row
      have row : ∀ (N j : Nat) (ov : Int) (D' : Dat), j + N = m → (0 ≤ ov ∧ ov < 1000000000) → (∀ c i, c ≠ h → D' c i = D c i) → dok (D' h) (n + m) → (∀ l : Int, (i + m : Nat) ≤ l → l < (n + m : Nat) → D' h l = 0) → dv (D' h) (n + m) + ov * 1000000000 ^ (i + j) = dv (D (a + 1)) i * dv (D (b + 1)) m + D (a + 1) i * 1000000000 ^ i * dv (D (b + 1)) j →
          Wp P_X16_multiply E 4 [some (aR M), some (aR t), some (aR a), some (aR b), some (aI ((n : Int) + m)), some (aI i), some (aL ov), none, some (aI j)] [] B S D' := by
        intro N
        induction N with
        | zero =>
          intro j ov D' hj hov hk hd hz hv
          have hjm : j = m := by omega
          subst hjm
          obtain ⟨e1, e2, e3, e4, e5, e6⟩ := dig hk
          rcases Int.lt_or_le 0 ov with hpos | hzero
          · refine wp_in ?_
            simp only [P_X16_multiply, i_kil, i_icon, i_lcon, i_null, i_loadI, i_loadL, i_loadR, i_istore, i_lstore, i_astore, i_iinc, i_dup, i_dup2, i_pop, i_iadd, i_isub, i_imul, i_idiv, i_irem, i_ineg, i_iand, i_ior, i_ishl, i_ishr, i_lxor, i_ladd, i_lsub, i_lmul, i_ldiv, i_lrem, i_lneg, i_lshl, i_lcmp, i_i2l, i_l2i, i_i2b, i_i2s, i_ifeq, i_ifne, i_iflt, i_ifge, i_ifgt, i_ifle, i_cmpeq, i_cmpne, i_cmplt, i_cmpge, i_cmpgt, i_cmple, i_acmpeq, i_acmpne, i_ifnull, i_ifnonnull, i_getI, i_getR, i_putI, i_putZ, i_putR, i_ald, i_ldL, i_ldR, i_ast, i_stL, i_stR, i_alen, i_new, i_newa, i_iret, i_zret, i_lret, i_aret, i_vret, i_raise, i_throw, i_recv, i_objinit, i_tsw3, lget, lset, lput1, lput2, lkil, ltrim, largs, isL, takev, dropv, nthv, pushO, catv, gd, true_and, and_true, Option.some.injEq, Prod.mk.injEq, exists_eq_left', if_true, if_false, reduceCtorEq, Bool.false_eq_true, lcmp_ge, lcmp_lt, lcmp_le, lcmp_gt, lcmp_eq, true_or, or_true, not_true_eq_false, not_false_eq_true, false_implies, true_implies, List.length_cons, List.length_nil, t1, t2, t3, u1, u2, u3, v1, v2, v3, hM, h1, h2, e1, e2]
            refine ⟨fun g => by omega, fun _ => ⟨fun g => by omega, fun _ => wp_in ?_⟩⟩
            simp only [P_X16_multiply, i_kil, i_icon, i_lcon, i_null, i_loadI, i_loadL, i_loadR, i_istore, i_lstore, i_astore, i_iinc, i_dup, i_dup2, i_pop, i_iadd, i_isub, i_imul, i_idiv, i_irem, i_ineg, i_iand, i_ior, i_ishl, i_ishr, i_lxor, i_ladd, i_lsub, i_lmul, i_ldiv, i_lrem, i_lneg, i_lshl, i_lcmp, i_i2l, i_l2i, i_i2b, i_i2s, i_ifeq, i_ifne, i_iflt, i_ifge, i_ifgt, i_ifle, i_cmpeq, i_cmpne, i_cmplt, i_cmpge, i_cmpgt, i_cmple, i_acmpeq, i_acmpne, i_ifnull, i_ifnonnull, i_getI, i_getR, i_putI, i_putZ, i_putR, i_ald, i_ldL, i_ldR, i_ast, i_stL, i_stR, i_alen, i_new, i_newa, i_iret, i_zret, i_lret, i_aret, i_vret, i_raise, i_throw, i_recv, i_objinit, i_tsw3, lget, lset, lput1, lput2, lkil, ltrim, largs, isL, takev, dropv, nthv, pushO, catv, gd, true_and, and_true, Option.some.injEq, Prod.mk.injEq, exists_eq_left', if_true, if_false, reduceCtorEq, Bool.false_eq_true, lcmp_ge, lcmp_lt, lcmp_le, lcmp_gt, lcmp_eq, true_or, or_true, not_true_eq_false, not_false_eq_true, false_implies, true_implies, List.length_cons, List.length_nil, t1, t2, t3, u1, u2, u3, v1, v2, v3, hM, h1, h2, e1, e2]
            have hwz := hz ((i : Int) + j) (by omega) (by omega)
            refine ⟨in_small (by omega) (by omega), by omega, by omega, fun _ => ?_, fun g => by omega⟩
            rw [hwz]
            refine step 0 0 ov ov j D' (by omega) (by omega) (by omega) hov (by omega) ?_
            rw [show ov / 1000000000 = 0 by omega, show ov % 1000000000 = ov by omega]
            have ez : ∀ l, pmu D' h ((i : Int) + j) ov h l = if l = ((i + j : Nat) : Int) then ov else D' h l := fun l => by simp [pmu]
            have R := rowend (j + 1) (pmu D' h ((i : Int) + j) ov) (fun c l h1 => by simp [pmu, h1, hk c l h1]) (by omega) (fun l h1 h2 => ?_) (fun l h1 h2 => ?_) ?_
            · exact R
            · rw [ez]; split
              · exact hov
              · exact hd l h1 h2
            · rw [ez, if_neg (by omega)]; exact hz l (by omega) h2
            · rw [dv_set (f := D' h) (k := i + j) (by omega) (fun l hl => by rw [ez, if_neg hl]), ez, if_pos rfl, show ((i + j : Nat) : Int) = (i : Int) + j by omega, hwz]
              simp only [dv]
              rw [Int.sub_zero, hv]
              grind
          · have ho : ov = 0 := by omega
            subst ho
            refine rowend j D' hk (Nat.le_refl _) hd (fun l g1 g2 => hz l (by omega) g2) ?_
            simp only [dv]
            grind
        | succ N ihN =>
          intro j ov D' hj hov hk hd hz hv
          obtain ⟨e1, e2, e3, e4, e5, e6⟩ := dig hk
          have cy := b2.1 j (by omega) (by omega)
          have cz := hd ((i : Int) + j) (by omega) (by omega)
          have hst := mul_step cx cy cz hov
          have hxy0 : 0 ≤ D (a + 1) i * D (b + 1) j := Int.mul_nonneg cx.1 cy.1
          refine wp_in ?_
          simp only [P_X16_multiply, i_kil, i_icon, i_lcon, i_null, i_loadI, i_loadL, i_loadR, i_istore, i_lstore, i_astore, i_iinc, i_dup, i_dup2, i_pop, i_iadd, i_isub, i_imul, i_idiv, i_irem, i_ineg, i_iand, i_ior, i_ishl, i_ishr, i_lxor, i_ladd, i_lsub, i_lmul, i_ldiv, i_lrem, i_lneg, i_lshl, i_lcmp, i_i2l, i_l2i, i_i2b, i_i2s, i_ifeq, i_ifne, i_iflt, i_ifge, i_ifgt, i_ifle, i_cmpeq, i_cmpne, i_cmplt, i_cmpge, i_cmpgt, i_cmple, i_acmpeq, i_acmpne, i_ifnull, i_ifnonnull, i_getI, i_getR, i_putI, i_putZ, i_putR, i_ald, i_ldL, i_ldR, i_ast, i_stL, i_stR, i_alen, i_new, i_newa, i_iret, i_zret, i_lret, i_aret, i_vret, i_raise, i_throw, i_recv, i_objinit, i_tsw3, lget, lset, lput1, lput2, lkil, ltrim, largs, isL, takev, dropv, nthv, pushO, catv, gd, true_and, and_true, Option.some.injEq, Prod.mk.injEq, exists_eq_left', if_true, if_false, reduceCtorEq, Bool.false_eq_true, lcmp_ge, lcmp_lt, lcmp_le, lcmp_gt, lcmp_eq, true_or, or_true, not_true_eq_false, not_false_eq_true, false_implies, true_implies, List.length_cons, List.length_nil, t1, t2, t3, u1, u2, u3, v1, v2, v3, hM, h1, h2, e1, e2]
          refine ⟨fun _ => wp_in ?_, fun g => by omega⟩
          simp only [P_X16_multiply, i_kil, i_icon, i_lcon, i_null, i_loadI, i_loadL, i_loadR, i_istore, i_lstore, i_astore, i_iinc, i_dup, i_dup2, i_pop, i_iadd, i_isub, i_imul, i_idiv, i_irem, i_ineg, i_iand, i_ior, i_ishl, i_ishr, i_lxor, i_ladd, i_lsub, i_lmul, i_ldiv, i_lrem, i_lneg, i_lshl, i_lcmp, i_i2l, i_l2i, i_i2b, i_i2s, i_ifeq, i_ifne, i_iflt, i_ifge, i_ifgt, i_ifle, i_cmpeq, i_cmpne, i_cmplt, i_cmpge, i_cmpgt, i_cmple, i_acmpeq, i_acmpne, i_ifnull, i_ifnonnull, i_getI, i_getR, i_putI, i_putZ, i_putR, i_ald, i_ldL, i_ldR, i_ast, i_stL, i_stR, i_alen, i_new, i_newa, i_iret, i_zret, i_lret, i_aret, i_vret, i_raise, i_throw, i_recv, i_objinit, i_tsw3, lget, lset, lput1, lput2, lkil, ltrim, largs, isL, takev, dropv, nthv, pushO, catv, gd, true_and, and_true, Option.some.injEq, Prod.mk.injEq, exists_eq_left', if_true, if_false, reduceCtorEq, Bool.false_eq_true, lcmp_ge, lcmp_lt, lcmp_le, lcmp_gt, lcmp_eq, true_or, or_true, not_true_eq_false, not_false_eq_true, false_implies, true_implies, List.length_cons, List.length_nil, t1, t2, t3, u1, u2, u3, v1, v2, v3, hM, h1, h2, e1, e2, e5, e6]
          refine ⟨in_small (by omega) (by omega), by omega, by omega, fun g => by omega, fun _ => ⟨by omega, by omega, by omega, by omega, by unfold inL; omega, ?_⟩⟩
          refine step _ _ ov (ov + (D' h ((i : Int) + j) + D (a + 1) i * D (b + 1) j)) j D' rfl cz ⟨hxy0, by omega⟩ hov (by omega) ?_
          generalize hT : ov + (D' h ((i : Int) + j) + D (a + 1) i * D (b + 1) j) = T at *
          have hTB : 0 ≤ T / 1000000000 ∧ T / 1000000000 < 1000000000 := by
            have hle : D (a + 1) i * D (b + 1) j ≤ 999999999 * 999999999 := Int.mul_le_mul (by omega) (by omega) cy.1 (by decide)
            omega
          have ez : ∀ l, pmu D' h ((i : Int) + j) (T % 1000000000) h l = if l = ((i + j : Nat) : Int) then T % 1000000000 else D' h l := fun l => by simp [pmu]
          have R := ihN (j + 1) (T / 1000000000) (pmu D' h ((i : Int) + j) (T % 1000000000)) (by omega) hTB (fun c l h1 => by simp [pmu, h1, hk c l h1]) (fun l h1 h2 => ?_) (fun l h1 h2 => ?_) ?_
          · exact R
          · rw [ez]; split
            · omega
            · exact hd l h1 h2
          · rw [ez, if_neg (by omega)]; exact hz l h1 h2
          · rw [dv_set (f := D' h) (k := i + j) (by omega) (fun l hl => by rw [ez, if_neg hl]), ez, if_pos rfl, show ((i + j : Nat) : Int) = (i : Int) + j by omega]
            simp only [dv]
            rw [show i + (j + 1) = i + j + 1 by omega, pw_succ]
            have e11 : (1000000000 : Int) ^ (i + j) = 1000000000 ^ i * 1000000000 ^ j := pw_add i j
            have h6 := Int.emod_add_mul_ediv T 1000000000
            rw [e11] at hv ⊢
            generalize T % 1000000000 = q1 at *
            generalize T / 1000000000 = q2 at *
            generalize D' h ((i : Int) + j) = wv at *
            generalize dv (D' h) (n + m) = z1 at *
            generalize dv (D (a + 1)) i = z2 at *
            generalize dv (D (b + 1)) j = z3 at *
            generalize dv (D (b + 1)) m = z4 at *
            generalize D (a + 1) (i : Int) = xx at *
            generalize D (b + 1) (j : Int) = yy at *
            generalize (1000000000 : Int) ^ i = pi at *
            generalize (1000000000 : Int) ^ j = pj at *
            clear hk hd hz ih ihN step rowend k e1 e2 e3 e4 e5 e6 ez dig
            grind
      refine wp_in ?_
      simp only [P_X16_multiply, i_kil, i_icon, i_lcon, i_null, i_loadI, i_loadL, i_loadR, i_istore, i_lstore, i_astore, i_iinc, i_dup, i_dup2, i_pop, i_iadd, i_isub, i_imul, i_idiv, i_irem, i_ineg, i_iand, i_ior, i_ishl, i_ishr, i_lxor, i_ladd, i_lsub, i_lmul, i_ldiv, i_lrem, i_lneg, i_lshl, i_lcmp, i_i2l, i_l2i, i_i2b, i_i2s, i_ifeq, i_ifne, i_iflt, i_ifge, i_ifgt, i_ifle, i_cmpeq, i_cmpne, i_cmplt, i_cmpge, i_cmpgt, i_cmple, i_acmpeq, i_acmpne, i_ifnull, i_ifnonnull, i_getI, i_getR, i_putI, i_putZ, i_putR, i_ald, i_ldL, i_ldR, i_ast, i_stL, i_stR, i_alen, i_new, i_newa, i_iret, i_zret, i_lret, i_aret, i_vret, i_raise, i_throw, i_recv, i_objinit, i_tsw3, lget, lset, lput1, lput2, lkil, ltrim, largs, isL, takev, dropv, nthv, pushO, catv, gd, true_and, and_true, Option.some.injEq, Prod.mk.injEq, exists_eq_left', if_true, if_false, reduceCtorEq, Bool.false_eq_true, lcmp_ge, lcmp_lt, lcmp_le, lcmp_gt, lcmp_eq, true_or, or_true, not_true_eq_false, not_false_eq_true, false_implies, true_implies, List.length_cons, List.length_nil, t1, t2, t3, u1, u2, u3, v1, v2, v3, hM, h1, h2, e1, e3, e4]
      exact ⟨fun g => by omega, fun _ => row m 0 0 D' (by omega) (by omega) hk hd hz (by simp [dv, hv])⟩
  -- all noughts first
  have zeros : ∀ (N j : Nat) (D' : Dat), j + N = n + m → (∀ c i, c ≠ h → D' c i = D c i) → (∀ l : Int, 0 ≤ l → l < j → D' h l = 0) → Wp P_X16_multiply E 2 [some (aR M), some (aR t), some (aR a), some (aR b), some (aI ((n : Int) + m)), some (aI j)] [] B S D' := by
    intro N
    induction N with
    | zero =>
      intro j D' hj hk hz
      refine wp_in ?_
      simp only [P_X16_multiply, i_kil, i_icon, i_lcon, i_null, i_loadI, i_loadL, i_loadR, i_istore, i_lstore, i_astore, i_iinc, i_dup, i_dup2, i_pop, i_iadd, i_isub, i_imul, i_idiv, i_irem, i_ineg, i_iand, i_ior, i_ishl, i_ishr, i_lxor, i_ladd, i_lsub, i_lmul, i_ldiv, i_lrem, i_lneg, i_lshl, i_lcmp, i_i2l, i_l2i, i_i2b, i_i2s, i_ifeq, i_ifne, i_iflt, i_ifge, i_ifgt, i_ifle, i_cmpeq, i_cmpne, i_cmplt, i_cmpge, i_cmpgt, i_cmple, i_acmpeq, i_acmpne, i_ifnull, i_ifnonnull, i_getI, i_getR, i_putI, i_putZ, i_putR, i_ald, i_ldL, i_ldR, i_ast, i_stL, i_stR, i_alen, i_new, i_newa, i_iret, i_zret, i_lret, i_aret, i_vret, i_raise, i_throw, i_recv, i_objinit, i_tsw3, lget, lset, lput1, lput2, lkil, ltrim, largs, isL, takev, dropv, nthv, pushO, catv, gd, true_and, and_true, Option.some.injEq, Prod.mk.injEq, exists_eq_left', if_true, if_false, reduceCtorEq, Bool.false_eq_true, lcmp_ge, lcmp_lt, lcmp_le, lcmp_gt, lcmp_eq, true_or, or_true, not_true_eq_false, not_false_eq_true, false_implies, true_implies, List.length_cons, List.length_nil, t1, t2, t3]
      refine ⟨fun _ => ?_, fun h => by omega⟩
      refine rows n 0 D' (by omega) hk (fun l h1 h2 => by rw [hz l h1 (by omega)]; omega) (fun l h1 h2 => hz l (by omega) (by omega)) ?_
      rw [dv_zero fun l h1 h2 => hz l h1 (by omega)]
      simp [dv]
    | succ N ih =>
      intro j D' hj hk hz
      refine wp_in ?_
      simp only [P_X16_multiply, i_kil, i_icon, i_lcon, i_null, i_loadI, i_loadL, i_loadR, i_istore, i_lstore, i_astore, i_iinc, i_dup, i_dup2, i_pop, i_iadd, i_isub, i_imul, i_idiv, i_irem, i_ineg, i_iand, i_ior, i_ishl, i_ishr, i_lxor, i_ladd, i_lsub, i_lmul, i_ldiv, i_lrem, i_lneg, i_lshl, i_lcmp, i_i2l, i_l2i, i_i2b, i_i2s, i_ifeq, i_ifne, i_iflt, i_ifge, i_ifgt, i_ifle, i_cmpeq, i_cmpne, i_cmplt, i_cmpge, i_cmpgt, i_cmple, i_acmpeq, i_acmpne, i_ifnull, i_ifnonnull, i_getI, i_getR, i_putI, i_putZ, i_putR, i_ald, i_ldL, i_ldR, i_ast, i_stL, i_stR, i_alen, i_new, i_newa, i_iret, i_zret, i_lret, i_aret, i_vret, i_raise, i_throw, i_recv, i_objinit, i_tsw3, lget, lset, lput1, lput2, lkil, ltrim, largs, isL, takev, dropv, nthv, pushO, catv, gd, true_and, and_true, Option.some.injEq, Prod.mk.injEq, exists_eq_left', if_true, if_false, reduceCtorEq, Bool.false_eq_true, lcmp_ge, lcmp_lt, lcmp_le, lcmp_gt, lcmp_eq, true_or, or_true, not_true_eq_false, not_false_eq_true, false_implies, true_implies, List.length_cons, List.length_nil, t1, t2, t3, hM, h1, h2]
      refine ⟨fun h => by omega, fun _ => ⟨by omega, by omega, by simp [okT], in_small (by omega) (by omega), ?_⟩⟩
      refine ih (j + 1) _ (by omega) (fun c l h1 => by simp [pmu, h1, hk c l h1]) (fun l h1 h2 => ?_)
      simp only [pmu, true_and]
      split
      · rfl
      · exact hz l h1 (by omega)
  exact zeros (n + m) 0 D (by omega) (fun _ _ _ => rfl) (fun l h1 h2 => by omega)
