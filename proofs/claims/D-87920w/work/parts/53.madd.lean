/-! the model's add; r may be one of the two -/
set_option maxRecDepth 100000
set_option linter.unusedVariables false
set_option maxHeartbeats 1000000 in
theorem sp_X16_addA {E : Ex} {B : Nat × Nat} {S : Stat} {D : Dat} {t a b r ra rb n m : Nat} {x y w : Int} (ht : wS 17 S t r) (ha : wS 17 S a ra) (hb : wS 17 S b rb) (a1 : D a 2 = n) (a2 : dcan (D (a + 1)) n) (a3 : D a 1 = Int.sign x) (a4 : (x.natAbs : Int) = dv (D (a + 1)) n) (b1 : D b 2 = m) (b2 : dcan (D (b + 1)) m) (b4 : (y.natAbs : Int) = dv (D (b + 1)) m) (hnr : n ≤ ra) (hmr : m ≤ rb) (hw : w = 1 ∨ w = -1) (hs : Int.sign x = Int.sign y * w) (hx0 : x ≠ 0) (hl : (x.natAbs : Int) + y.natAbs < 1000000000 ^ r) (h0 : r < 1000) (h1 : ra < 1000) (h2 : rb < 1000)
    (k : ∀ D' : Dat, wO D D' t → wD 2 1 D' t (x + w * y) → E (.inl none) B S D') :
    ∀ N : Nat, (N = if n < m then m else n) → ∀ (M j : Nat) (over : Int) (D' : Dat), j + M = N → (over = 0 ∨ over = 1) → (∀ c i, c ≠ t + 1 → D' c i = D c i) → (∀ i : Int, j ≤ i → D' (t + 1) i = D (t + 1) i) → dok (D' (t + 1)) j → dv (D' (t + 1)) j + over * 1000000000 ^ j = dv (dx (D (a + 1)) n) j + dv (dx (D (b + 1)) m) j →
          Wp P_X16_add E 4 [some (aR t), some (aR a), some (aR b), none, none, some (aI N), some (aL over), none, some (aI n), some (aI m), some (aI (Int.sign x)), some (aI j)] [] B S D' := by
  have apa : a ≠ t + 1 := fun h => by by_cases q : a = t; · omega
                                      · exact (wS.apart (by decide) (by decide) ha ht q).1 h
  have apb : b ≠ t + 1 := fun h => by by_cases q : b = t; · omega
                                      · exact (wS.apart (by decide) (by decide) hb ht q).1 h
  obtain ⟨t1, t2, t3⟩ := ht
  obtain ⟨u1, u2, u3⟩ := ha
  obtain ⟨v1, v2, v3⟩ := hb
  have hnr2 : n ≤ r := a2.size_le (by omega)
  have hmr2 : m ≤ r := b2.size_le (by omega)
  have hsx := sgn_cases x
  have hsy := sgn_cases y
  have htot : ((x + w * y).natAbs : Int) = x.natAbs + y.natAbs := by
    rcases hw with rfl | rfl <;> rcases hsx with q | q | q <;> rcases hsy with q' | q' | q' <;> omega
  have hsg : Int.sign (x + w * y) = Int.sign x := by
    rcases hsx with ⟨q1, q2, q3⟩ | ⟨q1, q2⟩ | ⟨q1, q2, q3⟩
    · rw [q1, Int.sign_eq_one_of_pos]; rcases hw with rfl | rfl <;> rcases hsy with q' | q' | q' <;> omega
    · omega
    · rw [q1, Int.sign_eq_neg_one_of_neg]; rcases hw with rfl | rfl <;> rcases hsy with q' | q' | q' <;> omega
  intro N hN
  have hNn : n ≤ N ∧ m ≤ N ∧ N ≤ r ∧ (N = n ∨ N = m) := by split at hN <;> omega
  intro M
  induction M with
  | zero =>
    intro j over D' hj hov hk hu hd hv
    have hjN : j = N := by omega
    subst hjN
    rw [dv_dx hNn.1, dv_dx hNn.2.1, ← a4, ← b4] at hv
    refine wp_in ?_
    simp only [P_X16_add, i_kil, i_icon, i_lcon, i_null, i_loadI, i_loadL, i_loadR, i_istore, i_lstore, i_astore, i_iinc, i_dup, i_dup2, i_pop, i_iadd, i_isub, i_imul, i_idiv, i_irem, i_ineg, i_iand, i_ior, i_ishl, i_ishr, i_lxor, i_ladd, i_lsub, i_lmul, i_ldiv, i_lrem, i_lneg, i_lshl, i_lcmp, i_i2l, i_l2i, i_i2b, i_i2s, i_ifeq, i_ifne, i_iflt, i_ifge, i_ifgt, i_ifle, i_cmpeq, i_cmpne, i_cmplt, i_cmpge, i_cmpgt, i_cmple, i_acmpeq, i_acmpne, i_ifnull, i_ifnonnull, i_getI, i_getR, i_putI, i_putZ, i_putR, i_ald, i_ldL, i_ldR, i_ast, i_stL, i_stR, i_alen, i_new, i_newa, i_iret, i_zret, i_lret, i_aret, i_vret, i_raise, i_throw, i_recv, i_objinit, i_tsw3, lget, lset, lput1, lput2, lkil, ltrim, largs, isL, takev, dropv, nthv, pushO, catv, gd, true_and, and_true, Option.some.injEq, Prod.mk.injEq, exists_eq_left', if_true, if_false, reduceCtorEq, Bool.false_eq_true, lcmp_ge, lcmp_lt, lcmp_le, lcmp_gt, lcmp_eq, true_or, or_true, not_true_eq_false, not_false_eq_true, false_implies, true_implies, List.length_cons, List.length_nil, t1, t2, t3]
    have hfin : ∀ (D'' : Dat) (q : Nat), wO D D'' t → D'' t 2 = q → D'' t 1 = Int.sign x → dcan (D'' (t + 1)) q → dv (D'' (t + 1)) q = x.natAbs + y.natAbs → Wp P_X16_add E 7 [] [] B S D'' := by
      intro D'' q f1 f2 f3 f4 f5
      refine wp_in ?_
      simp only [P_X16_add, i_kil, i_icon, i_lcon, i_null, i_loadI, i_loadL, i_loadR, i_istore, i_lstore, i_astore, i_iinc, i_dup, i_dup2, i_pop, i_iadd, i_isub, i_imul, i_idiv, i_irem, i_ineg, i_iand, i_ior, i_ishl, i_ishr, i_lxor, i_ladd, i_lsub, i_lmul, i_ldiv, i_lrem, i_lneg, i_lshl, i_lcmp, i_i2l, i_l2i, i_i2b, i_i2s, i_ifeq, i_ifne, i_iflt, i_ifge, i_ifgt, i_ifle, i_cmpeq, i_cmpne, i_cmplt, i_cmpge, i_cmpgt, i_cmple, i_acmpeq, i_acmpne, i_ifnull, i_ifnonnull, i_getI, i_getR, i_putI, i_putZ, i_putR, i_ald, i_ldL, i_ldR, i_ast, i_stL, i_stR, i_alen, i_new, i_newa, i_iret, i_zret, i_lret, i_aret, i_vret, i_raise, i_throw, i_recv, i_objinit, i_tsw3, lget, lset, lput1, lput2, lkil, ltrim, largs, isL, takev, dropv, nthv, pushO, catv, gd, true_and, and_true, Option.some.injEq, Prod.mk.injEq, exists_eq_left', if_true, if_false, reduceCtorEq, Bool.false_eq_true, lcmp_ge, lcmp_lt, lcmp_le, lcmp_gt, lcmp_eq, true_or, or_true, not_true_eq_false, not_false_eq_true, false_implies, true_implies, List.length_cons, List.length_nil]
      exact k D'' f1 (wD.of (n := q) (g := D'' (t + 1)) f2 (by rw [hsg]; exact f3) (fun i _ _ => rfl) f4 (by rw [f5]; exact htot))
    refine ⟨fun _ => ⟨fun h => ?_, fun h => ?_⟩, fun h => absurd h (Int.lt_irrefl _)⟩
    · have ho0 : over = 0 := by omega
      subst ho0
      have e2 : pmu (pmu D' t 2 j) t 1 (Int.sign x) (t + 1) = D' (t + 1) := by funext i; simp [pmu]
      refine hfin _ j (fun c i h1 h2 => by simp [pmu, h1, hk c i h2]) (by simp [pmu]) (by simp [pmu]) ?_ (by rw [e2]; omega)
      rw [e2]
      refine dcan_of_ge hd fun q hq => ?_
      rcases hNn.2.2.2 with h1 | h1
      · have h3 : 1000000000 ^ q ≤ dv (D (a + 1)) n := by
          obtain rfl : n = q + 1 := by omega
          exact dv_ge a2.1 a2.top
        omega
      · have h3 : 1000000000 ^ q ≤ dv (D (b + 1)) m := by
          obtain rfl : m = q + 1 := by omega
          exact dv_ge b2.1 b2.top
        omega
    · have ho1 : over = 1 := by omega
      subst ho1
      have h4 := dv_nn hd
      have hjr : j < r := pw_inj (by omega)
      have e3 : pmu (pmu (pmu D' t 2 j) t 1 (Int.sign x)) (t + 1) j 1 t 2 = j := by simp [pmu]
      rw [e3]
      refine ⟨in_small (by omega) (by omega), by omega, by omega, by simp [okT], in_small (by omega) (by omega), ?_⟩
      have e1 : ∀ i, pmu (pmu (pmu (pmu D' t 2 j) t 1 (Int.sign x)) (t + 1) j 1) t 2 ((j : Int) + 1) (t + 1) i = if i = j then 1 else D' (t + 1) i := fun i => by simp [pmu]
      refine hfin _ (j + 1) (fun c i h1 h2 => by simp [pmu, h1, h2, hk c i h2]) (by simp [pmu]) (by simp [pmu]) ⟨fun i h5 h6 => ?_, fun _ => ?_⟩ ?_
      · rw [e1]; split
        · omega
        · exact hd i h5 (by omega)
      · rw [e1, if_pos (by omega)]; omega
      · simp only [dv, e1, if_true]
        rw [dv_congr (g := D' (t + 1)) (fun i h5 h6 => by rw [e1, if_neg (by omega)])]
        omega
  | succ M ih =>
    intro j over D' hj hov hk hu hd hv
    have cx := dx_ok a2.1 N j (by omega) (by omega)
    have cy := dx_ok b2.1 N j (by omega) (by omega)
    have hra : ∀ i : Int, (j : Int) ≤ i → D' (a + 1) i = D (a + 1) i := fun i hi => by
      by_cases q : a = t
      · subst q; exact hu i hi
      · exact hk _ i (by omega)
    have hrb : ∀ i : Int, (j : Int) ≤ i → D' (b + 1) i = D (b + 1) i := fun i hi => by
      by_cases q : b = t
      · subst q; exact hu i hi
      · exact hk _ i (by omega)
    have L6 : Wp P_X16_add E 6 [some (aR t), some (aR a), some (aR b), none, none, some (aI N), none, none, some (aI n), some (aI m), some (aI (Int.sign x)), some (aI j)] [aI (dx (D (b + 1)) m j), aL (dx (D (a + 1)) n j), aL over] B S D' := by
      refine wp_in ?_
      simp only [P_X16_add, i_kil, i_icon, i_lcon, i_null, i_loadI, i_loadL, i_loadR, i_istore, i_lstore, i_astore, i_iinc, i_dup, i_dup2, i_pop, i_iadd, i_isub, i_imul, i_idiv, i_irem, i_ineg, i_iand, i_ior, i_ishl, i_ishr, i_lxor, i_ladd, i_lsub, i_lmul, i_ldiv, i_lrem, i_lneg, i_lshl, i_lcmp, i_i2l, i_l2i, i_i2b, i_i2s, i_ifeq, i_ifne, i_iflt, i_ifge, i_ifgt, i_ifle, i_cmpeq, i_cmpne, i_cmplt, i_cmpge, i_cmpgt, i_cmple, i_acmpeq, i_acmpne, i_ifnull, i_ifnonnull, i_getI, i_getR, i_putI, i_putZ, i_putR, i_ald, i_ldL, i_ldR, i_ast, i_stL, i_stR, i_alen, i_new, i_newa, i_iret, i_zret, i_lret, i_aret, i_vret, i_raise, i_throw, i_recv, i_objinit, i_tsw3, lget, lset, lput1, lput2, lkil, ltrim, largs, isL, takev, dropv, nthv, pushO, catv, gd, true_and, and_true, Option.some.injEq, Prod.mk.injEq, exists_eq_left', if_true, if_false, reduceCtorEq, Bool.false_eq_true, lcmp_ge, lcmp_lt, lcmp_le, lcmp_gt, lcmp_eq, true_or, or_true, not_true_eq_false, not_false_eq_true, false_implies, true_implies, List.length_cons, List.length_nil, t1, t2, t3]
      generalize hS : over + (dx (D (a + 1)) n j + dx (D (b + 1)) m j) = q
      have hq0 : 0 ≤ q := by omega
      rw [tdiv_nn hq0, tmod_nn hq0]
      have e1 : ∀ i, pmu D' (t + 1) j (q % 1000000000) (t + 1) i = if i = j then q % 1000000000 else D' (t + 1) i := fun i => by simp [pmu]
      refine ⟨by unfold inL; omega, by unfold inL; omega, by decide, by unfold inL; omega, by unfold inI; omega, by omega, by omega, by simp [okT], by decide, by unfold inL; omega, in_small (by omega) (by omega), ?_⟩
      refine ih (j + 1) (q / 1000000000) _ (by omega) (by omega) (fun d i h1 => by simp [pmu, h1, hk d i h1]) (fun i h1 => by rw [e1, if_neg (by omega)]; exact hu i (by omega)) (fun i h5 h6 => ?_) ?_
      · rw [e1]; split
        · omega
        · exact hd i h5 (by omega)
      · simp only [dv, e1, if_true, pw_succ]
        rw [dv_congr (g := D' (t + 1)) (fun i h5 h6 => by rw [e1, if_neg (by omega)])]
        have h6 := Int.emod_add_mul_ediv q 1000000000
        generalize dx (D (a + 1)) n j = xx at *
        generalize dx (D (b + 1)) m j = yy at *
        generalize q % 1000000000 = q1 at *
        generalize q / 1000000000 = q2 at *
        generalize (1000000000 : Int) ^ j = pj at *
        generalize dv (D' (t + 1)) j = z1 at *
        generalize dv (dx (D (a + 1)) n) j = z2 at *
        generalize dv (dx (D (b + 1)) m) j = z3 at *
        clear hk hu hd ih hra hrb k e1
        grind
    have L5 : Wp P_X16_add E 5 [some (aR t), some (aR a), some (aR b), none, none, some (aI N), none, none, some (aI n), some (aI m), some (aI (Int.sign x)), some (aI j)] [aI (dx (D (a + 1)) n j), aL over] B S D' := by
      refine wp_in ?_
      simp only [P_X16_add, i_kil, i_icon, i_lcon, i_null, i_loadI, i_loadL, i_loadR, i_istore, i_lstore, i_astore, i_iinc, i_dup, i_dup2, i_pop, i_iadd, i_isub, i_imul, i_idiv, i_irem, i_ineg, i_iand, i_ior, i_ishl, i_ishr, i_lxor, i_ladd, i_lsub, i_lmul, i_ldiv, i_lrem, i_lneg, i_lshl, i_lcmp, i_i2l, i_l2i, i_i2b, i_i2s, i_ifeq, i_ifne, i_iflt, i_ifge, i_ifgt, i_ifle, i_cmpeq, i_cmpne, i_cmplt, i_cmpge, i_cmpgt, i_cmple, i_acmpeq, i_acmpne, i_ifnull, i_ifnonnull, i_getI, i_getR, i_putI, i_putZ, i_putR, i_ald, i_ldL, i_ldR, i_ast, i_stL, i_stR, i_alen, i_new, i_newa, i_iret, i_zret, i_lret, i_aret, i_vret, i_raise, i_throw, i_recv, i_objinit, i_tsw3, lget, lset, lput1, lput2, lkil, ltrim, largs, isL, takev, dropv, nthv, pushO, catv, gd, true_and, and_true, Option.some.injEq, Prod.mk.injEq, exists_eq_left', if_true, if_false, reduceCtorEq, Bool.false_eq_true, lcmp_ge, lcmp_lt, lcmp_le, lcmp_gt, lcmp_eq, true_or, or_true, not_true_eq_false, not_false_eq_true, false_implies, true_implies, List.length_cons, List.length_nil, t1, t2, t3, v1, v2, v3]
      refine ⟨fun h => ?_, fun h => ⟨by omega, by omega, ?_⟩⟩
      · have e : dx (D (b + 1)) m j = 0 := by simp [dx, show ¬ ((j : Int) < m) by omega]
        rw [e] at L6; exact L6
      · have e : dx (D (b + 1)) m j = D' (b + 1) j := by simp [dx, h, hrb j (Int.le_refl _)]
        rw [e] at L6; exact L6
    refine wp_in ?_
    simp only [P_X16_add, i_kil, i_icon, i_lcon, i_null, i_loadI, i_loadL, i_loadR, i_istore, i_lstore, i_astore, i_iinc, i_dup, i_dup2, i_pop, i_iadd, i_isub, i_imul, i_idiv, i_irem, i_ineg, i_iand, i_ior, i_ishl, i_ishr, i_lxor, i_ladd, i_lsub, i_lmul, i_ldiv, i_lrem, i_lneg, i_lshl, i_lcmp, i_i2l, i_l2i, i_i2b, i_i2s, i_ifeq, i_ifne, i_iflt, i_ifge, i_ifgt, i_ifle, i_cmpeq, i_cmpne, i_cmplt, i_cmpge, i_cmpgt, i_cmple, i_acmpeq, i_acmpne, i_ifnull, i_ifnonnull, i_getI, i_getR, i_putI, i_putZ, i_putR, i_ald, i_ldL, i_ldR, i_ast, i_stL, i_stR, i_alen, i_new, i_newa, i_iret, i_zret, i_lret, i_aret, i_vret, i_raise, i_throw, i_recv, i_objinit, i_tsw3, lget, lset, lput1, lput2, lkil, ltrim, largs, isL, takev, dropv, nthv, pushO, catv, gd, true_and, and_true, Option.some.injEq, Prod.mk.injEq, exists_eq_left', if_true, if_false, reduceCtorEq, Bool.false_eq_true, lcmp_ge, lcmp_lt, lcmp_le, lcmp_gt, lcmp_eq, true_or, or_true, not_true_eq_false, not_false_eq_true, false_implies, true_implies, List.length_cons, List.length_nil, t1, t2, t3, u1, u2, u3]
    refine ⟨fun h => by omega, fun _ => ⟨fun h => ?_, fun h => ⟨by omega, by omega, ?_⟩⟩⟩
    · have e : dx (D (a + 1)) n j = 0 := by simp [dx, show ¬ ((j : Int) < n) by omega]
      rw [e] at L5; exact L5
    · have e : dx (D (a + 1)) n j = D' (a + 1) j := by simp [dx, h, hra j (Int.le_refl _)]
      rw [e] at L5; exact L5

set_option maxHeartbeats 1000000 in
theorem sp_X16_addB {E : Ex} {B : Nat × Nat} {S : Stat} {D : Dat} {t r g s p q rg rs : Nat} {z zg : Int} (ht : wS 17 S t r) (hg : wS 17 S g rg) (hs : wS 17 S s rs) (p1 : D g 2 = p) (p2 : dcan (D (g + 1)) p) (p3 : p ≤ rg) (p4 : p ≤ r) (p5 : rg < 1000) (h0 : r < 1000) (q1 : D s 2 = q) (q2 : dcan (D (s + 1)) q) (q3 : q ≤ rs) (hle : dv (D (s + 1)) q < dv (D (g + 1)) p) (hz : zg = 1 ∨ zg = -1) (hres : z = zg * (dv (D (g + 1)) p - dv (D (s + 1)) q))
    (k : ∀ D' : Dat, wO D D' t → wD 2 1 D' t z → E (.inl none) B S D') :
    ∀ (M j : Nat) (un : Int) (D' : Dat), j + M = p → (un = 0 ∨ un = 1) → (∀ c i, c ≠ t + 1 → D' c i = D c i) → (∀ i : Int, j ≤ i → D' (t + 1) i = D (t + 1) i) → dok (D' (t + 1)) j → dv (D' (t + 1)) j + dv (dx (D (s + 1)) q) j = dv (D (g + 1)) j + un * 1000000000 ^ j →
          Wp P_X16_add E 11 [some (aR t), none, none, none, none, none, some (aR g), some (aR s), some (aI zg), some (aI p), some (aI q), some (aL un), none, some (aI j)] [] B S D' := by
  have ht0 := ht
  have hg1 : g ≠ t + 1 := fun h => by by_cases q : g = t; · omega
                                      · exact (wS.apart (by decide) (by decide) hg ht q).1 h
  have hs1 : s ≠ t + 1 := fun h => by by_cases q : s = t; · omega
                                      · exact (wS.apart (by decide) (by decide) hs ht q).1 h
  obtain ⟨t1, t2, t3⟩ := ht
  obtain ⟨g1, g2, g3⟩ := hg
  obtain ⟨s1, s2, s3⟩ := hs
  have hqp : q ≤ p := by
    rcases Nat.lt_or_ge p q with h | h
    · have := dv_lt_of_size p2 q2 h; omega
    · exact h
  intro M
  induction M with
  | zero =>
    intro j un D' hj hun hk hu hd hv
    have hjp : j = p := by omega
    subst hjp
    rw [dv_dx hqp] at hv
    have hd0 := dv_nn hd
    have hun0 : un = 0 := by
      rcases hun with q | q
      · exact q
      · subst q; omega
    subst hun0
    refine wp_in ?_
    simp only [P_X16_add, i_kil, i_icon, i_lcon, i_null, i_loadI, i_loadL, i_loadR, i_istore, i_lstore, i_astore, i_iinc, i_dup, i_dup2, i_pop, i_iadd, i_isub, i_imul, i_idiv, i_irem, i_ineg, i_iand, i_ior, i_ishl, i_ishr, i_lxor, i_ladd, i_lsub, i_lmul, i_ldiv, i_lrem, i_lneg, i_lshl, i_lcmp, i_i2l, i_l2i, i_i2b, i_i2s, i_ifeq, i_ifne, i_iflt, i_ifge, i_ifgt, i_ifle, i_cmpeq, i_cmpne, i_cmplt, i_cmpge, i_cmpgt, i_cmple, i_acmpeq, i_acmpne, i_ifnull, i_ifnonnull, i_getI, i_getR, i_putI, i_putZ, i_putR, i_ald, i_ldL, i_ldR, i_ast, i_stL, i_stR, i_alen, i_new, i_newa, i_iret, i_zret, i_lret, i_aret, i_vret, i_raise, i_throw, i_recv, i_objinit, i_tsw3, lget, lset, lput1, lput2, lkil, ltrim, largs, isL, takev, dropv, nthv, pushO, catv, gd, true_and, and_true, Option.some.injEq, Prod.mk.injEq, exists_eq_left', if_true, if_false, reduceCtorEq, Bool.false_eq_true, lcmp_ge, lcmp_lt, lcmp_le, lcmp_gt, lcmp_eq, true_or, or_true, not_true_eq_false, not_false_eq_true, false_implies, true_implies, List.length_cons, List.length_nil, t1, t2, t3]
    refine ⟨fun _ => call0 (gd_of rfl) ?_, fun h => absurd h (Int.lt_irrefl _)⟩
    refine sp_X16_trim0 ht0 p4 h0 hd ?_
    intro D'' q' f1 f2 f3 f4 f5 f6
    simp only [P_X16_add, i_kil, i_icon, i_lcon, i_null, i_loadI, i_loadL, i_loadR, i_istore, i_lstore, i_astore, i_iinc, i_dup, i_dup2, i_pop, i_iadd, i_isub, i_imul, i_idiv, i_irem, i_ineg, i_iand, i_ior, i_ishl, i_ishr, i_lxor, i_ladd, i_lsub, i_lmul, i_ldiv, i_lrem, i_lneg, i_lshl, i_lcmp, i_i2l, i_l2i, i_i2b, i_i2s, i_ifeq, i_ifne, i_iflt, i_ifge, i_ifgt, i_ifle, i_cmpeq, i_cmpne, i_cmplt, i_cmpge, i_cmpgt, i_cmple, i_acmpeq, i_acmpne, i_ifnull, i_ifnonnull, i_getI, i_getR, i_putI, i_putZ, i_putR, i_ald, i_ldL, i_ldR, i_ast, i_stL, i_stR, i_alen, i_new, i_newa, i_iret, i_zret, i_lret, i_aret, i_vret, i_raise, i_throw, i_recv, i_objinit, i_tsw3, lget, lset, lput1, lput2, lkil, ltrim, largs, isL, takev, dropv, nthv, pushO, catv, gd, true_and, and_true, Option.some.injEq, Prod.mk.injEq, exists_eq_left', if_true, if_false, reduceCtorEq, Bool.false_eq_true, lcmp_ge, lcmp_lt, lcmp_le, lcmp_gt, lcmp_eq, true_or, or_true, not_true_eq_false, not_false_eq_true, false_implies, true_implies, List.length_cons, List.length_nil, t1, t2, t3]
    refine k _ (fun c i c1 c2 => by simp [pmu, c1, f1 c i c1, hk c i c2]) ?_
    have e2 : ∀ v : Int, pmu D'' t 1 v (t + 1) = D' (t + 1) := fun v => by funext i; simp only [pmu]; rw [if_neg (fun h => by omega)]; exact f1 _ i (by omega)
    have hval : dv (D (g + 1)) j - dv (D (s + 1)) q = dv (D' (t + 1)) q' := by rw [f5]; omega
    have hq0 : 0 < q' := by
      rcases Nat.eq_zero_or_pos q' with h | h
      · subst h; simp only [dv] at hval; omega
      · exact h
    rw [hres, hval]
    have h := wD.mk (kn := 2) (ks := 1) (D := pmu D'' t 1 zg) (w := t) (n := q') (s := zg) (by simp [pmu, f3]) (by rw [e2]; exact f4) (by simp [pmu]) (.inr ⟨hq0, hz⟩)
    rw [e2] at h
    exact h
  | succ M ih =>
    intro j un D' hj hun hk hu hd hv
    obtain ⟨c1, c2⟩ := p2.1 j (by omega) (by omega)
    have cy := dx_ok q2.1 p j (by omega) (by omega)
    have hrg : D' (g + 1) j = D (g + 1) j := by
      by_cases q : g = t
      · subst q; exact hu j (Int.le_refl _)
      · exact hk _ j (by omega)
    have hrs : D' (s + 1) j = D (s + 1) j := by
      by_cases q : s = t
      · subst q; exact hu j (Int.le_refl _)
      · exact hk _ j (by omega)
    have L12 : Wp P_X16_add E 12 [some (aR t), none, none, none, none, none, some (aR g), some (aR s), some (aI zg), some (aI p), some (aI q), none, none, some (aI j)] [aI (dx (D (s + 1)) q j), aL (D (g + 1) j - un)] B S D' := by
      refine wp_in ?_
      simp only [P_X16_add, i_kil, i_icon, i_lcon, i_null, i_loadI, i_loadL, i_loadR, i_istore, i_lstore, i_astore, i_iinc, i_dup, i_dup2, i_pop, i_iadd, i_isub, i_imul, i_idiv, i_irem, i_ineg, i_iand, i_ior, i_ishl, i_ishr, i_lxor, i_ladd, i_lsub, i_lmul, i_ldiv, i_lrem, i_lneg, i_lshl, i_lcmp, i_i2l, i_l2i, i_i2b, i_i2s, i_ifeq, i_ifne, i_iflt, i_ifge, i_ifgt, i_ifle, i_cmpeq, i_cmpne, i_cmplt, i_cmpge, i_cmpgt, i_cmple, i_acmpeq, i_acmpne, i_ifnull, i_ifnonnull, i_getI, i_getR, i_putI, i_putZ, i_putR, i_ald, i_ldL, i_ldR, i_ast, i_stL, i_stR, i_alen, i_new, i_newa, i_iret, i_zret, i_lret, i_aret, i_vret, i_raise, i_throw, i_recv, i_objinit, i_tsw3, lget, lset, lput1, lput2, lkil, ltrim, largs, isL, takev, dropv, nthv, pushO, catv, gd, true_and, and_true, Option.some.injEq, Prod.mk.injEq, exists_eq_left', if_true, if_false, reduceCtorEq, Bool.false_eq_true, lcmp_ge, lcmp_lt, lcmp_le, lcmp_gt, lcmp_eq, true_or, or_true, not_true_eq_false, not_false_eq_true, false_implies, true_implies, List.length_cons, List.length_nil, t1, t2, t3]
      generalize hv' : D (g + 1) j - un - dx (D (s + 1)) q j = v
      have L14 : ∀ c : Int, (c = 0 ∨ c = 1) → (c = 1 ↔ v < 0) → Wp P_X16_add E 14 [some (aR t), none, none, none, none, none, some (aR g), some (aR s), some (aI zg), some (aI p), some (aI q), some (aL c), none, some (aI j)] [aL (v + 1000000000 * c), aI j, aR (t + 1)] B S D' := by
        intro c hc hc2
        refine wp_in ?_
        simp only [P_X16_add, i_kil, i_icon, i_lcon, i_null, i_loadI, i_loadL, i_loadR, i_istore, i_lstore, i_astore, i_iinc, i_dup, i_dup2, i_pop, i_iadd, i_isub, i_imul, i_idiv, i_irem, i_ineg, i_iand, i_ior, i_ishl, i_ishr, i_lxor, i_ladd, i_lsub, i_lmul, i_ldiv, i_lrem, i_lneg, i_lshl, i_lcmp, i_i2l, i_l2i, i_i2b, i_i2s, i_ifeq, i_ifne, i_iflt, i_ifge, i_ifgt, i_ifle, i_cmpeq, i_cmpne, i_cmplt, i_cmpge, i_cmpgt, i_cmple, i_acmpeq, i_acmpne, i_ifnull, i_ifnonnull, i_getI, i_getR, i_putI, i_putZ, i_putR, i_ald, i_ldL, i_ldR, i_ast, i_stL, i_stR, i_alen, i_new, i_newa, i_iret, i_zret, i_lret, i_aret, i_vret, i_raise, i_throw, i_recv, i_objinit, i_tsw3, lget, lset, lput1, lput2, lkil, ltrim, largs, isL, takev, dropv, nthv, pushO, catv, gd, true_and, and_true, Option.some.injEq, Prod.mk.injEq, exists_eq_left', if_true, if_false, reduceCtorEq, Bool.false_eq_true, lcmp_ge, lcmp_lt, lcmp_le, lcmp_gt, lcmp_eq, true_or, or_true, not_true_eq_false, not_false_eq_true, false_implies, true_implies, List.length_cons, List.length_nil, t1, t2, t3]
        refine ⟨by unfold inI; rcases hc with h | h <;> subst h <;> omega, by omega, by omega, by simp [okT], in_small (by omega) (by omega), ?_⟩
        have e1 : ∀ i, pmu D' (t + 1) j (v + 1000000000 * c) (t + 1) i = if i = j then v + 1000000000 * c else D' (t + 1) i := fun i => by simp [pmu]
        refine ih (j + 1) c _ (by omega) hc (fun d i h1 => by simp [pmu, h1, hk d i h1]) (fun i h1 => by rw [e1, if_neg (by omega)]; exact hu i (by omega)) (fun i h5 h6 => ?_) ?_
        · rw [e1]; split
          · rcases hc with h | h <;> subst h <;> omega
          · exact hd i h5 (by omega)
        · simp only [dv, e1, if_true, pw_succ]
          rw [dv_congr (g := D' (t + 1)) (fun i h5 h6 => by rw [e1, if_neg (by omega)])]
          rw [← hv']
          generalize dx (D (s + 1)) q j = yy at *
          generalize (1000000000 : Int) ^ j = pj at *
          generalize dv (D' (t + 1)) j = z1 at *
          generalize dv (dx (D (s + 1)) q) j = z2 at *
          generalize dv (D (g + 1)) j = z3 at *
          generalize D (g + 1) (j : Int) = xx at *
          clear hk hu hd ih hrg hrs k e1
          grind
      have L13 : ∀ c : Int, (c = 0 ∨ c = 1) → (c = 1 ↔ v < 0) → Wp P_X16_add E 13 [some (aR t), none, none, none, none, none, some (aR g), some (aR s), some (aI zg), some (aI p), some (aI q), none, none, some (aI j), some (aL v)] [aL c] B S D' := by
        intro c hc hc2
        have L := L14 c hc hc2
        refine wp_in ?_
        simp only [P_X16_add, i_kil, i_icon, i_lcon, i_null, i_loadI, i_loadL, i_loadR, i_istore, i_lstore, i_astore, i_iinc, i_dup, i_dup2, i_pop, i_iadd, i_isub, i_imul, i_idiv, i_irem, i_ineg, i_iand, i_ior, i_ishl, i_ishr, i_lxor, i_ladd, i_lsub, i_lmul, i_ldiv, i_lrem, i_lneg, i_lshl, i_lcmp, i_i2l, i_l2i, i_i2b, i_i2s, i_ifeq, i_ifne, i_iflt, i_ifge, i_ifgt, i_ifle, i_cmpeq, i_cmpne, i_cmplt, i_cmpge, i_cmpgt, i_cmple, i_acmpeq, i_acmpne, i_ifnull, i_ifnonnull, i_getI, i_getR, i_putI, i_putZ, i_putR, i_ald, i_ldL, i_ldR, i_ast, i_stL, i_stR, i_alen, i_new, i_newa, i_iret, i_zret, i_lret, i_aret, i_vret, i_raise, i_throw, i_recv, i_objinit, i_tsw3, lget, lset, lput1, lput2, lkil, ltrim, largs, isL, takev, dropv, nthv, pushO, catv, gd, true_and, and_true, Option.some.injEq, Prod.mk.injEq, exists_eq_left', if_true, if_false, reduceCtorEq, Bool.false_eq_true, lcmp_ge, lcmp_lt, lcmp_le, lcmp_gt, lcmp_eq, true_or, or_true, not_true_eq_false, not_false_eq_true, false_implies, true_implies, List.length_cons, List.length_nil, t1, t2, t3]
        refine ⟨fun h => ?_, fun h => ⟨by unfold inL; omega, ?_⟩⟩
        · have hc0 : c = 0 := by omega
          subst hc0
          rw [Int.mul_zero, Int.add_zero] at L
          exact L
        · have hc1 : c = 1 := by omega
          subst hc1
          rw [Int.mul_one] at L
          exact L
      exact ⟨by unfold inL; omega, fun h => L13 0 (.inl rfl) (by omega), fun h => L13 1 (.inr rfl) (by omega)⟩
    refine wp_in ?_
    simp only [P_X16_add, i_kil, i_icon, i_lcon, i_null, i_loadI, i_loadL, i_loadR, i_istore, i_lstore, i_astore, i_iinc, i_dup, i_dup2, i_pop, i_iadd, i_isub, i_imul, i_idiv, i_irem, i_ineg, i_iand, i_ior, i_ishl, i_ishr, i_lxor, i_ladd, i_lsub, i_lmul, i_ldiv, i_lrem, i_lneg, i_lshl, i_lcmp, i_i2l, i_l2i, i_i2b, i_i2s, i_ifeq, i_ifne, i_iflt, i_ifge, i_ifgt, i_ifle, i_cmpeq, i_cmpne, i_cmplt, i_cmpge, i_cmpgt, i_cmple, i_acmpeq, i_acmpne, i_ifnull, i_ifnonnull, i_getI, i_getR, i_putI, i_putZ, i_putR, i_ald, i_ldL, i_ldR, i_ast, i_stL, i_stR, i_alen, i_new, i_newa, i_iret, i_zret, i_lret, i_aret, i_vret, i_raise, i_throw, i_recv, i_objinit, i_tsw3, lget, lset, lput1, lput2, lkil, ltrim, largs, isL, takev, dropv, nthv, pushO, catv, gd, true_and, and_true, Option.some.injEq, Prod.mk.injEq, exists_eq_left', if_true, if_false, reduceCtorEq, Bool.false_eq_true, lcmp_ge, lcmp_lt, lcmp_le, lcmp_gt, lcmp_eq, true_or, or_true, not_true_eq_false, not_false_eq_true, false_implies, true_implies, List.length_cons, List.length_nil, g1, g2, g3, s1, s2, s3]
    refine ⟨fun h => by omega, fun _ => ⟨by omega, by omega, by unfold inL; omega, fun h => ?_, fun h => ⟨by omega, by omega, ?_⟩⟩⟩
    · have e : dx (D (s + 1)) q j = 0 := by simp [dx, show ¬ ((j : Int) < q) by omega]
      rw [e] at L12; rw [hrg]; exact L12
    · have e : dx (D (s + 1)) q j = D (s + 1) j := by simp [dx, h]
      rw [e] at L12; rw [hrg, hrs]; exact L12
