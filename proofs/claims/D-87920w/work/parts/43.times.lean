/-! Reckoner: times -/
set_option maxRecDepth 100000
set_option linter.unusedVariables false
set_option maxHeartbeats 1000000 in
theorem sp_X2_times {E : Ex} {B : Nat × Nat} {S : Stat} {D : Dat} {o t a b r ra rb p q : Nat} {x y : Int} (ht : wS 3 S t r) (ha : wS 3 S a ra) (hb : wS 3 S b rb) (nta : t ≠ a) (ntb : t ≠ b) (hx : wD 1 2 D a x) (hy : wD 1 2 D b y) (hp : (x.natAbs : Int) < 1000000000 ^ p) (hq : (y.natAbs : Int) < 1000000000 ^ q) (hpa : p ≤ ra) (hqb : q ≤ rb) (hpq : p + q ≤ r) (h0 : r < 1000) (h1 : ra < 1000) (h2 : rb < 1000)
    (k : ∀ D' : Dat, wO D D' t → wD 1 2 D' t (x * y) → E (.inl none) B S D') : Wp P_X2_times E 0 [some (aR o), some (aR t), some (aR a), some (aR b)] [] B S D := by
  have ht0 := ht
  obtain ⟨aa1, aa2, aa3⟩ := wS.apart (by decide) (by decide) ha ht (Ne.symm nta)
  obtain ⟨bb1, bb2, bb3⟩ := wS.apart (by decide) (by decide) hb ht (Ne.symm ntb)
  obtain ⟨n, hnp, a1, a2, a3, a4⟩ := hx.nat hp
  obtain ⟨m, hmq, b1, b2, b3, b4⟩ := hy.nat hq
  obtain ⟨t1, t2, t3⟩ := ht
  obtain ⟨u1, u2, u3⟩ := ha
  obtain ⟨v1, v2, v3⟩ := hb
  have dig : ∀ {D' : Dat}, (∀ c i, c ≠ t → c ≠ t + 1 → D' c i = D c i) → D' a 1 = n ∧ D' b 1 = m ∧ D' a 2 = Int.sign x ∧ D' b 2 = Int.sign y ∧ D' (a + 1) = D (a + 1) ∧ D' (b + 1) = D (b + 1) := fun hk =>
    ⟨by rw [hk a 1 (Ne.symm nta) aa1, a1], by rw [hk b 1 (Ne.symm ntb) bb1, b1], by rw [hk a 2 (Ne.symm nta) aa1, a3], by rw [hk b 2 (Ne.symm ntb) bb1, b3], funext fun i => hk _ i aa2 aa3, funext fun i => hk _ i bb2 bb3⟩
  -- the rows
  have rows : ∀ (M i : Nat) (D' : Dat), i + M = n → (∀ c i, c ≠ t + 1 → D' c i = D c i) → dok (D' (t + 1)) (n + m) → (∀ j : Int, (i + m : Nat) ≤ j → j < (n + m : Nat) → D' (t + 1) j = 0) → dv (D' (t + 1)) (n + m) = dv (D (a + 1)) i * dv (D (b + 1)) m →
      Wp P_X2_times E 2 [none, some (aR t), some (aR a), some (aR b), some (aI ((n : Int) + m)), some (aI i)] [] B S D' := by
    intro M
    induction M with
    | zero =>
      intro i D' hi hk hd hz hv
      have hin : i = n := by omega
      subst hin
      obtain ⟨e1, e2, e3, e4, e5, e6⟩ := dig (fun c i h1 h2 => hk c i h2)
      refine wp_in ?_
      simp only [P_X2_times, i_kil, i_icon, i_lcon, i_null, i_loadI, i_loadL, i_loadR, i_istore, i_lstore, i_astore, i_iinc, i_dup, i_dup2, i_pop, i_iadd, i_isub, i_imul, i_idiv, i_irem, i_ineg, i_iand, i_ior, i_ishl, i_ishr, i_lxor, i_ladd, i_lsub, i_lmul, i_ldiv, i_lrem, i_lneg, i_lshl, i_lcmp, i_i2l, i_l2i, i_i2b, i_i2s, i_ifeq, i_ifne, i_iflt, i_ifge, i_ifgt, i_ifle, i_cmpeq, i_cmpne, i_cmplt, i_cmpge, i_cmpgt, i_cmple, i_acmpeq, i_acmpne, i_ifnull, i_ifnonnull, i_getI, i_getR, i_putI, i_putZ, i_putR, i_ald, i_ldL, i_ldR, i_ast, i_stL, i_stR, i_alen, i_new, i_newa, i_iret, i_zret, i_lret, i_aret, i_vret, i_raise, i_throw, i_recv, i_objinit, i_tsw3, lget, lset, lput1, lput2, lkil, ltrim, largs, isL, takev, dropv, nthv, pushO, catv, gd, true_and, and_true, Option.some.injEq, Prod.mk.injEq, exists_eq_left', if_true, if_false, reduceCtorEq, Bool.false_eq_true, lcmp_ge, lcmp_lt, lcmp_le, lcmp_gt, lcmp_eq, true_or, or_true, not_true_eq_false, not_false_eq_true, false_implies, true_implies, List.length_cons, List.length_nil, t1, t2, t3, u1, u2, u3, v1, v2, v3, e1]
      refine ⟨fun _ => ?_, fun h => by omega⟩
      have hs2 : -1 ≤ Int.sign x * Int.sign y ∧ Int.sign x * Int.sign y ≤ 1 := by
        rcases sgn_cases x with g | g | g <;> rcases sgn_cases y with g' | g' | g' <;> rw [g.1, g'.1] <;> decide
      have e7 : pmu D' t 1 ((i : Int) + m) a 2 = Int.sign x := by simp [pmu, Ne.symm nta, e3]
      have e8 : pmu D' t 1 ((i : Int) + m) b 2 = Int.sign y := by simp [pmu, Ne.symm ntb, e4]
      simp only [e7, e8]
      refine ⟨in_small (by omega) (by omega), ⟨t, rfl, t1⟩, call0 (gd_of rfl) ?_⟩
      have e9 : pmu (pmu D' t 1 ((i : Int) + m)) t 2 (Int.sign x * Int.sign y) (t + 1) = D' (t + 1) := by funext j; simp [pmu]
      refine sp_X3_trim ht0 (i + m) _ (by simp [pmu]) (by omega) h0 (by rw [e9]; exact hd) ?_
      rw [e9]
      intro D'' q' f1 f2 f3 f4 f5 f6
      refine k D'' (fun c j c1 c2 => by rw [f1 c j c1]; simp [pmu, c1, hk c j c2]) ?_
      have e10 : D'' (t + 1) = D' (t + 1) := by funext j; rw [f1 _ j (by omega), e9]
      have hval : dv (D'' (t + 1)) q' = x.natAbs * y.natAbs := by rw [e10, f5, hv, a4, b4]
      have h := wD.mk (kn := 1) (ks := 2) (s := if q' = 0 then 0 else Int.sign x * Int.sign y) f3 (by rw [e10]; exact f4) (by rw [f6]; simp [pmu]) (by
        by_cases hq0 : q' = 0
        · left; simp [hq0]
        · right; simp only [hq0, if_false]
          refine ⟨by omega, ?_⟩
          have hne : (x.natAbs : Int) * y.natAbs ≠ 0 := fun h => hq0 (f4.zero (by rw [← e10, hval, h]))
          rcases sgn_cases x with g | g | g <;> rcases sgn_cases y with g' | g' | g' <;> rw [g.1, g'.1] <;> first | decide | (exfalso; apply hne; rw [g.2]; simp) | (exfalso; apply hne; rw [g'.2]; simp))
      have hxy : x * y = Int.sign x * Int.sign y * (x.natAbs * y.natAbs) := by
        have h1 := sgn_mul_abs x
        have h2 := sgn_mul_abs y
        generalize Int.sign x = s1 at *
        generalize Int.sign y = s2 at *
        generalize (x.natAbs : Int) = z1 at *
        generalize (y.natAbs : Int) = z2 at *
        subst h1; subst h2; grind
      rw [hxy, ← hval]
      by_cases hq0 : q' = 0
      · subst hq0; simpa [dv] using h
      · simpa [hq0] using h
    | succ M ih =>
      intro i D' hi hk hd hz hv
      obtain ⟨e1, e2, e3, e4, e5, e6⟩ := dig (fun c i h1 h2 => hk c i h2)
      have cx := a2.1 i (by omega) (by omega)
      -- one row
      have row : ∀ (N j : Nat) (ov : Int) (D' : Dat), j + N = m → (0 ≤ ov ∧ ov < 1000000000) → (∀ c i, c ≠ t + 1 → D' c i = D c i) → dok (D' (t + 1)) (n + m) → (∀ l : Int, (i + m : Nat) ≤ l → l < (n + m : Nat) → D' (t + 1) l = 0) → dv (D' (t + 1)) (n + m) + ov * 1000000000 ^ (i + j) = dv (D (a + 1)) i * dv (D (b + 1)) m + D (a + 1) i * 1000000000 ^ i * dv (D (b + 1)) j →
          Wp P_X2_times E 3 [none, some (aR t), some (aR a), some (aR b), some (aI ((n : Int) + m)), some (aI i), some (aL ov), none, some (aL (D (a + 1) i)), none, some (aI j)] [] B S D' := by
        intro N
        induction N with
        | zero =>
          intro j ov D' hj hov hk hd hz hv
          have hjm : j = m := by omega
          subst hjm
          obtain ⟨e1, e2, e3, e4, e5, e6⟩ := dig (fun c i h1 h2 => hk c i h2)
          refine wp_in ?_
          simp only [P_X2_times, i_kil, i_icon, i_lcon, i_null, i_loadI, i_loadL, i_loadR, i_istore, i_lstore, i_astore, i_iinc, i_dup, i_dup2, i_pop, i_iadd, i_isub, i_imul, i_idiv, i_irem, i_ineg, i_iand, i_ior, i_ishl, i_ishr, i_lxor, i_ladd, i_lsub, i_lmul, i_ldiv, i_lrem, i_lneg, i_lshl, i_lcmp, i_i2l, i_l2i, i_i2b, i_i2s, i_ifeq, i_ifne, i_iflt, i_ifge, i_ifgt, i_ifle, i_cmpeq, i_cmpne, i_cmplt, i_cmpge, i_cmpgt, i_cmple, i_acmpeq, i_acmpne, i_ifnull, i_ifnonnull, i_getI, i_getR, i_putI, i_putZ, i_putR, i_ald, i_ldL, i_ldR, i_ast, i_stL, i_stR, i_alen, i_new, i_newa, i_iret, i_zret, i_lret, i_aret, i_vret, i_raise, i_throw, i_recv, i_objinit, i_tsw3, lget, lset, lput1, lput2, lkil, ltrim, largs, isL, takev, dropv, nthv, pushO, catv, gd, true_and, and_true, Option.some.injEq, Prod.mk.injEq, exists_eq_left', if_true, if_false, reduceCtorEq, Bool.false_eq_true, lcmp_ge, lcmp_lt, lcmp_le, lcmp_gt, lcmp_eq, true_or, or_true, not_true_eq_false, not_false_eq_true, false_implies, true_implies, List.length_cons, List.length_nil, t1, t2, t3, u1, u2, u3, v1, v2, v3, e2]
          refine ⟨fun _ => ⟨in_small (by omega) (by omega), by unfold inI; omega, by omega, by omega, by simp [okT], in_small (by omega) (by omega), ?_⟩, fun h => by omega⟩
          have ez : ∀ l, pmu D' (t + 1) ((i : Int) + j) ov (t + 1) l = if l = ((i + j : Nat) : Int) then ov else D' (t + 1) l := fun l => by simp [pmu]
          refine ih (i + 1) _ (by omega) (fun c l h1 => by simp [pmu, h1, hk c l h1]) (fun l h1 h2 => ?_) (fun l h1 h2 => ?_) ?_
          · rw [ez]; split
            · exact hov
            · exact hd l h1 h2
          · rw [ez, if_neg (by omega)]; exact hz l (by omega) h2
          · rw [dv_set (f := D' (t + 1)) (k := i + j) (by omega) (fun l hl => by rw [ez, if_neg hl]), ez, if_pos rfl, hz _ (by omega) (by omega)]
            simp only [dv]
            rw [Int.sub_zero, hv]
            grind
        | succ N ihN =>
          intro j ov D' hj hov hk hd hz hv
          obtain ⟨e1, e2, e3, e4, e5, e6⟩ := dig (fun c i h1 h2 => hk c i h2)
          have cy := b2.1 j (by omega) (by omega)
          have cz := hd ((i : Int) + j) (by omega) (by omega)
          have hst := mul_step cx cy cz hov
          have hxy0 : 0 ≤ D (a + 1) i * D (b + 1) j := Int.mul_nonneg cx.1 cy.1
          refine wp_in ?_
          simp only [P_X2_times, i_kil, i_icon, i_lcon, i_null, i_loadI, i_loadL, i_loadR, i_istore, i_lstore, i_astore, i_iinc, i_dup, i_dup2, i_pop, i_iadd, i_isub, i_imul, i_idiv, i_irem, i_ineg, i_iand, i_ior, i_ishl, i_ishr, i_lxor, i_ladd, i_lsub, i_lmul, i_ldiv, i_lrem, i_lneg, i_lshl, i_lcmp, i_i2l, i_l2i, i_i2b, i_i2s, i_ifeq, i_ifne, i_iflt, i_ifge, i_ifgt, i_ifle, i_cmpeq, i_cmpne, i_cmplt, i_cmpge, i_cmpgt, i_cmple, i_acmpeq, i_acmpne, i_ifnull, i_ifnonnull, i_getI, i_getR, i_putI, i_putZ, i_putR, i_ald, i_ldL, i_ldR, i_ast, i_stL, i_stR, i_alen, i_new, i_newa, i_iret, i_zret, i_lret, i_aret, i_vret, i_raise, i_throw, i_recv, i_objinit, i_tsw3, lget, lset, lput1, lput2, lkil, ltrim, largs, isL, takev, dropv, nthv, pushO, catv, gd, true_and, and_true, Option.some.injEq, Prod.mk.injEq, exists_eq_left', if_true, if_false, reduceCtorEq, Bool.false_eq_true, lcmp_ge, lcmp_lt, lcmp_le, lcmp_gt, lcmp_eq, true_or, or_true, not_true_eq_false, not_false_eq_true, false_implies, true_implies, List.length_cons, List.length_nil, t1, t2, t3, u1, u2, u3, v1, v2, v3, e2, e6]
          rw [tdiv_nn hst.1]
          generalize hx2 : D (a + 1) i * D (b + 1) j = xy at *
          refine ⟨fun h => by omega, fun _ => ⟨by omega, by omega, by unfold inL; omega, in_small (by omega) (by omega), by omega, by omega, by unfold inL; omega, by unfold inL; omega, by decide, by unfold inL; omega, in_small (by omega) (by omega), by unfold inL; omega, by unfold inL; omega, by unfold inI; omega, by omega, by omega, by simp [okT], in_small (by omega) (by omega), ?_⟩⟩
          generalize hq : (xy + D' (t + 1) ((i : Int) + j) + ov) / 1000000000 = o2 at *
          have ez : ∀ l, pmu D' (t + 1) ((i : Int) + j) (xy + D' (t + 1) ((i : Int) + j) + ov - o2 * 1000000000) (t + 1) l = if l = ((i + j : Nat) : Int) then (xy + D' (t + 1) ((i : Int) + j) + ov - o2 * 1000000000) else D' (t + 1) l := fun l => by simp [pmu]
          refine ihN (j + 1) o2 _ (by omega) ⟨hst.2.2.1, hst.2.2.2⟩ (fun c l h1 => by simp [pmu, h1, hk c l h1]) (fun l h1 h2 => ?_) (fun l h1 h2 => ?_) ?_
          · rw [ez]; split
            · omega
            · exact hd l h1 h2
          · rw [ez, if_neg (by omega)]; exact hz l h1 h2
          · rw [dv_set (f := D' (t + 1)) (k := i + j) (by omega) (fun l hl => by rw [ez, if_neg hl]), ez, if_pos rfl]
            simp only [dv]
            rw [show i + (j + 1) = i + j + 1 by omega, pw_succ]
            have e11 : (1000000000 : Int) ^ (i + j) = 1000000000 ^ i * 1000000000 ^ j := pw_add i j
            rw [show ((i + j : Nat) : Int) = (i : Int) + j by omega]
            have e12 : D (a + 1) i * 1000000000 ^ i * (dv (D (b + 1)) j + D (b + 1) j * 1000000000 ^ j) = D (a + 1) i * 1000000000 ^ i * dv (D (b + 1)) j + xy * 1000000000 ^ (i + j) := by rw [← hx2, e11]; grind
            rw [e12]
            grind
      refine wp_in ?_
      simp only [P_X2_times, i_kil, i_icon, i_lcon, i_null, i_loadI, i_loadL, i_loadR, i_istore, i_lstore, i_astore, i_iinc, i_dup, i_dup2, i_pop, i_iadd, i_isub, i_imul, i_idiv, i_irem, i_ineg, i_iand, i_ior, i_ishl, i_ishr, i_lxor, i_ladd, i_lsub, i_lmul, i_ldiv, i_lrem, i_lneg, i_lshl, i_lcmp, i_i2l, i_l2i, i_i2b, i_i2s, i_ifeq, i_ifne, i_iflt, i_ifge, i_ifgt, i_ifle, i_cmpeq, i_cmpne, i_cmplt, i_cmpge, i_cmpgt, i_cmple, i_acmpeq, i_acmpne, i_ifnull, i_ifnonnull, i_getI, i_getR, i_putI, i_putZ, i_putR, i_ald, i_ldL, i_ldR, i_ast, i_stL, i_stR, i_alen, i_new, i_newa, i_iret, i_zret, i_lret, i_aret, i_vret, i_raise, i_throw, i_recv, i_objinit, i_tsw3, lget, lset, lput1, lput2, lkil, ltrim, largs, isL, takev, dropv, nthv, pushO, catv, gd, true_and, and_true, Option.some.injEq, Prod.mk.injEq, exists_eq_left', if_true, if_false, reduceCtorEq, Bool.false_eq_true, lcmp_ge, lcmp_lt, lcmp_le, lcmp_gt, lcmp_eq, true_or, or_true, not_true_eq_false, not_false_eq_true, false_implies, true_implies, List.length_cons, List.length_nil, t1, t2, t3, u1, u2, u3, v1, v2, v3, e1, e5]
      refine ⟨fun h => by omega, fun _ => ⟨by omega, by omega, ?_⟩⟩
      refine row m 0 0 D' (by omega) (by omega) hk hd hz ?_
      simp [dv, hv]
  -- all noughts first
  have zeros : ∀ (N j : Nat) (D' : Dat), j + N = n + m → (∀ c i, c ≠ t + 1 → D' c i = D c i) → (∀ l : Int, 0 ≤ l → l < j → D' (t + 1) l = 0) → Wp P_X2_times E 1 [none, some (aR t), some (aR a), some (aR b), some (aI ((n : Int) + m)), some (aI j)] [] B S D' := by
    intro N
    induction N with
    | zero =>
      intro j D' hj hk hz
      refine wp_in ?_
      simp only [P_X2_times, i_kil, i_icon, i_lcon, i_null, i_loadI, i_loadL, i_loadR, i_istore, i_lstore, i_astore, i_iinc, i_dup, i_dup2, i_pop, i_iadd, i_isub, i_imul, i_idiv, i_irem, i_ineg, i_iand, i_ior, i_ishl, i_ishr, i_lxor, i_ladd, i_lsub, i_lmul, i_ldiv, i_lrem, i_lneg, i_lshl, i_lcmp, i_i2l, i_l2i, i_i2b, i_i2s, i_ifeq, i_ifne, i_iflt, i_ifge, i_ifgt, i_ifle, i_cmpeq, i_cmpne, i_cmplt, i_cmpge, i_cmpgt, i_cmple, i_acmpeq, i_acmpne, i_ifnull, i_ifnonnull, i_getI, i_getR, i_putI, i_putZ, i_putR, i_ald, i_ldL, i_ldR, i_ast, i_stL, i_stR, i_alen, i_new, i_newa, i_iret, i_zret, i_lret, i_aret, i_vret, i_raise, i_throw, i_recv, i_objinit, i_tsw3, lget, lset, lput1, lput2, lkil, ltrim, largs, isL, takev, dropv, nthv, pushO, catv, gd, true_and, and_true, Option.some.injEq, Prod.mk.injEq, exists_eq_left', if_true, if_false, reduceCtorEq, Bool.false_eq_true, lcmp_ge, lcmp_lt, lcmp_le, lcmp_gt, lcmp_eq, true_or, or_true, not_true_eq_false, not_false_eq_true, false_implies, true_implies, List.length_cons, List.length_nil, t1, t2, t3]
      refine ⟨fun _ => ?_, fun h => by omega⟩
      refine rows n 0 D' (by omega) hk (fun l h1 h2 => by rw [hz l h1 (by omega)]; omega) (fun l h1 h2 => hz l (by omega) (by omega)) ?_
      rw [dv_zero fun l h1 h2 => hz l h1 (by omega)]
      simp [dv]
    | succ N ih =>
      intro j D' hj hk hz
      refine wp_in ?_
      simp only [P_X2_times, i_kil, i_icon, i_lcon, i_null, i_loadI, i_loadL, i_loadR, i_istore, i_lstore, i_astore, i_iinc, i_dup, i_dup2, i_pop, i_iadd, i_isub, i_imul, i_idiv, i_irem, i_ineg, i_iand, i_ior, i_ishl, i_ishr, i_lxor, i_ladd, i_lsub, i_lmul, i_ldiv, i_lrem, i_lneg, i_lshl, i_lcmp, i_i2l, i_l2i, i_i2b, i_i2s, i_ifeq, i_ifne, i_iflt, i_ifge, i_ifgt, i_ifle, i_cmpeq, i_cmpne, i_cmplt, i_cmpge, i_cmpgt, i_cmple, i_acmpeq, i_acmpne, i_ifnull, i_ifnonnull, i_getI, i_getR, i_putI, i_putZ, i_putR, i_ald, i_ldL, i_ldR, i_ast, i_stL, i_stR, i_alen, i_new, i_newa, i_iret, i_zret, i_lret, i_aret, i_vret, i_raise, i_throw, i_recv, i_objinit, i_tsw3, lget, lset, lput1, lput2, lkil, ltrim, largs, isL, takev, dropv, nthv, pushO, catv, gd, true_and, and_true, Option.some.injEq, Prod.mk.injEq, exists_eq_left', if_true, if_false, reduceCtorEq, Bool.false_eq_true, lcmp_ge, lcmp_lt, lcmp_le, lcmp_gt, lcmp_eq, true_or, or_true, not_true_eq_false, not_false_eq_true, false_implies, true_implies, List.length_cons, List.length_nil, t1, t2, t3]
      refine ⟨fun h => by omega, fun _ => ⟨by omega, by omega, by simp [okT], in_small (by omega) (by omega), ?_⟩⟩
      refine ih (j + 1) _ (by omega) (fun c l h1 => by simp [pmu, h1, hk c l h1]) (fun l h1 h2 => ?_)
      simp only [pmu, true_and]
      split
      · rfl
      · exact hz l h1 (by omega)
  refine wp_in ?_
  simp only [P_X2_times, i_kil, i_icon, i_lcon, i_null, i_loadI, i_loadL, i_loadR, i_istore, i_lstore, i_astore, i_iinc, i_dup, i_dup2, i_pop, i_iadd, i_isub, i_imul, i_idiv, i_irem, i_ineg, i_iand, i_ior, i_ishl, i_ishr, i_lxor, i_ladd, i_lsub, i_lmul, i_ldiv, i_lrem, i_lneg, i_lshl, i_lcmp, i_i2l, i_l2i, i_i2b, i_i2s, i_ifeq, i_ifne, i_iflt, i_ifge, i_ifgt, i_ifle, i_cmpeq, i_cmpne, i_cmplt, i_cmpge, i_cmpgt, i_cmple, i_acmpeq, i_acmpne, i_ifnull, i_ifnonnull, i_getI, i_getR, i_putI, i_putZ, i_putR, i_ald, i_ldL, i_ldR, i_ast, i_stL, i_stR, i_alen, i_new, i_newa, i_iret, i_zret, i_lret, i_aret, i_vret, i_raise, i_throw, i_recv, i_objinit, i_tsw3, lget, lset, lput1, lput2, lkil, ltrim, largs, isL, takev, dropv, nthv, pushO, catv, gd, true_and, and_true, Option.some.injEq, Prod.mk.injEq, exists_eq_left', if_true, if_false, reduceCtorEq, Bool.false_eq_true, lcmp_ge, lcmp_lt, lcmp_le, lcmp_gt, lcmp_eq, true_or, or_true, not_true_eq_false, not_false_eq_true, false_implies, true_implies, List.length_cons, List.length_nil, u1, v1, a1, b1]
  refine ⟨in_small (by omega) (by omega), ?_⟩
  exact zeros (n + m) 0 D (by omega) (fun _ _ _ => rfl) (fun l h1 h2 => by omega)
