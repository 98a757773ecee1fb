/-! the component's square: a row reduced, the first column -/
set_option maxRecDepth 100000
set_option linter.unusedVariables false
/-- numbers times the divisor, less the rows that they lead to -/
def redI (d : Int) (v : Nat → Int) (P : Nat → Nat) (cl : Nat → Nat → Int) : Nat → Nat → Int
  | 0, c => d * (if c < 35 then v c else 0)
  | r + 1, c => redI d v P cl r c - cl r c * v (P r)
theorem mul_lim {a b H K : Int} (ha : (a.natAbs : Int) < H) (hb : (b.natAbs : Int) ≤ K) : ((a * b).natAbs : Int) ≤ K * H := by
  rw [Int.natAbs_mul, Int.natCast_mul]
  have h1 : (a.natAbs : Int) * b.natAbs ≤ H * b.natAbs := Int.mul_le_mul_of_nonneg_right (by omega) (by omega)
  have h2 : H * (b.natAbs : Int) ≤ H * K := Int.mul_le_mul_of_nonneg_left hb (by omega)
  rw [Int.mul_comm K H]; omega
theorem redI_lim {d H : Int} {v : Nat → Int} {P : Nat → Nat} {cl : Nat → Nat → Int} (hd : (d.natAbs : Int) < H) (hv : ∀ c, c < 35 → ((v c).natAbs : Int) ≤ 999) (hP : ∀ r, r < 35 → P r < 35) {c : Nat} (hc : c < 70) (hcl : ∀ r, r < 35 → ((cl r c).natAbs : Int) < H) : ∀ k : Nat, k ≤ 35 → ((redI d v P cl k c).natAbs : Int) ≤ (k + 1) * (999 * H) := by
  intro k
  induction k with
  | zero =>
    intro _
    have h1 := mul_lim (b := if c < 35 then v c else 0) hd (K := 999) (by
      split
      · exact hv c (by assumption)
      · decide)
    simp only [redI]; omega
  | succ k ih =>
    intro hk
    have h1 := ih (by omega)
    have h2 := mul_lim (hcl k (by omega)) (hv (P k) (hP k (by omega)))
    simp only [redI]
    have e : ((k + 1 : Nat) : Int) + 1 = (k + 1) + 1 := by omega
    rw [e, Int.add_mul]
    generalize (k + 1 : Int) * (999 * H) = X at *
    generalize redI d v P cl k c = Y at *
    generalize cl k c * v (P k) = Z at *
    omega
theorem redI_b {d : Int} {v : Nat → Int} {P : Nat → Nat} {cl : Nat → Nat → Int} (hd : (d.natAbs : Int) < 1000000000 ^ 11) (hv : ∀ c, c < 35 → ((v c).natAbs : Int) ≤ 999) (hP : ∀ r, r < 35 → P r < 35) {c : Nat} (hc : c < 70) (hcl : ∀ r, r < 35 → ((cl r c).natAbs : Int) < 1000000000 ^ 11) {k : Nat} (hk : k ≤ 35) : ((redI d v P cl k c).natAbs : Int) < 1000000000 ^ 12 := by
  have h := redI_lim hd hv hP hc hcl k hk
  have h1 : (k + 1 : Int) * (999 * 1000000000 ^ 11) ≤ 36 * (999 * 1000000000 ^ 11) := Int.mul_le_mul_of_nonneg_right (by omega) (by decide)
  have h2 : (36 : Int) * (999 * 1000000000 ^ 11) < 1000000000 ^ 12 := by decide
  exact Int.lt_of_le_of_lt (Int.le_trans h h1) h2
/-- what a reduction may write -/
def rdW (q : Nat) (D D' : Dat) : Prop := ∀ a i, (a < q + 5 ∨ q + 10 < a) → a ≠ q + 18 → a ≠ q + 19 → (a < q + 20 ∨ q + 159 < a) → D' a i = D a i
theorem times_c {E : Ex} {B : Nat × Nat} {S : Stat} {D : Dat} {o t a b r ra rb p q : Nat} {x y : Int} (ht : wS 3 S t r) (ha : wS 3 S a ra) (hb : wS 3 S b rb) (nta : t ≠ a) (ntb : t ≠ b) (hx : wD 1 2 D a x) (hy : wD 1 2 D b y) (p : Nat) (q : Nat) (hp : (x.natAbs : Int) < 1000000000 ^ p) (hq : (y.natAbs : Int) < 1000000000 ^ q) (hpa : p ≤ ra) (hqb : q ≤ rb) (hpq : p + q ≤ r) (h0 : r < 1000) (h1 : ra < 1000) (h2 : rb < 1000) (k : ∀ D' : Dat, wO D D' t → wD 1 2 D' t (x * y) → E (.inl none) B S D') : Wp P_X2_times E 0 [some (aR o), some (aR t), some (aR a), some (aR b)] [] B S D := sp_X2_times ht ha hb nta ntb hx hy hp hq hpa hqb hpq h0 h1 h2 k
set_option maxHeartbeats 4000000 in
theorem sp_X7_reduce {E : Ex} {B : Nat × Nat} {S : Stat} {D : Dat} {q T o k wide : Nat} {d : Int} {v : Nat → Int} {P : Nat → Nat} {cl : Nat → Nat → Int} (hq : sqS S q T o) (ho : S.1 o = some (2, 0)) (hk : k ≤ 35) (hwd : wide ≤ 70) (hn : ∀ c : Nat, c < 35 → D (q + 17) c = v c) (hv : ∀ c, c < 35 → ((v c).natAbs : Int) ≤ 999) (hr : D q 15 = k) (hl : ∀ r : Nat, r < k → D (q + 13) r = P r) (hP : ∀ r, r < 35 → P r < 35) (hd : wD 1 2 D (q + 2) d) (hd2 : (d.natAbs : Int) < 1000000000 ^ 11) (hC : sqC D q cl)
    (K : ∀ D' : Dat, rdW q D D' → (∀ c : Nat, c < wide → wD 1 2 D' (q + 20 + 2 * c) (redI d v P cl k c)) → E (.inl none) B S D') : Wp P_X7_reduce E 0 [some (aR q), some (aI wide)] [] B S D := by
  have hq0 := hq
  obtain ⟨q1, q2, q3, q4, q5, q6, q7, q8, q9, q10, q11, q12, q13, q14, q15, q16, q17, q18, q19, q20, q21, q22, q23, q24, q25, q26, q27, q28, q29, q30, q31, q32⟩ := hq
  have x1 := q11.1
  have y1 := q13.1
  have z1 := q15.1
  have v1 := q31.1
  have p1 : (1000000000 : Int) ^ 1 = 1000000000 := by decide
  have hcl : ∀ c, c < 70 → ∀ r, r < 35 → ((cl r c).natAbs : Int) < 1000000000 ^ 11 := fun c hc r hr => (hC r c hr hc).lim
  have outer : ∀ (L c : Nat) (D1 : Dat), c + L = wide → rdW q D D1 → (∀ j : Nat, j < c → wD 1 2 D1 (q + 20 + 2 * j) (redI d v P cl k j)) → Wp P_X7_reduce E 1 [some (aR q), some (aI wide), some (aI c)] [] B S D1 := by
    intro L
    induction L with
    | zero =>
      intro c D1 hc h1 h2
      have : c = wide := by omega
      subst this
      refine wp_in ?_
      simp only [P_X7_reduce, i_kil, i_icon, i_lcon, i_null, i_loadI, i_loadL, i_loadR, i_istore, i_lstore, i_astore, i_iinc, i_dup, i_dup2, i_pop, i_iadd, i_isub, i_imul, i_idiv, i_irem, i_ineg, i_iand, i_ior, i_ishl, i_ishr, i_lxor, i_ladd, i_lsub, i_lmul, i_ldiv, i_lrem, i_lneg, i_lshl, i_lcmp, i_i2l, i_l2i, i_i2b, i_i2s, i_ifeq, i_ifne, i_iflt, i_ifge, i_ifgt, i_ifle, i_cmpeq, i_cmpne, i_cmplt, i_cmpge, i_cmpgt, i_cmple, i_acmpeq, i_acmpne, i_ifnull, i_ifnonnull, i_getI, i_getR, i_putI, i_putZ, i_putR, i_ald, i_ldL, i_ldR, i_ast, i_stL, i_stR, i_alen, i_new, i_newa, i_iret, i_zret, i_lret, i_aret, i_vret, i_raise, i_throw, i_recv, i_objinit, i_tsw3, lget, lset, lput1, lput2, lkil, ltrim, largs, isL, takev, dropv, nthv, pushO, catv, gd, true_and, and_true, Option.some.injEq, Prod.mk.injEq, exists_eq_left', if_true, if_false, reduceCtorEq, Bool.false_eq_true, lcmp_ge, lcmp_lt, lcmp_le, lcmp_gt, lcmp_eq, true_or, or_true, not_true_eq_false, not_false_eq_true, false_implies, true_implies, List.length_cons, List.length_nil]
      repeat (first | refine ⟨in_small (by omega) (by omega), ?_⟩ | (show (_ → _) ∧ (_ → _); first | refine ⟨by omega, fun _ => ?_⟩ | refine ⟨fun _ => ?_, by omega⟩) | refine ⟨by omega, ?_⟩ | refine ⟨⟨_, rfl, by assumption⟩, ?_⟩ | refine ⟨okT_I _, ?_⟩ | refine call0 (gd_of rfl) ?_)
      exact K D1 h1 h2
    | succ L ih =>
      intro c D1 hc h1 h2
      have hc70 : c < 70 := by omega
      obtain ⟨w1, w2⟩ := q32 c hc70
      have w21 := w2.1
      have hb := fun k hk => redI_b (k := k) hd2 hv hP hc70 (hcl c hc70) hk
      -- the rows
      have inner : ∀ (L2 r : Nat) (D2 : Dat), r + L2 = k → rdW q D D2 → (∀ j : Nat, j < c → wD 1 2 D2 (q + 20 + 2 * j) (redI d v P cl k j)) → wD 1 2 D2 (q + 7) (redI d v P cl r c) → Wp P_X7_reduce E 3 [some (aR q), some (aI wide), some (aI c), some (aI r)] [] B S D2 := by
        intro L2
        induction L2 with
        | zero =>
          intro r D2 hr2 g1 g2 g3
          have : r = k := by omega
          subst this
          have e1 : D2 q 15 = r := by rw [g1 _ _ (by omega) (by omega) (by omega) (by omega)]; exact hr
          have hb1 := hb r hk
          refine wp_in ?_
          simp only [P_X7_reduce, i_kil, i_icon, i_lcon, i_null, i_loadI, i_loadL, i_loadR, i_istore, i_lstore, i_astore, i_iinc, i_dup, i_dup2, i_pop, i_iadd, i_isub, i_imul, i_idiv, i_irem, i_ineg, i_iand, i_ior, i_ishl, i_ishr, i_lxor, i_ladd, i_lsub, i_lmul, i_ldiv, i_lrem, i_lneg, i_lshl, i_lcmp, i_i2l, i_l2i, i_i2b, i_i2s, i_ifeq, i_ifne, i_iflt, i_ifge, i_ifgt, i_ifle, i_cmpeq, i_cmpne, i_cmplt, i_cmpge, i_cmpgt, i_cmple, i_acmpeq, i_acmpne, i_ifnull, i_ifnonnull, i_getI, i_getR, i_putI, i_putZ, i_putR, i_ald, i_ldL, i_ldR, i_ast, i_stL, i_stR, i_alen, i_new, i_newa, i_iret, i_zret, i_lret, i_aret, i_vret, i_raise, i_throw, i_recv, i_objinit, i_tsw3, lget, lset, lput1, lput2, lkil, ltrim, largs, isL, takev, dropv, nthv, pushO, catv, gd, true_and, and_true, Option.some.injEq, Prod.mk.injEq, exists_eq_left', if_true, if_false, reduceCtorEq, Bool.false_eq_true, lcmp_ge, lcmp_lt, lcmp_le, lcmp_gt, lcmp_eq, true_or, or_true, not_true_eq_false, not_false_eq_true, false_implies, true_implies, List.length_cons, List.length_nil, q1, q8, q9, q12, w1, e1]
          repeat (first | refine ⟨in_small (by omega) (by omega), ?_⟩ | (show (_ → _) ∧ (_ → _); first | refine ⟨by omega, fun _ => ?_⟩ | refine ⟨fun _ => ?_, by omega⟩) | refine ⟨by omega, ?_⟩ | refine ⟨⟨_, rfl, by assumption⟩, ?_⟩ | refine ⟨okT_I _, ?_⟩ | refine call0 (gd_of rfl) ?_)
          refine sp_X3_be w2 q13 (by omega) g3 (Int.lt_of_lt_of_le hb1 (pw_mono (by omega))) (Int.lt_of_lt_of_le hb1 (pw_mono (by omega))) (by omega) fun D3 f1 f2 => ?_
          simp only [P_X7_reduce, i_kil, i_icon, i_lcon, i_null, i_loadI, i_loadL, i_loadR, i_istore, i_lstore, i_astore, i_iinc, i_dup, i_dup2, i_pop, i_iadd, i_isub, i_imul, i_idiv, i_irem, i_ineg, i_iand, i_ior, i_ishl, i_ishr, i_lxor, i_ladd, i_lsub, i_lmul, i_ldiv, i_lrem, i_lneg, i_lshl, i_lcmp, i_i2l, i_l2i, i_i2b, i_i2s, i_ifeq, i_ifne, i_iflt, i_ifge, i_ifgt, i_ifle, i_cmpeq, i_cmpne, i_cmplt, i_cmpge, i_cmpgt, i_cmple, i_acmpeq, i_acmpne, i_ifnull, i_ifnonnull, i_getI, i_getR, i_putI, i_putZ, i_putR, i_ald, i_ldL, i_ldR, i_ast, i_stL, i_stR, i_alen, i_new, i_newa, i_iret, i_zret, i_lret, i_aret, i_vret, i_raise, i_throw, i_recv, i_objinit, i_tsw3, lget, lset, lput1, lput2, lkil, ltrim, largs, isL, takev, dropv, nthv, pushO, catv, gd, true_and, and_true, Option.some.injEq, Prod.mk.injEq, exists_eq_left', if_true, if_false, reduceCtorEq, Bool.false_eq_true, lcmp_ge, lcmp_lt, lcmp_le, lcmp_gt, lcmp_eq, true_or, or_true, not_true_eq_false, not_false_eq_true, false_implies, true_implies, List.length_cons, List.length_nil]
          repeat (first | refine ⟨in_small (by omega) (by omega), ?_⟩ | (show (_ → _) ∧ (_ → _); first | refine ⟨by omega, fun _ => ?_⟩ | refine ⟨fun _ => ?_, by omega⟩) | refine ⟨by omega, ?_⟩ | refine ⟨⟨_, rfl, by assumption⟩, ?_⟩ | refine ⟨okT_I _, ?_⟩ | refine call0 (gd_of rfl) ?_)
          refine ih (c + 1) D3 (by omega) (fun a i a1 a2 a3 a4 => by rw [f1 a i (by omega) (by omega)]; exact g1 a i a1 a2 a3 a4) fun j hj => ?_
          by_cases w : j = c
          · rw [w]; exact f2
          · exact (g2 j (by omega)).congr (fun i => f1 _ _ (by omega) (by omega)) (fun i => f1 _ _ (by omega) (by omega))
        | succ L2 ih2 =>
          intro r D2 hr2 g1 g2 g3
          have e1 : D2 q 15 = k := by rw [g1 _ _ (by omega) (by omega) (by omega) (by omega)]; exact hr
          have e2 : D2 (q + 13) r = P r := by rw [g1 _ _ (by omega) (by omega) (by omega) (by omega)]; exact hl r (by omega)
          have hPr := hP r (by omega)
          have e3 : D2 (q + 17) (P r : Nat) = v (P r) := by rw [g1 _ _ (by omega) (by omega) (by omega) (by omega)]; exact hn _ hPr
          have hvr := hv (P r) hPr
          have next : ∀ D3 : Dat, rdW q D D3 → (∀ j : Nat, j < c → wD 1 2 D3 (q + 20 + 2 * j) (redI d v P cl k j)) → wD 1 2 D3 (q + 7) (redI d v P cl (r + 1) c) → Wp P_X7_reduce E 4 [some (aR q), some (aI wide), some (aI c), some (aI r)] [] B S D3 := fun D3 a1 a2 a3 => by
            refine wp_in ?_
            simp only [P_X7_reduce, i_kil, i_icon, i_lcon, i_null, i_loadI, i_loadL, i_loadR, i_istore, i_lstore, i_astore, i_iinc, i_dup, i_dup2, i_pop, i_iadd, i_isub, i_imul, i_idiv, i_irem, i_ineg, i_iand, i_ior, i_ishl, i_ishr, i_lxor, i_ladd, i_lsub, i_lmul, i_ldiv, i_lrem, i_lneg, i_lshl, i_lcmp, i_i2l, i_l2i, i_i2b, i_i2s, i_ifeq, i_ifne, i_iflt, i_ifge, i_ifgt, i_ifle, i_cmpeq, i_cmpne, i_cmplt, i_cmpge, i_cmpgt, i_cmple, i_acmpeq, i_acmpne, i_ifnull, i_ifnonnull, i_getI, i_getR, i_putI, i_putZ, i_putR, i_ald, i_ldL, i_ldR, i_ast, i_stL, i_stR, i_alen, i_new, i_newa, i_iret, i_zret, i_lret, i_aret, i_vret, i_raise, i_throw, i_recv, i_objinit, i_tsw3, lget, lset, lput1, lput2, lkil, ltrim, largs, isL, takev, dropv, nthv, pushO, catv, gd, true_and, and_true, Option.some.injEq, Prod.mk.injEq, exists_eq_left', if_true, if_false, reduceCtorEq, Bool.false_eq_true, lcmp_ge, lcmp_lt, lcmp_le, lcmp_gt, lcmp_eq, true_or, or_true, not_true_eq_false, not_false_eq_true, false_implies, true_implies, List.length_cons, List.length_nil]
            repeat (first | refine ⟨in_small (by omega) (by omega), ?_⟩ | (show (_ → _) ∧ (_ → _); first | refine ⟨by omega, fun _ => ?_⟩ | refine ⟨fun _ => ?_, by omega⟩) | refine ⟨by omega, ?_⟩ | refine ⟨⟨_, rfl, by assumption⟩, ?_⟩ | refine ⟨okT_I _, ?_⟩ | refine call0 (gd_of rfl) ?_)
            exact ih2 (r + 1) D3 (by omega) a1 a2 a3
          refine wp_in ?_
          simp only [P_X7_reduce, i_kil, i_icon, i_lcon, i_null, i_loadI, i_loadL, i_loadR, i_istore, i_lstore, i_astore, i_iinc, i_dup, i_dup2, i_pop, i_iadd, i_isub, i_imul, i_idiv, i_irem, i_ineg, i_iand, i_ior, i_ishl, i_ishr, i_lxor, i_ladd, i_lsub, i_lmul, i_ldiv, i_lrem, i_lneg, i_lshl, i_lcmp, i_i2l, i_l2i, i_i2b, i_i2s, i_ifeq, i_ifne, i_iflt, i_ifge, i_ifgt, i_ifle, i_cmpeq, i_cmpne, i_cmplt, i_cmpge, i_cmpgt, i_cmple, i_acmpeq, i_acmpne, i_ifnull, i_ifnonnull, i_getI, i_getR, i_putI, i_putZ, i_putR, i_ald, i_ldL, i_ldR, i_ast, i_stL, i_stR, i_alen, i_new, i_newa, i_iret, i_zret, i_lret, i_aret, i_vret, i_raise, i_throw, i_recv, i_objinit, i_tsw3, lget, lset, lput1, lput2, lkil, ltrim, largs, isL, takev, dropv, nthv, pushO, catv, gd, true_and, and_true, Option.some.injEq, Prod.mk.injEq, exists_eq_left', if_true, if_false, reduceCtorEq, Bool.false_eq_true, lcmp_ge, lcmp_lt, lcmp_le, lcmp_gt, lcmp_eq, true_or, or_true, not_true_eq_false, not_false_eq_true, false_implies, true_implies, List.length_cons, List.length_nil, q1, q20, q21, q28, q29, e1, e2, e3]
          repeat (first | refine ⟨in_small (by omega) (by omega), ?_⟩ | (show (_ → _) ∧ (_ → _); first | refine ⟨by omega, fun _ => ?_⟩ | refine ⟨fun _ => ?_, by omega⟩) | refine ⟨by omega, ?_⟩ | refine ⟨⟨_, rfl, by assumption⟩, ?_⟩ | refine ⟨okT_I _, ?_⟩ | refine call0 (gd_of rfl) ?_)
          refine ⟨fun h => ?_, fun h => ?_⟩
          · simp only [P_X7_reduce, i_kil, i_icon, i_lcon, i_null, i_loadI, i_loadL, i_loadR, i_istore, i_lstore, i_astore, i_iinc, i_dup, i_dup2, i_pop, i_iadd, i_isub, i_imul, i_idiv, i_irem, i_ineg, i_iand, i_ior, i_ishl, i_ishr, i_lxor, i_ladd, i_lsub, i_lmul, i_ldiv, i_lrem, i_lneg, i_lshl, i_lcmp, i_i2l, i_l2i, i_i2b, i_i2s, i_ifeq, i_ifne, i_iflt, i_ifge, i_ifgt, i_ifle, i_cmpeq, i_cmpne, i_cmplt, i_cmpge, i_cmpgt, i_cmple, i_acmpeq, i_acmpne, i_ifnull, i_ifnonnull, i_getI, i_getR, i_putI, i_putZ, i_putR, i_ald, i_ldL, i_ldR, i_ast, i_stL, i_stR, i_alen, i_new, i_newa, i_iret, i_zret, i_lret, i_aret, i_vret, i_raise, i_throw, i_recv, i_objinit, i_tsw3, lget, lset, lput1, lput2, lkil, ltrim, largs, isL, takev, dropv, nthv, pushO, catv, gd, true_and, and_true, Option.some.injEq, Prod.mk.injEq, exists_eq_left', if_true, if_false, reduceCtorEq, Bool.false_eq_true, lcmp_ge, lcmp_lt, lcmp_le, lcmp_gt, lcmp_eq, true_or, or_true, not_true_eq_false, not_false_eq_true, false_implies, true_implies, List.length_cons, List.length_nil, q10]
            repeat (first | refine ⟨in_small (by omega) (by omega), ?_⟩ | (show (_ → _) ∧ (_ → _); first | refine ⟨by omega, fun _ => ?_⟩ | refine ⟨fun _ => ?_, by omega⟩) | refine ⟨by omega, ?_⟩ | refine ⟨⟨_, rfl, by assumption⟩, ?_⟩ | refine ⟨okT_I _, ?_⟩ | refine call0 (gd_of rfl) ?_)
            have hC2 : csl (D2 (q + 1)) (12 * (70 * (r : Int) + c)) (cl r c) := (hC r c (by omega) hc70).congr fun i _ _ => g1 _ _ (by omega) (by omega) (by omega) (by omega)
            refine sp_X7_load hq0 q11 (by omega) hC2 (by omega) hc70 (by omega) (by omega) rfl rfl fun D3 f1 f2 => ?_
            have e23 : D3 (q + 13) r = P r := by rw [f1 _ _ (by omega) (by omega)]; exact e2
            have e33 : D3 (q + 17) (P r : Nat) = v (P r) := by rw [f1 _ _ (by omega) (by omega)]; exact e3
            simp only [P_X7_reduce, i_kil, i_icon, i_lcon, i_null, i_loadI, i_loadL, i_loadR, i_istore, i_lstore, i_astore, i_iinc, i_dup, i_dup2, i_pop, i_iadd, i_isub, i_imul, i_idiv, i_irem, i_ineg, i_iand, i_ior, i_ishl, i_ishr, i_lxor, i_ladd, i_lsub, i_lmul, i_ldiv, i_lrem, i_lneg, i_lshl, i_lcmp, i_i2l, i_l2i, i_i2b, i_i2s, i_ifeq, i_ifne, i_iflt, i_ifge, i_ifgt, i_ifle, i_cmpeq, i_cmpne, i_cmplt, i_cmpge, i_cmpgt, i_cmple, i_acmpeq, i_acmpne, i_ifnull, i_ifnonnull, i_getI, i_getR, i_putI, i_putZ, i_putR, i_ald, i_ldL, i_ldR, i_ast, i_stL, i_stR, i_alen, i_new, i_newa, i_iret, i_zret, i_lret, i_aret, i_vret, i_raise, i_throw, i_recv, i_objinit, i_tsw3, lget, lset, lput1, lput2, lkil, ltrim, largs, isL, takev, dropv, nthv, pushO, catv, gd, true_and, and_true, Option.some.injEq, Prod.mk.injEq, exists_eq_left', if_true, if_false, reduceCtorEq, Bool.false_eq_true, lcmp_ge, lcmp_lt, lcmp_le, lcmp_gt, lcmp_eq, true_or, or_true, not_true_eq_false, not_false_eq_true, false_implies, true_implies, List.length_cons, List.length_nil, q1, q14, q20, q21, q28, q29, e23, e33]
            repeat (first | refine ⟨in_small (by omega) (by omega), ?_⟩ | (show (_ → _) ∧ (_ → _); first | refine ⟨by omega, fun _ => ?_⟩ | refine ⟨fun _ => ?_, by omega⟩) | refine ⟨by omega, ?_⟩ | refine ⟨⟨_, rfl, by assumption⟩, ?_⟩ | refine ⟨okT_I _, ?_⟩ | refine call0 (gd_of rfl) ?_)
            refine sp_X3_set q15 (by omega) (by omega) (by omega) fun D4 f3 f4 => ?_
            simp only [P_X7_reduce, i_kil, i_icon, i_lcon, i_null, i_loadI, i_loadL, i_loadR, i_istore, i_lstore, i_astore, i_iinc, i_dup, i_dup2, i_pop, i_iadd, i_isub, i_imul, i_idiv, i_irem, i_ineg, i_iand, i_ior, i_ishl, i_ishr, i_lxor, i_ladd, i_lsub, i_lmul, i_ldiv, i_lrem, i_lneg, i_lshl, i_lcmp, i_i2l, i_l2i, i_i2b, i_i2s, i_ifeq, i_ifne, i_iflt, i_ifge, i_ifgt, i_ifle, i_cmpeq, i_cmpne, i_cmplt, i_cmpge, i_cmpgt, i_cmple, i_acmpeq, i_acmpne, i_ifnull, i_ifnonnull, i_getI, i_getR, i_putI, i_putZ, i_putR, i_ald, i_ldL, i_ldR, i_ast, i_stL, i_stR, i_alen, i_new, i_newa, i_iret, i_zret, i_lret, i_aret, i_vret, i_raise, i_throw, i_recv, i_objinit, i_tsw3, lget, lset, lput1, lput2, lkil, ltrim, largs, isL, takev, dropv, nthv, pushO, catv, gd, true_and, and_true, Option.some.injEq, Prod.mk.injEq, exists_eq_left', if_true, if_false, reduceCtorEq, Bool.false_eq_true, lcmp_ge, lcmp_lt, lcmp_le, lcmp_gt, lcmp_eq, true_or, or_true, not_true_eq_false, not_false_eq_true, false_implies, true_implies, List.length_cons, List.length_nil, q1, q3, q10, q14, q30]
            repeat (first | refine ⟨in_small (by omega) (by omega), ?_⟩ | (show (_ → _) ∧ (_ → _); first | refine ⟨by omega, fun _ => ?_⟩ | refine ⟨fun _ => ?_, by omega⟩) | refine ⟨by omega, ?_⟩ | refine ⟨⟨_, rfl, by assumption⟩, ?_⟩ | refine ⟨okT_I _, ?_⟩ | refine call0 (gd_of rfl) ?_)
            have f24 : wD 1 2 D4 (q + 5) (cl r c) := f2.congr (fun i => f3 _ _ (by omega) (by omega)) (fun i => f3 _ _ (by omega) (by omega))
            refine sp_X2_times (p := 11) (q := 1) q31 q11 q15 (by omega) (by omega) f24 f4 (hcl c hc70 r (by omega)) (by omega) (by omega) (by omega) (by omega) (by omega) (by omega) (by omega) fun D5 f5 f6 => ?_
            simp only [P_X7_reduce, i_kil, i_icon, i_lcon, i_null, i_loadI, i_loadL, i_loadR, i_istore, i_lstore, i_astore, i_iinc, i_dup, i_dup2, i_pop, i_iadd, i_isub, i_imul, i_idiv, i_irem, i_ineg, i_iand, i_ior, i_ishl, i_ishr, i_lxor, i_ladd, i_lsub, i_lmul, i_ldiv, i_lrem, i_lneg, i_lshl, i_lcmp, i_i2l, i_l2i, i_i2b, i_i2s, i_ifeq, i_ifne, i_iflt, i_ifge, i_ifgt, i_ifle, i_cmpeq, i_cmpne, i_cmplt, i_cmpge, i_cmpgt, i_cmple, i_acmpeq, i_acmpne, i_ifnull, i_ifnonnull, i_getI, i_getR, i_putI, i_putZ, i_putR, i_ald, i_ldL, i_ldR, i_ast, i_stL, i_stR, i_alen, i_new, i_newa, i_iret, i_zret, i_lret, i_aret, i_vret, i_raise, i_throw, i_recv, i_objinit, i_tsw3, lget, lset, lput1, lput2, lkil, ltrim, largs, isL, takev, dropv, nthv, pushO, catv, gd, true_and, and_true, Option.some.injEq, Prod.mk.injEq, exists_eq_left', if_true, if_false, reduceCtorEq, Bool.false_eq_true, lcmp_ge, lcmp_lt, lcmp_le, lcmp_gt, lcmp_eq, true_or, or_true, not_true_eq_false, not_false_eq_true, false_implies, true_implies, List.length_cons, List.length_nil, q1, q3, q12]
            repeat (first | refine ⟨in_small (by omega) (by omega), ?_⟩ | (show (_ → _) ∧ (_ → _); first | refine ⟨by omega, fun _ => ?_⟩ | refine ⟨fun _ => ?_, by omega⟩) | refine ⟨by omega, ?_⟩ | refine ⟨⟨_, rfl, by assumption⟩, ?_⟩ | refine ⟨okT_I _, ?_⟩ | refine call0 (gd_of rfl) ?_)
            have g35 : wD 1 2 D5 (q + 7) (redI d v P cl r c) := g3.congr (fun i => by rw [f5 _ _ (by omega) (by omega), f3 _ _ (by omega) (by omega), f1 _ _ (by omega) (by omega)]) (fun i => by rw [f5 _ _ (by omega) (by omega), f3 _ _ (by omega) (by omega), f1 _ _ (by omega) (by omega)])
            have hb1 := hb r (by omega)
            have hm := mul_lim (hcl c hc70 r (by omega)) hvr
            have hm2 : ((cl r c * v (P r)).natAbs : Int) < 1000000000 ^ 12 := Int.lt_of_le_of_lt hm (by decide)
            have hs : ((redI d v P cl r c).natAbs : Int) + (cl r c * v (P r)).natAbs < 1000000000 ^ 13 := by
              have : (1000000000 : Int) ^ 13 = 1000000000 * 1000000000 ^ 12 := pw_succ 12
              rw [this]
              have hp := pw_pos 12
              generalize (1000000000 : Int) ^ 12 = H at *
              omega
            refine sp_X2_add (w := -1) ho q13 q13 q31 g35 f6 (.inr rfl) (Int.lt_of_lt_of_le hb1 (pw_mono (by omega))) (Int.lt_of_lt_of_le hm2 (pw_mono (by omega))) (Int.lt_of_lt_of_le hs (pw_mono (by omega))) (by omega) (by omega) (by omega) fun D6 f7 f8 => ?_
            simp only [P_X7_reduce, i_kil, i_icon, i_lcon, i_null, i_loadI, i_loadL, i_loadR, i_istore, i_lstore, i_astore, i_iinc, i_dup, i_dup2, i_pop, i_iadd, i_isub, i_imul, i_idiv, i_irem, i_ineg, i_iand, i_ior, i_ishl, i_ishr, i_lxor, i_ladd, i_lsub, i_lmul, i_ldiv, i_lrem, i_lneg, i_lshl, i_lcmp, i_i2l, i_l2i, i_i2b, i_i2s, i_ifeq, i_ifne, i_iflt, i_ifge, i_ifgt, i_ifle, i_cmpeq, i_cmpne, i_cmplt, i_cmpge, i_cmpgt, i_cmple, i_acmpeq, i_acmpne, i_ifnull, i_ifnonnull, i_getI, i_getR, i_putI, i_putZ, i_putR, i_ald, i_ldL, i_ldR, i_ast, i_stL, i_stR, i_alen, i_new, i_newa, i_iret, i_zret, i_lret, i_aret, i_vret, i_raise, i_throw, i_recv, i_objinit, i_tsw3, lget, lset, lput1, lput2, lkil, ltrim, largs, isL, takev, dropv, nthv, pushO, catv, gd, true_and, and_true, Option.some.injEq, Prod.mk.injEq, exists_eq_left', if_true, if_false, reduceCtorEq, Bool.false_eq_true, lcmp_ge, lcmp_lt, lcmp_le, lcmp_gt, lcmp_eq, true_or, or_true, not_true_eq_false, not_false_eq_true, false_implies, true_implies, List.length_cons, List.length_nil]
            have fr : ∀ a i, (a < q + 5 ∨ q + 10 < a) → a ≠ q + 18 → a ≠ q + 19 → D6 a i = D2 a i := fun a i a1 a2 a3 => by rw [f7 a i (by omega) (by omega), f5 a i (by omega) (by omega), f3 a i (by omega) (by omega), f1 a i (by omega) (by omega)]
            refine next D6 (fun a i a1 a2 a3 a4 => by rw [fr a i a1 a2 a3]; exact g1 a i a1 a2 a3 a4) (fun j hj => (g2 j hj).congr (fun i => fr _ _ (by omega) (by omega) (by omega)) (fun i => fr _ _ (by omega) (by omega) (by omega))) ?_
            have e9 : redI d v P cl (r + 1) c = redI d v P cl r c + -1 * (cl r c * v (P r)) := by simp only [redI]; omega
            rw [e9]; exact f8
          · have e9 : redI d v P cl (r + 1) c = redI d v P cl r c := by simp only [redI]; rw [h]; omega
            refine next D2 g1 g2 (by rw [e9]; exact g3)
      have mid : ∀ y : Int, y = (if c < 35 then v c else 0) → Wp P_X7_reduce E 2 [some (aR q), some (aI wide), some (aI c)] [.inr (.inl y), aR (q + 5)] B S D1 := fun y hy => by
        have hy2 : (y.natAbs : Int) ≤ 999 := by
          rw [hy]; split
          · exact hv c (by assumption)
          · decide
        refine wp_in ?_
        simp only [P_X7_reduce, i_kil, i_icon, i_lcon, i_null, i_loadI, i_loadL, i_loadR, i_istore, i_lstore, i_astore, i_iinc, i_dup, i_dup2, i_pop, i_iadd, i_isub, i_imul, i_idiv, i_irem, i_ineg, i_iand, i_ior, i_ishl, i_ishr, i_lxor, i_ladd, i_lsub, i_lmul, i_ldiv, i_lrem, i_lneg, i_lshl, i_lcmp, i_i2l, i_l2i, i_i2b, i_i2s, i_ifeq, i_ifne, i_iflt, i_ifge, i_ifgt, i_ifle, i_cmpeq, i_cmpne, i_cmplt, i_cmpge, i_cmpgt, i_cmple, i_acmpeq, i_acmpne, i_ifnull, i_ifnonnull, i_getI, i_getR, i_putI, i_putZ, i_putR, i_ald, i_ldL, i_ldR, i_ast, i_stL, i_stR, i_alen, i_new, i_newa, i_iret, i_zret, i_lret, i_aret, i_vret, i_raise, i_throw, i_recv, i_objinit, i_tsw3, lget, lset, lput1, lput2, lkil, ltrim, largs, isL, takev, dropv, nthv, pushO, catv, gd, true_and, and_true, Option.some.injEq, Prod.mk.injEq, exists_eq_left', if_true, if_false, reduceCtorEq, Bool.false_eq_true, lcmp_ge, lcmp_lt, lcmp_le, lcmp_gt, lcmp_eq, true_or, or_true, not_true_eq_false, not_false_eq_true, false_implies, true_implies, List.length_cons, List.length_nil]
        repeat (first | refine ⟨in_small (by omega) (by omega), ?_⟩ | (show (_ → _) ∧ (_ → _); first | refine ⟨by omega, fun _ => ?_⟩ | refine ⟨fun _ => ?_, by omega⟩) | refine ⟨by omega, ?_⟩ | refine ⟨⟨_, rfl, by assumption⟩, ?_⟩ | refine ⟨okT_I _, ?_⟩ | refine call0 (gd_of rfl) ?_)
        refine sp_X3_set q11 (by omega) (by omega) (by omega) fun D2 f1 f2 => ?_
        simp only [P_X7_reduce, i_kil, i_icon, i_lcon, i_null, i_loadI, i_loadL, i_loadR, i_istore, i_lstore, i_astore, i_iinc, i_dup, i_dup2, i_pop, i_iadd, i_isub, i_imul, i_idiv, i_irem, i_ineg, i_iand, i_ior, i_ishl, i_ishr, i_lxor, i_ladd, i_lsub, i_lmul, i_ldiv, i_lrem, i_lneg, i_lshl, i_lcmp, i_i2l, i_l2i, i_i2b, i_i2s, i_ifeq, i_ifne, i_iflt, i_ifge, i_ifgt, i_ifle, i_cmpeq, i_cmpne, i_cmplt, i_cmpge, i_cmpgt, i_cmple, i_acmpeq, i_acmpne, i_ifnull, i_ifnonnull, i_getI, i_getR, i_putI, i_putZ, i_putR, i_ald, i_ldL, i_ldR, i_ast, i_stL, i_stR, i_alen, i_new, i_newa, i_iret, i_zret, i_lret, i_aret, i_vret, i_raise, i_throw, i_recv, i_objinit, i_tsw3, lget, lset, lput1, lput2, lkil, ltrim, largs, isL, takev, dropv, nthv, pushO, catv, gd, true_and, and_true, Option.some.injEq, Prod.mk.injEq, exists_eq_left', if_true, if_false, reduceCtorEq, Bool.false_eq_true, lcmp_ge, lcmp_lt, lcmp_le, lcmp_gt, lcmp_eq, true_or, or_true, not_true_eq_false, not_false_eq_true, false_implies, true_implies, List.length_cons, List.length_nil, q1, q3, q6, q10, q12]
        repeat (first | refine ⟨in_small (by omega) (by omega), ?_⟩ | (show (_ → _) ∧ (_ → _); first | refine ⟨by omega, fun _ => ?_⟩ | refine ⟨fun _ => ?_, by omega⟩) | refine ⟨by omega, ?_⟩ | refine ⟨⟨_, rfl, by assumption⟩, ?_⟩ | refine ⟨okT_I _, ?_⟩ | refine call0 (gd_of rfl) ?_)
        have hd1 : wD 1 2 D2 (q + 2) d := hd.congr (fun i => by rw [f1 _ _ (by omega) (by omega), h1 _ _ (by omega) (by omega) (by omega) (by omega)]) (fun i => by rw [f1 _ _ (by omega) (by omega), h1 _ _ (by omega) (by omega) (by omega) (by omega)])
        refine sp_X2_times (p := 11) (q := 1) q13 q7 q11 (by omega) (by omega) hd1 f2 hd2 (by omega) (by omega) (by omega) (by omega) (by omega) (by omega) (by omega) fun D3 f3 f4 => ?_
        simp only [P_X7_reduce, i_kil, i_icon, i_lcon, i_null, i_loadI, i_loadL, i_loadR, i_istore, i_lstore, i_astore, i_iinc, i_dup, i_dup2, i_pop, i_iadd, i_isub, i_imul, i_idiv, i_irem, i_ineg, i_iand, i_ior, i_ishl, i_ishr, i_lxor, i_ladd, i_lsub, i_lmul, i_ldiv, i_lrem, i_lneg, i_lshl, i_lcmp, i_i2l, i_l2i, i_i2b, i_i2s, i_ifeq, i_ifne, i_iflt, i_ifge, i_ifgt, i_ifle, i_cmpeq, i_cmpne, i_cmplt, i_cmpge, i_cmpgt, i_cmple, i_acmpeq, i_acmpne, i_ifnull, i_ifnonnull, i_getI, i_getR, i_putI, i_putZ, i_putR, i_ald, i_ldL, i_ldR, i_ast, i_stL, i_stR, i_alen, i_new, i_newa, i_iret, i_zret, i_lret, i_aret, i_vret, i_raise, i_throw, i_recv, i_objinit, i_tsw3, lget, lset, lput1, lput2, lkil, ltrim, largs, isL, takev, dropv, nthv, pushO, catv, gd, true_and, and_true, Option.some.injEq, Prod.mk.injEq, exists_eq_left', if_true, if_false, reduceCtorEq, Bool.false_eq_true, lcmp_ge, lcmp_lt, lcmp_le, lcmp_gt, lcmp_eq, true_or, or_true, not_true_eq_false, not_false_eq_true, false_implies, true_implies, List.length_cons, List.length_nil]
        have fr : ∀ a i, (a < q + 5 ∨ q + 10 < a) → D3 a i = D1 a i := fun a i a1 => by rw [f3 a i (by omega) (by omega), f1 a i (by omega) (by omega)]
        refine inner k 0 D3 (by omega) (fun a i a1 a2 a3 a4 => by rw [fr a i a1]; exact h1 a i a1 a2 a3 a4) (fun j hj => (h2 j hj).congr (fun i => fr _ _ (by omega)) (fun i => fr _ _ (by omega))) ?_
        simp only [redI]
        rw [← hy]; exact f4
      have x1' := q11.1
      by_cases hc35 : c < 35
      · have e1 : D1 (q + 17) c = v c := by rw [h1 _ _ (by omega) (by omega) (by omega) (by omega)]; exact hn c hc35
        refine wp_in ?_
        simp only [P_X7_reduce, i_kil, i_icon, i_lcon, i_null, i_loadI, i_loadL, i_loadR, i_istore, i_lstore, i_astore, i_iinc, i_dup, i_dup2, i_pop, i_iadd, i_isub, i_imul, i_idiv, i_irem, i_ineg, i_iand, i_ior, i_ishl, i_ishr, i_lxor, i_ladd, i_lsub, i_lmul, i_ldiv, i_lrem, i_lneg, i_lshl, i_lcmp, i_i2l, i_l2i, i_i2b, i_i2s, i_ifeq, i_ifne, i_iflt, i_ifge, i_ifgt, i_ifle, i_cmpeq, i_cmpne, i_cmplt, i_cmpge, i_cmpgt, i_cmple, i_acmpeq, i_acmpne, i_ifnull, i_ifnonnull, i_getI, i_getR, i_putI, i_putZ, i_putR, i_ald, i_ldL, i_ldR, i_ast, i_stL, i_stR, i_alen, i_new, i_newa, i_iret, i_zret, i_lret, i_aret, i_vret, i_raise, i_throw, i_recv, i_objinit, i_tsw3, lget, lset, lput1, lput2, lkil, ltrim, largs, isL, takev, dropv, nthv, pushO, catv, gd, true_and, and_true, Option.some.injEq, Prod.mk.injEq, exists_eq_left', if_true, if_false, reduceCtorEq, Bool.false_eq_true, lcmp_ge, lcmp_lt, lcmp_le, lcmp_gt, lcmp_eq, true_or, or_true, not_true_eq_false, not_false_eq_true, false_implies, true_implies, List.length_cons, List.length_nil, q1, q10, q28, q29, e1]
        repeat (first | refine ⟨in_small (by omega) (by omega), ?_⟩ | (show (_ → _) ∧ (_ → _); first | refine ⟨by omega, fun _ => ?_⟩ | refine ⟨fun _ => ?_, by omega⟩) | refine ⟨by omega, ?_⟩ | refine ⟨⟨_, rfl, by assumption⟩, ?_⟩ | refine ⟨okT_I _, ?_⟩ | refine call0 (gd_of rfl) ?_)
        exact mid _ (by rw [if_pos hc35])
      · refine wp_in ?_
        simp only [P_X7_reduce, i_kil, i_icon, i_lcon, i_null, i_loadI, i_loadL, i_loadR, i_istore, i_lstore, i_astore, i_iinc, i_dup, i_dup2, i_pop, i_iadd, i_isub, i_imul, i_idiv, i_irem, i_ineg, i_iand, i_ior, i_ishl, i_ishr, i_lxor, i_ladd, i_lsub, i_lmul, i_ldiv, i_lrem, i_lneg, i_lshl, i_lcmp, i_i2l, i_l2i, i_i2b, i_i2s, i_ifeq, i_ifne, i_iflt, i_ifge, i_ifgt, i_ifle, i_cmpeq, i_cmpne, i_cmplt, i_cmpge, i_cmpgt, i_cmple, i_acmpeq, i_acmpne, i_ifnull, i_ifnonnull, i_getI, i_getR, i_putI, i_putZ, i_putR, i_ald, i_ldL, i_ldR, i_ast, i_stL, i_stR, i_alen, i_new, i_newa, i_iret, i_zret, i_lret, i_aret, i_vret, i_raise, i_throw, i_recv, i_objinit, i_tsw3, lget, lset, lput1, lput2, lkil, ltrim, largs, isL, takev, dropv, nthv, pushO, catv, gd, true_and, and_true, Option.some.injEq, Prod.mk.injEq, exists_eq_left', if_true, if_false, reduceCtorEq, Bool.false_eq_true, lcmp_ge, lcmp_lt, lcmp_le, lcmp_gt, lcmp_eq, true_or, or_true, not_true_eq_false, not_false_eq_true, false_implies, true_implies, List.length_cons, List.length_nil, q1, q10]
        repeat (first | refine ⟨in_small (by omega) (by omega), ?_⟩ | (show (_ → _) ∧ (_ → _); first | refine ⟨by omega, fun _ => ?_⟩ | refine ⟨fun _ => ?_, by omega⟩) | refine ⟨by omega, ?_⟩ | refine ⟨⟨_, rfl, by assumption⟩, ?_⟩ | refine ⟨okT_I _, ?_⟩ | refine call0 (gd_of rfl) ?_)
        exact mid 0 (by rw [if_neg hc35])
  refine wp_in ?_
  simp only [P_X7_reduce, i_kil, i_icon, i_lcon, i_null, i_loadI, i_loadL, i_loadR, i_istore, i_lstore, i_astore, i_iinc, i_dup, i_dup2, i_pop, i_iadd, i_isub, i_imul, i_idiv, i_irem, i_ineg, i_iand, i_ior, i_ishl, i_ishr, i_lxor, i_ladd, i_lsub, i_lmul, i_ldiv, i_lrem, i_lneg, i_lshl, i_lcmp, i_i2l, i_l2i, i_i2b, i_i2s, i_ifeq, i_ifne, i_iflt, i_ifge, i_ifgt, i_ifle, i_cmpeq, i_cmpne, i_cmplt, i_cmpge, i_cmpgt, i_cmple, i_acmpeq, i_acmpne, i_ifnull, i_ifnonnull, i_getI, i_getR, i_putI, i_putZ, i_putR, i_ald, i_ldL, i_ldR, i_ast, i_stL, i_stR, i_alen, i_new, i_newa, i_iret, i_zret, i_lret, i_aret, i_vret, i_raise, i_throw, i_recv, i_objinit, i_tsw3, lget, lset, lput1, lput2, lkil, ltrim, largs, isL, takev, dropv, nthv, pushO, catv, gd, true_and, and_true, Option.some.injEq, Prod.mk.injEq, exists_eq_left', if_true, if_false, reduceCtorEq, Bool.false_eq_true, lcmp_ge, lcmp_lt, lcmp_le, lcmp_gt, lcmp_eq, true_or, or_true, not_true_eq_false, not_false_eq_true, false_implies, true_implies, List.length_cons, List.length_nil]
  exact outer wide 0 D (by omega) (fun _ _ _ _ _ _ => rfl) fun j hj => by omega
/-- the first column that isn't 0, or 35 -/
def fcol (x : Nat → Int) : Nat → Nat → Nat
  | 0, c => c
  | n + 1, c => if x c = 0 then fcol x n (c + 1) else c
def fcl (x : Nat → Int) : Nat := fcol x 35 0
theorem fcol_law (x : Nat → Int) : ∀ n c, (∀ j, c ≤ j → j < fcol x n c → x j = 0) ∧ c ≤ fcol x n c ∧ fcol x n c ≤ c + n ∧ (fcol x n c < c + n → x (fcol x n c) ≠ 0) := by
  intro n
  induction n with
  | zero => intro c; simp only [fcol]; exact ⟨fun j h1 h2 => by omega, by omega, by omega, fun h => by omega⟩
  | succ n ih =>
    intro c
    obtain ⟨a1, a2, a3, a4⟩ := ih (c + 1)
    simp only [fcol]
    split
    · rename_i h
      refine ⟨fun j h1 h2 => ?_, by omega, by omega, fun h1 => a4 (by omega)⟩
      by_cases e : j = c
      · rw [e]; exact h
      · exact a1 j (by omega) h2
    · rename_i h
      exact ⟨fun j h1 h2 => by omega, by omega, by omega, fun _ => h⟩
theorem sp_X7_firstColumn {E : Ex} {B : Nat × Nat} {S : Stat} {D : Dat} {q T o : Nat} {x : Nat → Int} (hq : sqS S q T o) (hx : ∀ c : Nat, c < 35 → wD 1 2 D (q + 20 + 2 * c) (x c)) (K : E (.inl (some (.inl (fcl x : Nat)))) B S D) : Wp P_X7_firstColumn E 0 [some (aR q)] [] B S D := by
  obtain ⟨q1, q2, q3, q4, q5, q6, q7, q8, q9, q10, q11, q12, q13, q14, q15, q16, q17, q18, q19, q20, q21, q22, q23, q24, q25, q26, q27, q28, q29, q30, q31, q32⟩ := hq
  have fin : ∀ c : Nat, c = fcl x → Wp P_X7_firstColumn E 2 [none, some (aI c)] [] B S D := fun c hc => by
    subst hc
    refine wp_in ?_
    simp only [P_X7_firstColumn, i_kil, i_icon, i_lcon, i_null, i_loadI, i_loadL, i_loadR, i_istore, i_lstore, i_astore, i_iinc, i_dup, i_dup2, i_pop, i_iadd, i_isub, i_imul, i_idiv, i_irem, i_ineg, i_iand, i_ior, i_ishl, i_ishr, i_lxor, i_ladd, i_lsub, i_lmul, i_ldiv, i_lrem, i_lneg, i_lshl, i_lcmp, i_i2l, i_l2i, i_i2b, i_i2s, i_ifeq, i_ifne, i_iflt, i_ifge, i_ifgt, i_ifle, i_cmpeq, i_cmpne, i_cmplt, i_cmpge, i_cmpgt, i_cmple, i_acmpeq, i_acmpne, i_ifnull, i_ifnonnull, i_getI, i_getR, i_putI, i_putZ, i_putR, i_ald, i_ldL, i_ldR, i_ast, i_stL, i_stR, i_alen, i_new, i_newa, i_iret, i_zret, i_lret, i_aret, i_vret, i_raise, i_throw, i_recv, i_objinit, i_tsw3, lget, lset, lput1, lput2, lkil, ltrim, largs, isL, takev, dropv, nthv, pushO, catv, gd, true_and, and_true, Option.some.injEq, Prod.mk.injEq, exists_eq_left', if_true, if_false, reduceCtorEq, Bool.false_eq_true, lcmp_ge, lcmp_lt, lcmp_le, lcmp_gt, lcmp_eq, true_or, or_true, not_true_eq_false, not_false_eq_true, false_implies, true_implies, List.length_cons, List.length_nil]
    exact K
  have loop : ∀ (L c : Nat), c + L = 35 → fcol x L c = fcl x → Wp P_X7_firstColumn E 1 [some (aR q), some (aI c)] [] B S D := by
    intro L
    induction L with
    | zero =>
      intro c hc hf
      refine wp_in ?_
      simp only [P_X7_firstColumn, i_kil, i_icon, i_lcon, i_null, i_loadI, i_loadL, i_loadR, i_istore, i_lstore, i_astore, i_iinc, i_dup, i_dup2, i_pop, i_iadd, i_isub, i_imul, i_idiv, i_irem, i_ineg, i_iand, i_ior, i_ishl, i_ishr, i_lxor, i_ladd, i_lsub, i_lmul, i_ldiv, i_lrem, i_lneg, i_lshl, i_lcmp, i_i2l, i_l2i, i_i2b, i_i2s, i_ifeq, i_ifne, i_iflt, i_ifge, i_ifgt, i_ifle, i_cmpeq, i_cmpne, i_cmplt, i_cmpge, i_cmpgt, i_cmple, i_acmpeq, i_acmpne, i_ifnull, i_ifnonnull, i_getI, i_getR, i_putI, i_putZ, i_putR, i_ald, i_ldL, i_ldR, i_ast, i_stL, i_stR, i_alen, i_new, i_newa, i_iret, i_zret, i_lret, i_aret, i_vret, i_raise, i_throw, i_recv, i_objinit, i_tsw3, lget, lset, lput1, lput2, lkil, ltrim, largs, isL, takev, dropv, nthv, pushO, catv, gd, true_and, and_true, Option.some.injEq, Prod.mk.injEq, exists_eq_left', if_true, if_false, reduceCtorEq, Bool.false_eq_true, lcmp_ge, lcmp_lt, lcmp_le, lcmp_gt, lcmp_eq, true_or, or_true, not_true_eq_false, not_false_eq_true, false_implies, true_implies, List.length_cons, List.length_nil]
      repeat (first | refine ⟨in_small (by omega) (by omega), ?_⟩ | (show (_ → _) ∧ (_ → _); first | refine ⟨by omega, fun _ => ?_⟩ | refine ⟨fun _ => ?_, by omega⟩) | refine ⟨by omega, ?_⟩ | refine ⟨⟨_, rfl, by assumption⟩, ?_⟩ | refine ⟨okT_I _, ?_⟩ | refine call0 (gd_of rfl) ?_)
      exact fin c (by rw [← hf]; simp only [fcol])
    | succ L ih =>
      intro c hc hf
      obtain ⟨w1, w2⟩ := q32 c (by omega)
      have w21 := w2.1
      have hs := wD_nn (hx c (by omega))
      simp only [fcol] at hf
      refine wp_in ?_
      simp only [P_X7_firstColumn, i_kil, i_icon, i_lcon, i_null, i_loadI, i_loadL, i_loadR, i_istore, i_lstore, i_astore, i_iinc, i_dup, i_dup2, i_pop, i_iadd, i_isub, i_imul, i_idiv, i_irem, i_ineg, i_iand, i_ior, i_ishl, i_ishr, i_lxor, i_ladd, i_lsub, i_lmul, i_ldiv, i_lrem, i_lneg, i_lshl, i_lcmp, i_i2l, i_l2i, i_i2b, i_i2s, i_ifeq, i_ifne, i_iflt, i_ifge, i_ifgt, i_ifle, i_cmpeq, i_cmpne, i_cmplt, i_cmpge, i_cmpgt, i_cmple, i_acmpeq, i_acmpne, i_ifnull, i_ifnonnull, i_getI, i_getR, i_putI, i_putZ, i_putR, i_ald, i_ldL, i_ldR, i_ast, i_stL, i_stR, i_alen, i_new, i_newa, i_iret, i_zret, i_lret, i_aret, i_vret, i_raise, i_throw, i_recv, i_objinit, i_tsw3, lget, lset, lput1, lput2, lkil, ltrim, largs, isL, takev, dropv, nthv, pushO, catv, gd, true_and, and_true, Option.some.injEq, Prod.mk.injEq, exists_eq_left', if_true, if_false, reduceCtorEq, Bool.false_eq_true, lcmp_ge, lcmp_lt, lcmp_le, lcmp_gt, lcmp_eq, true_or, or_true, not_true_eq_false, not_false_eq_true, false_implies, true_implies, List.length_cons, List.length_nil, q1, q8, q9, w1, w21, hs]
      repeat (first | refine ⟨in_small (by omega) (by omega), ?_⟩ | (show (_ → _) ∧ (_ → _); first | refine ⟨by omega, fun _ => ?_⟩ | refine ⟨fun _ => ?_, by omega⟩) | refine ⟨by omega, ?_⟩ | refine ⟨⟨_, rfl, by assumption⟩, ?_⟩ | refine ⟨okT_I _, ?_⟩ | refine call0 (gd_of rfl) ?_)
      refine ⟨fun h => ?_, fun h => ?_⟩
      · have h0 : ¬ x c = 0 := fun w => by rw [w] at h; exact h rfl
        rw [if_neg h0] at hf
        exact fin c hf
      · have h0 : x c = 0 := Int.sign_eq_zero_iff_zero.mp h
        rw [if_pos h0] at hf
        repeat (first | refine ⟨in_small (by omega) (by omega), ?_⟩ | (show (_ → _) ∧ (_ → _); first | refine ⟨by omega, fun _ => ?_⟩ | refine ⟨fun _ => ?_, by omega⟩) | refine ⟨by omega, ?_⟩ | refine ⟨⟨_, rfl, by assumption⟩, ?_⟩ | refine ⟨okT_I _, ?_⟩ | refine call0 (gd_of rfl) ?_)
        exact ih (c + 1) (by omega) hf
  refine wp_in ?_
  simp only [P_X7_firstColumn, i_kil, i_icon, i_lcon, i_null, i_loadI, i_loadL, i_loadR, i_istore, i_lstore, i_astore, i_iinc, i_dup, i_dup2, i_pop, i_iadd, i_isub, i_imul, i_idiv, i_irem, i_ineg, i_iand, i_ior, i_ishl, i_ishr, i_lxor, i_ladd, i_lsub, i_lmul, i_ldiv, i_lrem, i_lneg, i_lshl, i_lcmp, i_i2l, i_l2i, i_i2b, i_i2s, i_ifeq, i_ifne, i_iflt, i_ifge, i_ifgt, i_ifle, i_cmpeq, i_cmpne, i_cmplt, i_cmpge, i_cmpgt, i_cmple, i_acmpeq, i_acmpne, i_ifnull, i_ifnonnull, i_getI, i_getR, i_putI, i_putZ, i_putR, i_ald, i_ldL, i_ldR, i_ast, i_stL, i_stR, i_alen, i_new, i_newa, i_iret, i_zret, i_lret, i_aret, i_vret, i_raise, i_throw, i_recv, i_objinit, i_tsw3, lget, lset, lput1, lput2, lkil, ltrim, largs, isL, takev, dropv, nthv, pushO, catv, gd, true_and, and_true, Option.some.injEq, Prod.mk.injEq, exists_eq_left', if_true, if_false, reduceCtorEq, Bool.false_eq_true, lcmp_ge, lcmp_lt, lcmp_le, lcmp_gt, lcmp_eq, true_or, or_true, not_true_eq_false, not_false_eq_true, false_implies, true_implies, List.length_cons, List.length_nil]
  exact loop 35 0 rfl rfl
