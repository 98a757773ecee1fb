/-! the component's square: statics, cells loaded and saved -/
set_option maxRecDepth 100000
set_option linter.unusedVariables false
def sqS (S : Stat) (q T o : Nat) : Prop := S.1 q = some (7, 0) ∧ S.2.1 q 0 = some T ∧ S.2.1 q 1 = some o ∧ S.2.1 q 2 = some (q + 1) ∧ S.1 (q + 1) = some (100, 29400) ∧ S.2.1 q 3 = some (q + 2) ∧ wS 3 S (q + 2) 160 ∧ S.2.1 q 4 = some (q + 4) ∧ S.1 (q + 4) = some (105, 70) ∧ S.2.1 q 5 = some (q + 5) ∧ wS 3 S (q + 5) 160 ∧ S.2.1 q 6 = some (q + 7) ∧ wS 3 S (q + 7) 160 ∧ S.2.1 q 7 = some (q + 9) ∧ wS 3 S (q + 9) 160 ∧
  S.2.1 q 8 = some (q + 11) ∧ S.1 (q + 11) = some (102, 35) ∧ S.2.1 q 9 = some (q + 12) ∧ S.1 (q + 12) = some (100, 455) ∧ S.2.1 q 10 = some (q + 13) ∧ S.1 (q + 13) = some (100, 35) ∧ S.2.1 q 11 = some (q + 14) ∧ S.1 (q + 14) = some (100, 35) ∧ S.2.1 q 12 = some (q + 15) ∧ S.1 (q + 15) = some (100, 35) ∧ S.2.1 q 13 = some (q + 16) ∧ S.1 (q + 16) = some (100, 35) ∧ S.2.1 q 14 = some (q + 17) ∧ S.1 (q + 17) = some (100, 35) ∧ S.2.1 q 19 = some (q + 18) ∧ wS 3 S (q + 18) 160 ∧ ∀ c : Nat, c < 70 → S.2.1 (q + 4) c = some (q + 20 + 2 * c) ∧ wS 3 S (q + 20 + 2 * c) 48
/-- a cell holds a whole of 11 digits at most -/
def csl (f : Int → Int) (a : Int) (z : Int) : Prop := ∃ n : Nat, n ≤ 11 ∧ f a = Int.sign z * n ∧ dcan (fun i => f (a + 1 + i)) n ∧ (z.natAbs : Int) = dv (fun i => f (a + 1 + i)) n
theorem csl.congr {f g : Int → Int} {a z : Int} (h : csl f a z) (e : ∀ i, a ≤ i → i < a + 12 → g i = f i) : csl g a z := by
  obtain ⟨n, h1, h2, h3, h4⟩ := h
  have h5 : ∀ i : Int, 0 ≤ i → i < n → g (a + 1 + i) = f (a + 1 + i) := fun i g1 g2 => e _ (by omega) (by omega)
  refine ⟨n, h1, by rw [e a (by omega) (by omega)]; exact h2, ⟨fun i g1 g2 => ?_, fun g0 => ?_⟩, ?_⟩
  · show 0 ≤ g (a + 1 + i) ∧ g (a + 1 + i) < 1000000000
    rw [h5 i g1 g2]; exact h3.1 i g1 g2
  · show g (a + 1 + ((n : Int) - 1)) ≠ 0
    rw [h5 _ (by omega) (by omega)]; exact h3.2 g0
  · rw [h4]; exact dv_congr fun i g1 g2 => (h5 i g1 g2).symm
theorem csl.zero {f : Int → Int} {a z : Int} (h : csl f a z) : f a = 0 ↔ z = 0 := by
  obtain ⟨n, h1, h2, h3, h4⟩ := h
  constructor
  · intro h
    rw [h] at h2
    rcases sgn_cases z with g | g | g
    · rw [g.1] at h2
      have hn0 : n = 0 := by omega
      subst hn0
      simp only [dv] at h4
      omega
    · exact g.2
    · rw [g.1] at h2
      have hn0 : n = 0 := by omega
      subst hn0
      simp only [dv] at h4
      omega
  · intro h
    rw [h2, h]; simp
theorem csl.lim {f : Int → Int} {a z : Int} (h : csl f a z) : (z.natAbs : Int) < 1000000000 ^ 11 := by
  obtain ⟨n, h1, h2, h3, h4⟩ := h
  rw [h4]
  exact Int.lt_of_lt_of_le (dv_nn h3.1).2 (pw_mono h1)
/-- all cells -/
def sqC (D : Dat) (q : Nat) (cl : Nat → Nat → Int) : Prop := ∀ r c : Nat, r < 35 → c < 70 → csl (D (q + 1)) (12 * (70 * (r : Int) + c)) (cl r c)
theorem sqC.congr {D D' : Dat} {q : Nat} {cl : Nat → Nat → Int} (h : sqC D q cl) (e : ∀ i, D' (q + 1) i = D (q + 1) i) : sqC D' q cl := fun r c hr hc => (h r c hr hc).congr fun i _ _ => e i
def cupd (cl : Nat → Nat → Int) (r c : Nat) (z : Int) : Nat → Nat → Int := fun a b => if a = r ∧ b = c then z else cl a b
theorem idx12 {r r' c c' : Nat} (hc : c < 70) (hc' : c' < 70) (h : ¬ (r = r' ∧ c = c')) : 12 * (70 * (r : Int) + c) + 12 ≤ 12 * (70 * (r' : Int) + c') ∨ 12 * (70 * (r' : Int) + c') + 12 ≤ 12 * (70 * (r : Int) + c) := by omega
theorem sqC.save {D D' : Dat} {q r c : Nat} {cl : Nat → Nat → Int} {z : Int} (h : sqC D q cl) (hr : r < 35) (hc : c < 70) (e : ∀ i, ¬ (12 * (70 * (r : Int) + c) ≤ i ∧ i < 12 * (70 * (r : Int) + c) + 12) → D' (q + 1) i = D (q + 1) i) (hz : csl (D' (q + 1)) (12 * (70 * (r : Int) + c)) z) : sqC D' q (cupd cl r c z) := fun a b ha hb => by
  unfold cupd
  by_cases w : a = r ∧ b = c
  · rw [if_pos w, w.1, w.2]; exact hz
  · rw [if_neg w]
    have := idx12 hb hc w
    exact (h a b ha hb).congr fun i h1 h2 => e i (by omega)
set_option maxHeartbeats 1000000 in
theorem sp_X7_save {E : Ex} {B : Nat × Nat} {S : Stat} {D : Dat} {q T o w rm r c : Nat} {x y z : Int} (hq : sqS S q T o) (hw : wS 3 S w rm) (hqw : w + 1 < q ∨ q + 1 < w) (hz : wD 1 2 D w z) (hb : (z.natAbs : Int) < 1000000000 ^ 11) (hr : r < 35) (hc : c < 70) (hrm : 11 ≤ rm) (hx : x = r) (hy : y = c)
    (k : ∀ D' : Dat, (∀ a i, ¬ (a = q + 1 ∧ 12 * (70 * (r : Int) + c) ≤ i ∧ i < 12 * (70 * (r : Int) + c) + 12) → D' a i = D a i) → csl (D' (q + 1)) (12 * (70 * (r : Int) + c)) z → E (.inl none) B S D') : Wp P_X7_save E 0 [some (aR q), some (aI x), some (aI y), some (aR w)] [] B S D := by
  subst hx; subst hy
  obtain ⟨q1, -, -, q4, q5, -⟩ := hq
  obtain ⟨w1, w2, w3⟩ := hw
  obtain ⟨n, hn, z1, z2, z3, z4⟩ := hz.nat hb
  have loop : ∀ (L j : Nat) (D' : Dat), j + L = n → (∀ a i, ¬ (a = q + 1 ∧ 12 * (70 * (r : Int) + c) ≤ i ∧ i < 12 * (70 * (r : Int) + c) + 12) → D' a i = D a i) → D' (q + 1) (12 * (70 * (r : Int) + c)) = Int.sign z * n → (∀ i : Int, 0 ≤ i → i < j → D' (q + 1) (12 * (70 * (r : Int) + c) + 1 + i) = D (w + 1) i) → Wp P_X7_save E 1 [some (aR q), none, none, some (aR w), some (aI (12 * (70 * (r : Int) + c))), some (aI j)] [] B S D' := by
    intro L
    induction L with
    | zero =>
      intro j D' hj hf h0 hd
      have hjn : j = n := by omega
      subst hjn
      have e1 : D' w 1 = j := by rw [hf _ _ (by omega), z1]
      refine wp_in ?_
      simp only [P_X7_save, i_kil, i_icon, i_lcon, i_null, i_loadI, i_loadL, i_loadR, i_istore, i_lstore, i_astore, i_iinc, i_dup, i_dup2, i_pop, i_iadd, i_isub, i_imul, i_idiv, i_irem, i_ineg, i_iand, i_ior, i_ishl, i_ishr, i_lxor, i_ladd, i_lsub, i_lmul, i_ldiv, i_lrem, i_lneg, i_lshl, i_lcmp, i_i2l, i_l2i, i_i2b, i_i2s, i_ifeq, i_ifne, i_iflt, i_ifge, i_ifgt, i_ifle, i_cmpeq, i_cmpne, i_cmplt, i_cmpge, i_cmpgt, i_cmple, i_acmpeq, i_acmpne, i_ifnull, i_ifnonnull, i_getI, i_getR, i_putI, i_putZ, i_putR, i_ald, i_ldL, i_ldR, i_ast, i_stL, i_stR, i_alen, i_new, i_newa, i_iret, i_zret, i_lret, i_aret, i_vret, i_raise, i_throw, i_recv, i_objinit, i_tsw3, lget, lset, lput1, lput2, lkil, ltrim, largs, isL, takev, dropv, nthv, pushO, catv, gd, true_and, and_true, Option.some.injEq, Prod.mk.injEq, exists_eq_left', if_true, if_false, reduceCtorEq, Bool.false_eq_true, lcmp_ge, lcmp_lt, lcmp_le, lcmp_gt, lcmp_eq, true_or, or_true, not_true_eq_false, not_false_eq_true, false_implies, true_implies, List.length_cons, List.length_nil, q1, q4, q5, w1, w2, w3, e1]
      repeat (first | refine ⟨in_small (by omega) (by omega), ?_⟩ | (show (_ → _) ∧ (_ → _); first | refine ⟨by omega, fun _ => ?_⟩ | refine ⟨fun _ => ?_, by omega⟩) | refine ⟨by omega, ?_⟩ | refine ⟨⟨_, rfl, by assumption⟩, ?_⟩ | refine ⟨okT_I _, ?_⟩ | refine call0 (gd_of rfl) ?_)
      refine k D' hf ⟨j, hn, h0, ⟨fun i g1 g2 => ?_, fun g => ?_⟩, ?_⟩
      · show 0 ≤ D' (q + 1) (12 * (70 * (r : Int) + c) + 1 + i) ∧ D' (q + 1) (12 * (70 * (r : Int) + c) + 1 + i) < 1000000000
        rw [hd i g1 g2]; exact z2.1 i g1 g2
      · show D' (q + 1) (12 * (70 * (r : Int) + c) + 1 + ((j : Int) - 1)) ≠ 0
        rw [hd _ (by omega) (by omega)]; exact z2.2 g
      · rw [z4]; exact dv_congr fun i g1 g2 => (hd i g1 g2).symm
    | succ L ih =>
      intro j D' hj hf h0 hd
      have e1 : D' w 1 = n := by rw [hf _ _ (by omega), z1]
      have e2 : D' (w + 1) j = D (w + 1) j := hf _ _ (by omega)
      refine wp_in ?_
      simp only [P_X7_save, i_kil, i_icon, i_lcon, i_null, i_loadI, i_loadL, i_loadR, i_istore, i_lstore, i_astore, i_iinc, i_dup, i_dup2, i_pop, i_iadd, i_isub, i_imul, i_idiv, i_irem, i_ineg, i_iand, i_ior, i_ishl, i_ishr, i_lxor, i_ladd, i_lsub, i_lmul, i_ldiv, i_lrem, i_lneg, i_lshl, i_lcmp, i_i2l, i_l2i, i_i2b, i_i2s, i_ifeq, i_ifne, i_iflt, i_ifge, i_ifgt, i_ifle, i_cmpeq, i_cmpne, i_cmplt, i_cmpge, i_cmpgt, i_cmple, i_acmpeq, i_acmpne, i_ifnull, i_ifnonnull, i_getI, i_getR, i_putI, i_putZ, i_putR, i_ald, i_ldL, i_ldR, i_ast, i_stL, i_stR, i_alen, i_new, i_newa, i_iret, i_zret, i_lret, i_aret, i_vret, i_raise, i_throw, i_recv, i_objinit, i_tsw3, lget, lset, lput1, lput2, lkil, ltrim, largs, isL, takev, dropv, nthv, pushO, catv, gd, true_and, and_true, Option.some.injEq, Prod.mk.injEq, exists_eq_left', if_true, if_false, reduceCtorEq, Bool.false_eq_true, lcmp_ge, lcmp_lt, lcmp_le, lcmp_gt, lcmp_eq, true_or, or_true, not_true_eq_false, not_false_eq_true, false_implies, true_implies, List.length_cons, List.length_nil, q1, q4, q5, w1, w2, w3, e1, e2]
      repeat (first | refine ⟨in_small (by omega) (by omega), ?_⟩ | (show (_ → _) ∧ (_ → _); first | refine ⟨by omega, fun _ => ?_⟩ | refine ⟨fun _ => ?_, by omega⟩) | refine ⟨by omega, ?_⟩ | refine ⟨⟨_, rfl, by assumption⟩, ?_⟩ | refine ⟨okT_I _, ?_⟩ | refine call0 (gd_of rfl) ?_)
      refine ih (j + 1) _ (by omega) (fun a i h => ?_) ?_ (fun i g1 g2 => ?_)
      · simp only [pmu]
        rw [if_neg (fun g => h ⟨g.1, by omega, by omega⟩)]
        exact hf a i h
      · simp only [pmu]
        rw [if_neg (fun g => by omega)]
        exact h0
      · simp only [pmu, true_and]
        split
        · rename_i hi
          rw [show i = (j : Int) by omega]
        · exact hd i g1 (by omega)
  refine wp_in ?_
  simp only [P_X7_save, i_kil, i_icon, i_lcon, i_null, i_loadI, i_loadL, i_loadR, i_istore, i_lstore, i_astore, i_iinc, i_dup, i_dup2, i_pop, i_iadd, i_isub, i_imul, i_idiv, i_irem, i_ineg, i_iand, i_ior, i_ishl, i_ishr, i_lxor, i_ladd, i_lsub, i_lmul, i_ldiv, i_lrem, i_lneg, i_lshl, i_lcmp, i_i2l, i_l2i, i_i2b, i_i2s, i_ifeq, i_ifne, i_iflt, i_ifge, i_ifgt, i_ifle, i_cmpeq, i_cmpne, i_cmplt, i_cmpge, i_cmpgt, i_cmple, i_acmpeq, i_acmpne, i_ifnull, i_ifnonnull, i_getI, i_getR, i_putI, i_putZ, i_putR, i_ald, i_ldL, i_ldR, i_ast, i_stL, i_stR, i_alen, i_new, i_newa, i_iret, i_zret, i_lret, i_aret, i_vret, i_raise, i_throw, i_recv, i_objinit, i_tsw3, lget, lset, lput1, lput2, lkil, ltrim, largs, isL, takev, dropv, nthv, pushO, catv, gd, true_and, and_true, Option.some.injEq, Prod.mk.injEq, exists_eq_left', if_true, if_false, reduceCtorEq, Bool.false_eq_true, lcmp_ge, lcmp_lt, lcmp_le, lcmp_gt, lcmp_eq, true_or, or_true, not_true_eq_false, not_false_eq_true, false_implies, true_implies, List.length_cons, List.length_nil, q1, q4, q5, w1, w2, w3, z1, z3]
  have hs : -11 ≤ Int.sign z * n ∧ Int.sign z * n ≤ 11 := by rcases sgn_cases z with g | g | g <;> rw [g.1] <;> omega
  repeat (first | refine ⟨in_small (by omega) (by omega), ?_⟩ | (show (_ → _) ∧ (_ → _); first | refine ⟨by omega, fun _ => ?_⟩ | refine ⟨fun _ => ?_, by omega⟩) | refine ⟨by omega, ?_⟩ | refine ⟨⟨_, rfl, by assumption⟩, ?_⟩ | refine ⟨okT_I _, ?_⟩ | refine call0 (gd_of rfl) ?_)
  refine loop n 0 _ (by omega) (fun a i h => ?_) (by simp [pmu]) (fun i g1 g2 => by omega)
  simp only [pmu]
  rw [if_neg (fun g => h ⟨g.1, by omega, by omega⟩)]
set_option maxHeartbeats 1000000 in
theorem sp_X7_load {E : Ex} {B : Nat × Nat} {S : Stat} {D : Dat} {q T o w rm r c : Nat} {x y z : Int} (hq : sqS S q T o) (hw : wS 3 S w rm) (hqw : w + 1 < q ∨ q + 1 < w) (hz : csl (D (q + 1)) (12 * (70 * (r : Int) + c)) z) (hr : r < 35) (hc : c < 70) (hrm : 11 ≤ rm) (hrm2 : rm < 1000) (hx : x = r) (hy : y = c)
    (k : ∀ D' : Dat, wO D D' w → wD 1 2 D' w z → E (.inl none) B S D') : Wp P_X7_load E 0 [some (aR q), some (aI x), some (aI y), some (aR w)] [] B S D := by
  subst hx; subst hy
  obtain ⟨q1, -, -, q4, q5, -⟩ := hq
  obtain ⟨w1, w2, w3⟩ := hw
  have hzz := hz.zero
  obtain ⟨n, hn, z1, z2, z3⟩ := hz
  have hab : ((D (q + 1) (12 * (70 * (r : Int) + c))).natAbs : Int) = n := by
    rw [z1]
    rcases sgn_cases z with g | g | g
    · rw [g.1]; omega
    · rw [g.1]
      have : n = 0 := by
        have := z2.zero (by rw [← z3, g.2]; rfl)
        exact this
      omega
    · rw [g.1]; omega
  have loop : ∀ (L j : Nat) (D' : Dat), j + L = n → wO D D' w → D' w 1 = n → D' w 2 = Int.sign z → (∀ i : Int, 0 ≤ i → i < j → D' (w + 1) i = D (q + 1) (12 * (70 * (r : Int) + c) + 1 + i)) → Wp P_X7_load E 2 [some (aR q), none, none, some (aR w), some (aI (12 * (70 * (r : Int) + c))), some (aI j)] [] B S D' := by
    intro L
    induction L with
    | zero =>
      intro j D' hj hf h1 h2 hd
      have hjn : j = n := by omega
      subst hjn
      refine wp_in ?_
      simp only [P_X7_load, i_kil, i_icon, i_lcon, i_null, i_loadI, i_loadL, i_loadR, i_istore, i_lstore, i_astore, i_iinc, i_dup, i_dup2, i_pop, i_iadd, i_isub, i_imul, i_idiv, i_irem, i_ineg, i_iand, i_ior, i_ishl, i_ishr, i_lxor, i_ladd, i_lsub, i_lmul, i_ldiv, i_lrem, i_lneg, i_lshl, i_lcmp, i_i2l, i_l2i, i_i2b, i_i2s, i_ifeq, i_ifne, i_iflt, i_ifge, i_ifgt, i_ifle, i_cmpeq, i_cmpne, i_cmplt, i_cmpge, i_cmpgt, i_cmple, i_acmpeq, i_acmpne, i_ifnull, i_ifnonnull, i_getI, i_getR, i_putI, i_putZ, i_putR, i_ald, i_ldL, i_ldR, i_ast, i_stL, i_stR, i_alen, i_new, i_newa, i_iret, i_zret, i_lret, i_aret, i_vret, i_raise, i_throw, i_recv, i_objinit, i_tsw3, lget, lset, lput1, lput2, lkil, ltrim, largs, isL, takev, dropv, nthv, pushO, catv, gd, true_and, and_true, Option.some.injEq, Prod.mk.injEq, exists_eq_left', if_true, if_false, reduceCtorEq, Bool.false_eq_true, lcmp_ge, lcmp_lt, lcmp_le, lcmp_gt, lcmp_eq, true_or, or_true, not_true_eq_false, not_false_eq_true, false_implies, true_implies, List.length_cons, List.length_nil, q1, q4, q5, w1, w2, w3, h1]
      repeat (first | refine ⟨in_small (by omega) (by omega), ?_⟩ | (show (_ → _) ∧ (_ → _); first | refine ⟨by omega, fun _ => ?_⟩ | refine ⟨fun _ => ?_, by omega⟩) | refine ⟨by omega, ?_⟩ | refine ⟨⟨_, rfl, by assumption⟩, ?_⟩ | refine ⟨okT_I _, ?_⟩ | refine call0 (gd_of rfl) ?_)
      refine k D' hf ⟨j, h1, ⟨fun i g1 g2 => ?_, fun g => ?_⟩, h2, ?_⟩
      · rw [hd i g1 g2]; exact z2.1 i g1 g2
      · rw [hd _ (by omega) (by omega)]; exact z2.2 g
      · rw [z3]; exact dv_congr fun i g1 g2 => (hd i g1 g2).symm
    | succ L ih =>
      intro j D' hj hf h1 h2 hd
      have e2 : D' (q + 1) (12 * (70 * (r : Int) + c) + 1 + j) = D (q + 1) (12 * (70 * (r : Int) + c) + 1 + j) := hf _ _ (by omega) (by omega)
      refine wp_in ?_
      simp only [P_X7_load, i_kil, i_icon, i_lcon, i_null, i_loadI, i_loadL, i_loadR, i_istore, i_lstore, i_astore, i_iinc, i_dup, i_dup2, i_pop, i_iadd, i_isub, i_imul, i_idiv, i_irem, i_ineg, i_iand, i_ior, i_ishl, i_ishr, i_lxor, i_ladd, i_lsub, i_lmul, i_ldiv, i_lrem, i_lneg, i_lshl, i_lcmp, i_i2l, i_l2i, i_i2b, i_i2s, i_ifeq, i_ifne, i_iflt, i_ifge, i_ifgt, i_ifle, i_cmpeq, i_cmpne, i_cmplt, i_cmpge, i_cmpgt, i_cmple, i_acmpeq, i_acmpne, i_ifnull, i_ifnonnull, i_getI, i_getR, i_putI, i_putZ, i_putR, i_ald, i_ldL, i_ldR, i_ast, i_stL, i_stR, i_alen, i_new, i_newa, i_iret, i_zret, i_lret, i_aret, i_vret, i_raise, i_throw, i_recv, i_objinit, i_tsw3, lget, lset, lput1, lput2, lkil, ltrim, largs, isL, takev, dropv, nthv, pushO, catv, gd, true_and, and_true, Option.some.injEq, Prod.mk.injEq, exists_eq_left', if_true, if_false, reduceCtorEq, Bool.false_eq_true, lcmp_ge, lcmp_lt, lcmp_le, lcmp_gt, lcmp_eq, true_or, or_true, not_true_eq_false, not_false_eq_true, false_implies, true_implies, List.length_cons, List.length_nil, q1, q4, q5, w1, w2, w3, h1, e2]
      repeat (first | refine ⟨in_small (by omega) (by omega), ?_⟩ | (show (_ → _) ∧ (_ → _); first | refine ⟨by omega, fun _ => ?_⟩ | refine ⟨fun _ => ?_, by omega⟩) | refine ⟨by omega, ?_⟩ | refine ⟨⟨_, rfl, by assumption⟩, ?_⟩ | refine ⟨okT_I _, ?_⟩ | refine call0 (gd_of rfl) ?_)
      refine ih (j + 1) _ (by omega) (fun a i c1 c2 => ?_) ?_ ?_ (fun i g1 g2 => ?_)
      · simp only [pmu]
        rw [if_neg (fun g => c2 g.1)]
        exact hf a i c1 c2
      · simp only [pmu]
        rw [if_neg (fun g => by omega)]
        exact h1
      · simp only [pmu]
        rw [if_neg (fun g => by omega)]
        exact h2
      · simp only [pmu, true_and]
        split
        · rename_i hi
          rw [hi]
        · exact hd i g1 (by omega)
  have mid : Wp P_X7_load E 1 [some (aR q), none, none, some (aR w), some (aI (12 * (70 * (r : Int) + c)))] [aI (Int.sign z), aR w] B S (pmu D w 1 n) := by
    refine wp_in ?_
    simp only [P_X7_load, i_kil, i_icon, i_lcon, i_null, i_loadI, i_loadL, i_loadR, i_istore, i_lstore, i_astore, i_iinc, i_dup, i_dup2, i_pop, i_iadd, i_isub, i_imul, i_idiv, i_irem, i_ineg, i_iand, i_ior, i_ishl, i_ishr, i_lxor, i_ladd, i_lsub, i_lmul, i_ldiv, i_lrem, i_lneg, i_lshl, i_lcmp, i_i2l, i_l2i, i_i2b, i_i2s, i_ifeq, i_ifne, i_iflt, i_ifge, i_ifgt, i_ifle, i_cmpeq, i_cmpne, i_cmplt, i_cmpge, i_cmpgt, i_cmple, i_acmpeq, i_acmpne, i_ifnull, i_ifnonnull, i_getI, i_getR, i_putI, i_putZ, i_putR, i_ald, i_ldL, i_ldR, i_ast, i_stL, i_stR, i_alen, i_new, i_newa, i_iret, i_zret, i_lret, i_aret, i_vret, i_raise, i_throw, i_recv, i_objinit, i_tsw3, lget, lset, lput1, lput2, lkil, ltrim, largs, isL, takev, dropv, nthv, pushO, catv, gd, true_and, and_true, Option.some.injEq, Prod.mk.injEq, exists_eq_left', if_true, if_false, reduceCtorEq, Bool.false_eq_true, lcmp_ge, lcmp_lt, lcmp_le, lcmp_gt, lcmp_eq, true_or, or_true, not_true_eq_false, not_false_eq_true, false_implies, true_implies, List.length_cons, List.length_nil, w1]
    refine loop n 0 _ (by omega) (fun a i c1 c2 => by simp [pmu, c1]) (by simp [pmu]) (by simp [pmu]) (fun i g1 g2 => by omega)
  refine wp_in ?_
  simp only [P_X7_load, i_kil, i_icon, i_lcon, i_null, i_loadI, i_loadL, i_loadR, i_istore, i_lstore, i_astore, i_iinc, i_dup, i_dup2, i_pop, i_iadd, i_isub, i_imul, i_idiv, i_irem, i_ineg, i_iand, i_ior, i_ishl, i_ishr, i_lxor, i_ladd, i_lsub, i_lmul, i_ldiv, i_lrem, i_lneg, i_lshl, i_lcmp, i_i2l, i_l2i, i_i2b, i_i2s, i_ifeq, i_ifne, i_iflt, i_ifge, i_ifgt, i_ifle, i_cmpeq, i_cmpne, i_cmplt, i_cmpge, i_cmpgt, i_cmple, i_acmpeq, i_acmpne, i_ifnull, i_ifnonnull, i_getI, i_getR, i_putI, i_putZ, i_putR, i_ald, i_ldL, i_ldR, i_ast, i_stL, i_stR, i_alen, i_new, i_newa, i_iret, i_zret, i_lret, i_aret, i_vret, i_raise, i_throw, i_recv, i_objinit, i_tsw3, lget, lset, lput1, lput2, lkil, ltrim, largs, isL, takev, dropv, nthv, pushO, catv, gd, true_and, and_true, Option.some.injEq, Prod.mk.injEq, exists_eq_left', if_true, if_false, reduceCtorEq, Bool.false_eq_true, lcmp_ge, lcmp_lt, lcmp_le, lcmp_gt, lcmp_eq, true_or, or_true, not_true_eq_false, not_false_eq_true, false_implies, true_implies, List.length_cons, List.length_nil, q1, q4, q5, w1, w2, w3]
  have hs : -11 ≤ D (q + 1) (12 * (70 * (r : Int) + c)) ∧ D (q + 1) (12 * (70 * (r : Int) + c)) ≤ 11 := by omega
  repeat (first | refine ⟨in_small (by omega) (by omega), ?_⟩ | (show (_ → _) ∧ (_ → _); first | refine ⟨by omega, fun _ => ?_⟩ | refine ⟨fun _ => ?_, by omega⟩) | refine ⟨by omega, ?_⟩ | refine ⟨⟨_, rfl, by assumption⟩, ?_⟩ | refine ⟨okT_I _, ?_⟩ | refine call0 (gd_of rfl) ?_)
  refine sp_J9_abs (by omega) (by omega) ?_
  simp only [P_X7_load, i_kil, i_icon, i_lcon, i_null, i_loadI, i_loadL, i_loadR, i_istore, i_lstore, i_astore, i_iinc, i_dup, i_dup2, i_pop, i_iadd, i_isub, i_imul, i_idiv, i_irem, i_ineg, i_iand, i_ior, i_ishl, i_ishr, i_lxor, i_ladd, i_lsub, i_lmul, i_ldiv, i_lrem, i_lneg, i_lshl, i_lcmp, i_i2l, i_l2i, i_i2b, i_i2s, i_ifeq, i_ifne, i_iflt, i_ifge, i_ifgt, i_ifle, i_cmpeq, i_cmpne, i_cmplt, i_cmpge, i_cmpgt, i_cmple, i_acmpeq, i_acmpne, i_ifnull, i_ifnonnull, i_getI, i_getR, i_putI, i_putZ, i_putR, i_ald, i_ldL, i_ldR, i_ast, i_stL, i_stR, i_alen, i_new, i_newa, i_iret, i_zret, i_lret, i_aret, i_vret, i_raise, i_throw, i_recv, i_objinit, i_tsw3, lget, lset, lput1, lput2, lkil, ltrim, largs, isL, takev, dropv, nthv, pushO, catv, gd, true_and, and_true, Option.some.injEq, Prod.mk.injEq, exists_eq_left', if_true, if_false, reduceCtorEq, Bool.false_eq_true, lcmp_ge, lcmp_lt, lcmp_le, lcmp_gt, lcmp_eq, true_or, or_true, not_true_eq_false, not_false_eq_true, false_implies, true_implies, List.length_cons, List.length_nil, q1, q4, q5, w1, w2, w3]
  have e3 : pmu D w 1 ((D (q + 1) (12 * (70 * (r : Int) + c))).natAbs : Int) (q + 1) (12 * (70 * (r : Int) + c)) = D (q + 1) (12 * (70 * (r : Int) + c)) := by simp only [pmu]; rw [if_neg (fun g => by omega)]
  rw [hab] at e3 ⊢
  rw [e3]
  have hsz : (z = 0 → Int.sign z = 0) ∧ (0 < D (q + 1) (12 * (70 * (r : Int) + c)) → Int.sign z = 1) ∧ (D (q + 1) (12 * (70 * (r : Int) + c)) < 0 → Int.sign z = -1) := by
    refine ⟨fun h => by rw [h]; rfl, fun h => ?_, fun h => ?_⟩
    · rcases sgn_cases z with g | g | g
      · exact g.1
      · rw [g.1] at z1; omega
      · rw [g.1] at z1; omega
    · rcases sgn_cases z with g | g | g
      · rw [g.1] at z1; omega
      · rw [g.1] at z1; omega
      · exact g.1
  repeat (first | refine ⟨in_small (by omega) (by omega), ?_⟩ | (show (_ → _) ∧ (_ → _); first | refine ⟨by omega, fun _ => ?_⟩ | refine ⟨fun _ => ?_, by omega⟩) | refine ⟨by omega, ?_⟩ | refine ⟨⟨_, rfl, by assumption⟩, ?_⟩ | refine ⟨okT_I _, ?_⟩ | refine call0 (gd_of rfl) ?_)
  refine ⟨fun h => ?_, fun h => ?_⟩
  · repeat (first | refine ⟨in_small (by omega) (by omega), ?_⟩ | (show (_ → _) ∧ (_ → _); first | refine ⟨by omega, fun _ => ?_⟩ | refine ⟨fun _ => ?_, by omega⟩) | refine ⟨by omega, ?_⟩ | refine ⟨⟨_, rfl, by assumption⟩, ?_⟩ | refine ⟨okT_I _, ?_⟩ | refine call0 (gd_of rfl) ?_)
    refine ⟨fun h2 => ?_, fun h2 => ?_⟩
    · have h0 := hsz.1 (hzz.mp (by omega))
      rw [h0] at mid; exact mid
    · have h0 := hsz.2.1 (by omega)
      rw [h0] at mid; exact mid
  · have h0 := hsz.2.2 (by omega)
    rw [h0] at mid; exact mid
