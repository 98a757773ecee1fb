/-! Reckoner: divide, part, common -/
set_option maxRecDepth 100000
set_option linter.unusedVariables false
theorem rS.ne {S : Stat} {o w r : Nat} (ho : rS S o) (hw : wS 3 S w r) : w ≠ o ∧ w ≠ o + 1 ∧ w ≠ o + 2 ∧ w + 1 ≠ o ∧ w + 1 ≠ o + 1 ∧ w + 1 ≠ o + 2 := by
  obtain ⟨o1, o2, o3, o4, o5, -⟩ := ho
  have h1 := hw.1
  have h2 := hw.2.2
  have a1 : w ≠ o := fun h => by rw [h, o1] at h1; simp at h1
  have a2 : w ≠ o + 1 := fun h => by rw [h, o3] at h1; simp at h1
  have a3 : w ≠ o + 2 := fun h => by rw [h, o5] at h1; simp at h1
  exact ⟨a1, a2, a3, fun h => by rw [h, o1] at h2; simp at h2, by omega, by omega⟩
/-- the scaled divisor's top digit -/
theorem kn_norm {t x : Int} (ht : 1 ≤ t ∧ t < 1000000000) (hx : x = 1000000000 / (t + 1)) : 1 ≤ x ∧ x ≤ 500000000 ∧ x * (t + 1) ≤ 1000000000 ∧ 500000000 ≤ x * t := by
  have h1 : x * (t + 1) ≤ 1000000000 := by rw [hx]; exact Int.ediv_mul_le _ (by omega)
  have h2 : 1000000000 < (x + 1) * (t + 1) := by
    rw [hx]; exact Int.lt_ediv_add_one_mul_self _ (by omega)
  have h3 : 1 ≤ x := by rw [hx]; exact (Int.le_ediv_iff_mul_le (by omega)).mpr (by omega)
  have h4 : x ≤ 500000000 := by
    have : x * 2 ≤ x * (t + 1) := Int.mul_le_mul_of_nonneg_left (by omega) (by omega)
    omega
  refine ⟨h3, h4, h1, ?_⟩
  have e1 : x * (t + 1) = x * t + x := by rw [Int.mul_add, Int.mul_one]
  have e2 : (x + 1) * (t + 1) = x * t + x + t + 1 := by grind
  by_cases hx1 : x = 1
  · subst hx1; omega
  · by_cases ht1 : t = 1
    · subst ht1; omega
    · have h5 : 1 * 1 ≤ (x - 1) * (t - 1) := Int.mul_le_mul (by omega) (by omega) (by decide) (by omega)
      have e3 : (x - 1) * (t - 1) = x * t - x - t + 1 := by grind
      omega
/-- what division leaves outside of its results and workplaces -/
def wO4 (D D' : Dat) (o q r : Nat) : Prop := ∀ c i, c ≠ q → c ≠ q + 1 → c ≠ r → c ≠ r + 1 → c ≠ o + 1 → c ≠ o + 2 → D' c i = D c i
theorem tdivmod {a b : Int} {Q R : Int} (hb : b ≠ 0) (hQ : 0 ≤ Q) (hR : 0 ≤ R ∧ R < b.natAbs) (h : (a.natAbs : Int) = Q * b.natAbs + R) : a.tdiv b = Int.sign a * Int.sign b * Q ∧ a.tmod b = Int.sign a * R := by
  have h0 : 0 ≤ (a.natAbs : Int) := by omega
  have h1 : (a.natAbs : Int).tdiv b.natAbs = Q := by
    rw [tdiv_nn h0, h, Int.add_comm, Int.add_mul_ediv_right _ _ (by omega), Int.ediv_eq_zero_of_lt hR.1 hR.2]; omega
  have h2 : (a.natAbs : Int).tmod b.natAbs = R := by
    rw [tmod_nn h0, h, Int.add_comm, Int.add_mul_emod_self_right]; exact Int.emod_eq_of_lt hR.1 hR.2
  rcases sgn_cases a with ⟨a1, a2, a3⟩ | ⟨a1, a2⟩ | ⟨a1, a2, a3⟩
  · rcases sgn_cases b with ⟨b1, b2, b3⟩ | ⟨b1, b2⟩ | ⟨b1, b2, b3⟩
    · rw [a2, b2] at h1 h2; rw [a1, b1, h1, h2]; omega
    · exact absurd b2 hb
    · rw [a2, b2, Int.tdiv_neg] at h1; rw [a2, b2, Int.tmod_neg] at h2; rw [a1, b1, h2]; omega
  · subst a2
    rw [a1]; simp
  · rcases sgn_cases b with ⟨b1, b2, b3⟩ | ⟨b1, b2⟩ | ⟨b1, b2, b3⟩
    · rw [a2, b2, Int.neg_tdiv] at h1; rw [a2, b2, Int.neg_tmod] at h2; rw [a1, b1]; omega
    · exact absurd b2 hb
    · rw [a2, b2, Int.neg_tdiv, Int.tdiv_neg] at h1; rw [a2, b2, Int.neg_tmod, Int.tmod_neg] at h2; rw [a1, b1]; omega
set_option maxHeartbeats 2000000 in
/-- the last part of the division: the rest is scaled back, both results are closed -/
theorem sp_X2_divide2 {E : Ex} {B : Nat × Nat} {S : Stat} {D3 : Dat} {o q r a b rq rr ra rb d m : Nat} {x y f : Int} (ho : rS S o) (hq : wS 3 S q rq) (hr : wS 3 S r rr) (ha : wS 3 S a ra) (hb : wS 3 S b rb) (nqr : q ≠ r) (nqa : q ≠ a) (nqb : q ≠ b) (nra : r ≠ a) (nrb : r ≠ b) (hy0 : y ≠ 0) (hxy : (y.natAbs : Int) ≤ x.natAbs) (hf : 1 ≤ f ∧ f ≤ 500000000)
    (ha3 : D3 a 2 = Int.sign x) (hb3 : D3 b 2 = Int.sign y) (hd : d + 1 ≤ rr) (hd4 : d + 1 ≤ 320) (hm : m + 1 ≤ rq) (m1 : rq < 1000) (m2 : rr < 1000) (hu3 : dok (D3 (o + 1)) (d + 1)) (hq3 : dok (D3 (q + 1)) (m + 1)) (hlt3 : dv (D3 (o + 1)) (d + 1) < f * y.natAbs) (hv3 : f * x.natAbs = dv (D3 (q + 1)) (m + 1) * (f * y.natAbs) + dv (D3 (o + 1)) (d + 1))
    (k : ∀ D' : Dat, (∀ c i, c ≠ q → c ≠ q + 1 → c ≠ r → c ≠ r + 1 → D' c i = D3 c i) → wD 1 2 D' q (x.tdiv y) → wD 1 2 D' r (x.tmod y) → E (.inl none) B S D') :
    ∀ (l : Nat) (left : Int) (D' : Dat), l ≤ d + 1 → (0 ≤ left ∧ left < f) → (∀ c i, c ≠ r + 1 → D' c i = D3 c i) → (∀ i : Int, l ≤ i → i < (d + 1 : Nat) → 0 ≤ D' (r + 1) i ∧ D' (r + 1) i < 1000000000) → dv (sh (D3 (o + 1)) l) (d + 1 - l) = dv (sh (D' (r + 1)) l) (d + 1 - l) * f + left →
        Wp P_X2_divide E 2 [some (aR o), some (aR q), some (aR r), some (aR a), some (aR b), some (aI ((d + 1 : Nat) : Int)), some (aI m), some (aL f), none, some (aL left), none, some (aI ((l : Int) - 1))] [] B S D' := by
  have hq0 := hq
  have hr0 := hr
  obtain ⟨nq1, nq2, nq3, nq4, nq5, nq6⟩ := ho.ne hq
  obtain ⟨nr1, nr2, nr3, nr4, nr5, nr6⟩ := ho.ne hr
  obtain ⟨na1, na2, na3, na4, na5, na6⟩ := ho.ne ha
  obtain ⟨nb1, nb2, nb3, nb4, nb5, nb6⟩ := ho.ne hb
  obtain ⟨aqr1, aqr2, aqr3⟩ := wS.apart (by decide) (by decide) hq hr nqr
  obtain ⟨aqa1, aqa2, aqa3⟩ := wS.apart (by decide) (by decide) hq ha nqa
  obtain ⟨aqb1, aqb2, aqb3⟩ := wS.apart (by decide) (by decide) hq hb nqb
  obtain ⟨ara1, ara2, ara3⟩ := wS.apart (by decide) (by decide) hr ha nra
  obtain ⟨arb1, arb2, arb3⟩ := wS.apart (by decide) (by decide) hr hb nrb
  obtain ⟨o1, o2, o3, o4, o5, -⟩ := ho
  obtain ⟨q1, q2, q3⟩ := hq
  obtain ⟨r1, r2, r3⟩ := hr
  obtain ⟨u1, u2, u3⟩ := ha
  obtain ⟨v1, v2, v3⟩ := hb
  intro l
  induction l with
  | zero =>
    intro left D' hl hlf hk hrd hval
    have e0 : ∀ g : Int → Int, sh g 0 = g := fun g => by funext i; simp [sh]
    simp only [show ((0 : Nat) : Int) = 0 from rfl, e0, Nat.sub_zero] at hval hrd
    have hrok : dok (D' (r + 1)) (d + 1) := fun i h0 h1 => hrd i h0 h1
    obtain ⟨Q, hQ⟩ : ∃ Q, Q = dv (D3 (q + 1)) (m + 1) := ⟨_, rfl⟩
    obtain ⟨R, hR⟩ : ∃ R, R = dv (D' (r + 1)) (d + 1) := ⟨_, rfl⟩
    have hQn := dv_nn hq3
    have hRn := dv_nn hrok
    rw [← hQ] at hv3 hQn
    rw [← hR] at hval hRn
    rw [hval] at hlt3 hv3
    have hzero : left = f * (x.natAbs - Q * y.natAbs - R) := by rw [Int.mul_sub, Int.mul_sub, hv3]; grind
    have hl0 : left = 0 := by
      rw [hzero] at hlf
      have h1 : f * 0 ≤ f * (x.natAbs - Q * y.natAbs - R) := by rw [Int.mul_zero]; exact hlf.1
      have h2 : f * (x.natAbs - Q * y.natAbs - R) < f * 1 := by rw [Int.mul_one]; exact hlf.2
      have h3 := Int.le_of_mul_le_mul_left h1 (by omega)
      have h4 := Int.lt_of_mul_lt_mul_left h2 (by omega)
      rw [hzero, show (x.natAbs : Int) - Q * y.natAbs - R = 0 by omega, Int.mul_zero]
    have hxe : (x.natAbs : Int) = Q * y.natAbs + R := by
      rw [hl0] at hzero
      rcases Int.mul_eq_zero.mp hzero.symm with h | h <;> omega
    have hRlt : R < y.natAbs := by
      rw [hl0, Int.add_zero, Int.mul_comm] at hlt3
      exact Int.lt_of_mul_lt_mul_left hlt3 (by omega)
    obtain ⟨eq1, eq2⟩ := tdivmod (a := x) (b := y) (Q := Q) (R := R) hy0 hQn.1 ⟨hRn.1, hRlt⟩ hxe
    have ha2 : D' a 2 = Int.sign x := by rw [hk a 2 (by omega)]; exact ha3
    have hb2 : D' b 2 = Int.sign y := by rw [hk b 2 (by omega)]; exact hb3
    have hsx : Int.sign x = 1 ∨ Int.sign x = -1 := by rcases sgn_cases x with h | h | h <;> omega
    have hsy : Int.sign y = 1 ∨ Int.sign y = -1 := by rcases sgn_cases y with h | h | h <;> omega
    refine wp_in ?_
    simp only [P_X2_divide, i_kil, i_icon, i_lcon, i_null, i_loadI, i_loadL, i_loadR, i_istore, i_lstore, i_astore, i_iinc, i_dup, i_dup2, i_pop, i_iadd, i_isub, i_imul, i_idiv, i_irem, i_ineg, i_iand, i_ior, i_ishl, i_ishr, i_lxor, i_ladd, i_lsub, i_lmul, i_ldiv, i_lrem, i_lneg, i_lshl, i_lcmp, i_i2l, i_l2i, i_i2b, i_i2s, i_ifeq, i_ifne, i_iflt, i_ifge, i_ifgt, i_ifle, i_cmpeq, i_cmpne, i_cmplt, i_cmpge, i_cmpgt, i_cmple, i_acmpeq, i_acmpne, i_ifnull, i_ifnonnull, i_getI, i_getR, i_putI, i_putZ, i_putR, i_ald, i_ldL, i_ldR, i_ast, i_stL, i_stR, i_alen, i_new, i_newa, i_iret, i_zret, i_lret, i_aret, i_vret, i_raise, i_throw, i_recv, i_objinit, i_tsw3, lget, lset, lput1, lput2, lkil, ltrim, largs, isL, takev, dropv, nthv, pushO, catv, gd, true_and, and_true, Option.some.injEq, Prod.mk.injEq, exists_eq_left', if_true, if_false, reduceCtorEq, Bool.false_eq_true, lcmp_ge, lcmp_lt, lcmp_le, lcmp_gt, lcmp_eq, true_or, or_true, not_true_eq_false, not_false_eq_true, false_implies, true_implies, List.length_cons, List.length_nil, o1, o2, o3, o4, o5, q1, q2, q3, r1, r2, r3, u1, v1]
    refine ⟨fun _ => ?_, fun h => by omega⟩
    refine ⟨⟨r, rfl, r1⟩, call0 (gd_of rfl) ?_⟩
    refine sp_X3_trim hr0 (d + 1) _ (by simp [pmu]) (by omega) m2 (hrok.congr fun i h0 h1 => by simp [pmu]) fun D5 mr g1 g2 g3 g4 g5 g6 => ?_
    simp only [P_X2_divide, i_kil, i_icon, i_lcon, i_null, i_loadI, i_loadL, i_loadR, i_istore, i_lstore, i_astore, i_iinc, i_dup, i_dup2, i_pop, i_iadd, i_isub, i_imul, i_idiv, i_irem, i_ineg, i_iand, i_ior, i_ishl, i_ishr, i_lxor, i_ladd, i_lsub, i_lmul, i_ldiv, i_lrem, i_lneg, i_lshl, i_lcmp, i_i2l, i_l2i, i_i2b, i_i2s, i_ifeq, i_ifne, i_iflt, i_ifge, i_ifgt, i_ifle, i_cmpeq, i_cmpne, i_cmplt, i_cmpge, i_cmpgt, i_cmple, i_acmpeq, i_acmpne, i_ifnull, i_ifnonnull, i_getI, i_getR, i_putI, i_putZ, i_putR, i_ald, i_ldL, i_ldR, i_ast, i_stL, i_stR, i_alen, i_new, i_newa, i_iret, i_zret, i_lret, i_aret, i_vret, i_raise, i_throw, i_recv, i_objinit, i_tsw3, lget, lset, lput1, lput2, lkil, ltrim, largs, isL, takev, dropv, nthv, pushO, catv, gd, true_and, and_true, Option.some.injEq, Prod.mk.injEq, exists_eq_left', if_true, if_false, reduceCtorEq, Bool.false_eq_true, lcmp_ge, lcmp_lt, lcmp_le, lcmp_gt, lcmp_eq, true_or, or_true, not_true_eq_false, not_false_eq_true, false_implies, true_implies, List.length_cons, List.length_nil, o1, o2, o3, o4, o5, q1, q2, q3, r1, u1, v1]
    have er : ∀ z w : Int, pmu (pmu D' r 1 z) r 2 w (r + 1) = D' (r + 1) := fun z w => by funext i; simp [pmu]
    rw [er] at g4 g5
    have e5 : D5 (q + 1) = D3 (q + 1) := by
      funext i
      rw [g1 _ i (by omega)]
      simp only [pmu]
      rw [if_neg (fun h => by omega), if_neg (fun h => by omega)]
      exact hk _ i (by omega)
    have ka : D5 a 2 = Int.sign x := by
      rw [g1 _ _ (Ne.symm nra)]
      simp only [pmu]
      rw [if_neg (fun h => nra h.1.symm), if_neg (fun h => nra h.1.symm)]; exact ha2
    have kb : D5 b 2 = Int.sign y := by
      rw [g1 _ _ (Ne.symm nrb)]
      simp only [pmu]
      rw [if_neg (fun h => nrb h.1.symm), if_neg (fun h => nrb h.1.symm)]; exact hb2
    have kr : (if mr = 0 then (0 : Int) else Int.sign x) = D5 r 2 := by
      rw [g6]; split
      · rfl
      · simp [pmu, nra, Ne.symm nra, ha2]
    refine ⟨in_small (by omega) (by omega), ?_⟩
    have k1 : ∀ w : Int, pmu D5 q 1 w a 2 = Int.sign x := fun w => by simp only [pmu]; rw [if_neg (fun h => nqa h.1.symm)]; exact ka
    have k2 : ∀ w : Int, pmu D5 q 1 w b 2 = Int.sign y := fun w => by simp only [pmu]; rw [if_neg (fun h => nqb h.1.symm)]; exact kb
    rw [k1, k2]
    have hxy2 : Int.sign x * Int.sign y = 1 ∨ Int.sign x * Int.sign y = -1 := by
      rcases hsx with h | h <;> rcases hsy with h' | h' <;> rw [h, h'] <;> decide
    refine ⟨in_small (by omega) (by omega), ⟨q, rfl, q1⟩, call0 (gd_of rfl) ?_⟩
    have eq : ∀ z w : Int, pmu (pmu D5 q 1 z) q 2 w (q + 1) = D3 (q + 1) := fun z w => by rw [← e5]; funext i; simp [pmu]
    refine sp_X3_trim hq0 (m + 1) _ (by simp [pmu]) (by omega) m1 (by rw [eq]; exact hq3) fun D7 mq f1 f2 f3 f4 f5 f6 => ?_
    simp only [P_X2_divide, i_kil, i_icon, i_lcon, i_null, i_loadI, i_loadL, i_loadR, i_istore, i_lstore, i_astore, i_iinc, i_dup, i_dup2, i_pop, i_iadd, i_isub, i_imul, i_idiv, i_irem, i_ineg, i_iand, i_ior, i_ishl, i_ishr, i_lxor, i_ladd, i_lsub, i_lmul, i_ldiv, i_lrem, i_lneg, i_lshl, i_lcmp, i_i2l, i_l2i, i_i2b, i_i2s, i_ifeq, i_ifne, i_iflt, i_ifge, i_ifgt, i_ifle, i_cmpeq, i_cmpne, i_cmplt, i_cmpge, i_cmpgt, i_cmple, i_acmpeq, i_acmpne, i_ifnull, i_ifnonnull, i_getI, i_getR, i_putI, i_putZ, i_putR, i_ald, i_ldL, i_ldR, i_ast, i_stL, i_stR, i_alen, i_new, i_newa, i_iret, i_zret, i_lret, i_aret, i_vret, i_raise, i_throw, i_recv, i_objinit, i_tsw3, lget, lset, lput1, lput2, lkil, ltrim, largs, isL, takev, dropv, nthv, pushO, catv, gd, true_and, and_true, Option.some.injEq, Prod.mk.injEq, exists_eq_left', if_true, if_false, reduceCtorEq, Bool.false_eq_true, lcmp_ge, lcmp_lt, lcmp_le, lcmp_gt, lcmp_eq, true_or, or_true, not_true_eq_false, not_false_eq_true, false_implies, true_implies, List.length_cons, List.length_nil]
    rw [eq] at f4 f5
    have e7 : D7 (q + 1) = D3 (q + 1) := by
      funext i
      rw [f1 _ i (by omega), eq]
    have d7 : ∀ c i, c ≠ q → D7 c i = D5 c i := fun c i h => by
      rw [f1 c i h]; simp only [pmu]
      rw [if_neg (fun g => h g.1), if_neg (fun g => h g.1)]
    have r7 : D7 (r + 1) = D' (r + 1) := by
      funext i
      rw [d7 _ i (by omega), g1 _ i (by omega), er]
    refine k D7 (fun c i c1 c2 c3 c4 => ?_) ?_ ?_
    · rw [d7 c i c1, g1 c i c3]
      simp only [pmu]
      rw [if_neg (fun h => c3 h.1), if_neg (fun h => c3 h.1)]
      exact hk c i c4
    · rw [eq1, hQ, ← f5]
      have := wD.mk (kn := 1) (ks := 2) (D := D7) (w := q) (n := mq) (s := D7 q 2) f3 (by rw [e7]; exact f4) rfl (by
        rw [f6]; split
        · exact .inl ⟨by assumption, rfl⟩
        · refine .inr ⟨by omega, ?_⟩
          simp only [pmu, and_self, if_true]; exact hxy2)
      rw [f6, e7] at this
      by_cases hz : mq = 0
      · subst hz
        simp only [dv, Int.mul_zero] at this ⊢
        exact this
      · rw [if_neg hz] at this
        simp only [pmu, and_self, if_true] at this
        exact this
    · rw [eq2, hR, ← g5]
      have := wD.mk (kn := 1) (ks := 2) (D := D7) (w := r) (n := mr) (s := D7 r 2) (by rw [d7 r _ (Ne.symm nqr)]; exact g3) (by rw [r7]; exact g4) rfl (by
        rw [d7 r _ (Ne.symm nqr), ← kr]; split
        · exact .inl ⟨by assumption, rfl⟩
        · exact .inr ⟨by omega, hsx⟩)
      rw [d7 r _ (Ne.symm nqr), ← kr, r7] at this
      by_cases hz : mr = 0
      · subst hz
        simp only [dv, Int.mul_zero] at this ⊢
        exact this
      · rw [if_neg hz] at this
        exact this
  | succ j ih =>
    intro left D' hl hlf hk hrd hval
    rw [show ((j + 1 : Nat) : Int) - 1 = j by omega]
    refine wp_in ?_
    simp only [P_X2_divide, i_kil, i_icon, i_lcon, i_null, i_loadI, i_loadL, i_loadR, i_istore, i_lstore, i_astore, i_iinc, i_dup, i_dup2, i_pop, i_iadd, i_isub, i_imul, i_idiv, i_irem, i_ineg, i_iand, i_ior, i_ishl, i_ishr, i_lxor, i_ladd, i_lsub, i_lmul, i_ldiv, i_lrem, i_lneg, i_lshl, i_lcmp, i_i2l, i_l2i, i_i2b, i_i2s, i_ifeq, i_ifne, i_iflt, i_ifge, i_ifgt, i_ifle, i_cmpeq, i_cmpne, i_cmplt, i_cmpge, i_cmpgt, i_cmple, i_acmpeq, i_acmpne, i_ifnull, i_ifnonnull, i_getI, i_getR, i_putI, i_putZ, i_putR, i_ald, i_ldL, i_ldR, i_ast, i_stL, i_stR, i_alen, i_new, i_newa, i_iret, i_zret, i_lret, i_aret, i_vret, i_raise, i_throw, i_recv, i_objinit, i_tsw3, lget, lset, lput1, lput2, lkil, ltrim, largs, isL, takev, dropv, nthv, pushO, catv, gd, true_and, and_true, Option.some.injEq, Prod.mk.injEq, exists_eq_left', if_true, if_false, reduceCtorEq, Bool.false_eq_true, lcmp_ge, lcmp_lt, lcmp_le, lcmp_gt, lcmp_eq, true_or, or_true, not_true_eq_false, not_false_eq_true, false_implies, true_implies, List.length_cons, List.length_nil, o1, o2, o3, o4, o5, q1, q2, q3, r1, r2, r3, u1, v1]
    have euj : D' (o + 1) j = D3 (o + 1) j := hk (o + 1) j (by omega)
    have cuj := hu3 j (by omega) (by omega)
    rw [euj]
    obtain ⟨s, hs⟩ : ∃ s, s = left * 1000000000 + D3 (o + 1) j := ⟨_, rfl⟩
    rw [← hs]
    have hs0 : 0 ≤ s ∧ s < f * 1000000000 := by
      have : left * 1000000000 ≤ (f - 1) * 1000000000 := Int.mul_le_mul_of_nonneg_right (by omega) (by omega)
      omega
    have t1 := Int.ediv_mul_le s (show f ≠ 0 by omega)
    have t2 := Int.lt_ediv_add_one_mul_self s (show 0 < f by omega)
    have t3 : 0 ≤ s / f := Int.ediv_nonneg hs0.1 (by omega)
    have t4 : s / f < 1000000000 := (Int.ediv_lt_iff_lt_mul (by omega)).mpr (by rw [Int.mul_comm]; exact hs0.2)
    have t5 : s = s / f * f + s % f := by rw [Int.mul_comm]; exact (Int.mul_ediv_add_emod s f).symm
    have t6 := Int.emod_nonneg s (show f ≠ 0 by omega)
    have t7 := Int.emod_lt_of_pos s (show 0 < f by omega)
    rw [tdiv_nn hs0.1, tmod_nn hs0.1]
    refine ⟨fun h => by omega, fun _ => ⟨by unfold inL; omega, by omega, by omega, by unfold inL; omega, by omega, by unfold inL; omega, in_small (by omega) (by omega), by omega, by omega, by simp [okT], by omega, by unfold inL; omega, in_small (by omega) (by omega), ?_⟩⟩
    have ez : ∀ i, pmu D' (r + 1) j (s / f) (r + 1) i = if i = j then s / f else D' (r + 1) i := fun i => by simp [pmu]
    refine ih (s % f) _ (by omega) ⟨t6, t7⟩ (fun c i c1 => ?_) (fun i h0 h1 => ?_) ?_
    · simp only [pmu]; rw [if_neg (fun h => c1 h.1)]; exact hk c i c1
    · rw [ez]; split
      · exact ⟨t3, t4⟩
      · exact hrd i (by omega) h1
    · obtain ⟨z, hz⟩ : ∃ z, d + 1 - j = z + 1 := ⟨d - j, by omega⟩
      rw [show d + 1 - (j + 1) = z by omega] at hval
      rw [hz, dv_head, dv_head, sh_sh, sh_sh]
      have e1 : dv (sh (pmu D' (r + 1) j (s / f) (r + 1)) (j + 1)) z = dv (sh (D' (r + 1)) ((j + 1 : Nat) : Int)) z := by
        refine dv_congr fun i h0 h1 => ?_
        simp only [sh]
        rw [ez, if_neg (by omega)]
        congr 1
      rw [e1, show (j : Int) + 1 = ((j + 1 : Nat) : Int) by omega, hval]
      simp only [sh, Int.add_zero]
      rw [ez, if_pos rfl]
      grind
set_option maxHeartbeats 2000000 in
theorem sp_X2_divide {E : Ex} {B : Nat × Nat} {S : Stat} {D : Dat} {o q r a b rq rr ra rb p : Nat} {x y : Int} (ho : rS S o) (hq : wS 3 S q rq) (hr : wS 3 S r rr) (ha : wS 3 S a ra) (hb : wS 3 S b rb) (nqr : q ≠ r) (nqa : q ≠ a) (nqb : q ≠ b) (nra : r ≠ a) (nrb : r ≠ b) (hx : wD 1 2 D a x) (hy : wD 1 2 D b y) (hy0 : y ≠ 0) (hp : (x.natAbs : Int) < 1000000000 ^ p) (hp2 : (y.natAbs : Int) < 1000000000 ^ rb) (l1 : p ≤ ra) (l2 : p ≤ rq) (l3 : p ≤ rr) (l4 : 3 ≤ rq) (m1 : rq < 1000) (m2 : rr < 1000) (m3 : ra < 1000) (m4 : rb < 320) (m5 : p < 319)
    (k : ∀ D' : Dat, wO4 D D' o q r → wD 1 2 D' q (x.tdiv y) → wD 1 2 D' r (x.tmod y) → E (.inl none) B S D') : Wp P_X2_divide E 0 [some (aR o), some (aR q), some (aR r), some (aR a), some (aR b)] [] B S D := by
  have ho0 := ho
  have hq0 := hq
  have hr0 := hr
  have ha0 := ha
  have hb0 := hb
  obtain ⟨nq1, nq2, nq3, nq4, nq5, nq6⟩ := ho.ne hq
  obtain ⟨nr1, nr2, nr3, nr4, nr5, nr6⟩ := ho.ne hr
  obtain ⟨na1, na2, na3, na4, na5, na6⟩ := ho.ne ha
  obtain ⟨nb1, nb2, nb3, nb4, nb5, nb6⟩ := ho.ne hb
  obtain ⟨aqr1, aqr2, aqr3⟩ := wS.apart (by decide) (by decide) hq hr nqr
  obtain ⟨aqa1, aqa2, aqa3⟩ := wS.apart (by decide) (by decide) hq ha nqa
  obtain ⟨aqb1, aqb2, aqb3⟩ := wS.apart (by decide) (by decide) hq hb nqb
  obtain ⟨ara1, ara2, ara3⟩ := wS.apart (by decide) (by decide) hr ha nra
  obtain ⟨arb1, arb2, arb3⟩ := wS.apart (by decide) (by decide) hr hb nrb
  obtain ⟨na, hna, a1, a2, a3, a4⟩ := hx.nat hp
  obtain ⟨n, hn, b1, b2, b3, b4⟩ := hy.nat hp2
  obtain ⟨o1, o2, o3, o4, o5, -⟩ := ho
  obtain ⟨q1, q2, q3⟩ := hq
  obtain ⟨r1, r2, r3⟩ := hr
  obtain ⟨u1, u2, u3⟩ := ha
  obtain ⟨v1, v2, v3⟩ := hb
  have hn0 : 1 ≤ n := by
    rcases Nat.eq_zero_or_pos n with h | h
    · subst h; simp only [dv] at b4; omega
    · exact h
  have hpow : (x.natAbs : Int) < 1000000000 ^ ra := Int.lt_of_lt_of_le hp (pw_mono l1)
  refine wp_in ?_
  simp only [P_X2_divide, i_kil, i_icon, i_lcon, i_null, i_loadI, i_loadL, i_loadR, i_istore, i_lstore, i_astore, i_iinc, i_dup, i_dup2, i_pop, i_iadd, i_isub, i_imul, i_idiv, i_irem, i_ineg, i_iand, i_ior, i_ishl, i_ishr, i_lxor, i_ladd, i_lsub, i_lmul, i_ldiv, i_lrem, i_lneg, i_lshl, i_lcmp, i_i2l, i_l2i, i_i2b, i_i2s, i_ifeq, i_ifne, i_iflt, i_ifge, i_ifgt, i_ifle, i_cmpeq, i_cmpne, i_cmplt, i_cmpge, i_cmpgt, i_cmple, i_acmpeq, i_acmpne, i_ifnull, i_ifnonnull, i_getI, i_getR, i_putI, i_putZ, i_putR, i_ald, i_ldL, i_ldR, i_ast, i_stL, i_stR, i_alen, i_new, i_newa, i_iret, i_zret, i_lret, i_aret, i_vret, i_raise, i_throw, i_recv, i_objinit, i_tsw3, lget, lset, lput1, lput2, lkil, ltrim, largs, isL, takev, dropv, nthv, pushO, catv, gd, true_and, and_true, Option.some.injEq, Prod.mk.injEq, exists_eq_left', if_true, if_false, reduceCtorEq, Bool.false_eq_true, lcmp_ge, lcmp_lt, lcmp_le, lcmp_gt, lcmp_eq, true_or, or_true, not_true_eq_false, not_false_eq_true, false_implies, true_implies, List.length_cons, List.length_nil, o1, o2, o3, o4, o5, q1, r1, u1, v1]
  refine ⟨⟨o, rfl, o1⟩, call0 (gd_of rfl) ?_⟩
  refine sp_X2_against ha0 hb0 hx hy hpow hp2 m3 (by omega) fun c hc1 hc2 => ?_
  simp only [P_X2_divide, i_kil, i_icon, i_lcon, i_null, i_loadI, i_loadL, i_loadR, i_istore, i_lstore, i_astore, i_iinc, i_dup, i_dup2, i_pop, i_iadd, i_isub, i_imul, i_idiv, i_irem, i_ineg, i_iand, i_ior, i_ishl, i_ishr, i_lxor, i_ladd, i_lsub, i_lmul, i_ldiv, i_lrem, i_lneg, i_lshl, i_lcmp, i_i2l, i_l2i, i_i2b, i_i2s, i_ifeq, i_ifne, i_iflt, i_ifge, i_ifgt, i_ifle, i_cmpeq, i_cmpne, i_cmplt, i_cmpge, i_cmpgt, i_cmple, i_acmpeq, i_acmpne, i_ifnull, i_ifnonnull, i_getI, i_getR, i_putI, i_putZ, i_putR, i_ald, i_ldL, i_ldR, i_ast, i_stL, i_stR, i_alen, i_new, i_newa, i_iret, i_zret, i_lret, i_aret, i_vret, i_raise, i_throw, i_recv, i_objinit, i_tsw3, lget, lset, lput1, lput2, lkil, ltrim, largs, isL, takev, dropv, nthv, pushO, catv, gd, true_and, and_true, Option.some.injEq, Prod.mk.injEq, exists_eq_left', if_true, if_false, reduceCtorEq, Bool.false_eq_true, lcmp_ge, lcmp_lt, lcmp_le, lcmp_gt, lcmp_eq, true_or, or_true, not_true_eq_false, not_false_eq_true, false_implies, true_implies, List.length_cons, List.length_nil, o1, o2, o3, o4, o5, q1, r1, u1, v1, v2, v3]
  refine ⟨fun hge => ?_, fun hlt => ?_⟩
  · have hxy : (y.natAbs : Int) ≤ x.natAbs := by have := mt hc1.mpr (by omega); omega
    have hnn : n ≤ na := by
      rcases Nat.lt_or_ge na n with h | h
      · have := dv_lt_of_size a2 b2 h; omega
      · exact h
    obtain ⟨m, rfl⟩ : ∃ m, na = n + m := ⟨na - n, by omega⟩
    obtain ⟨t, ht⟩ : ∃ t, t = D (b + 1) ((n : Int) - 1) := ⟨_, rfl⟩
    have ht1 : 1 ≤ t ∧ t < 1000000000 := by
      have h1 := b2.1 ((n : Int) - 1) (by omega) (by omega)
      have h2 := b2.2 (by omega)
      omega
    obtain ⟨f, hf⟩ : ∃ f, f = 1000000000 / (t + 1) := ⟨_, rfl⟩
    obtain ⟨f1, f2, f3, f4⟩ := kn_norm ht1 hf
    rw [a1, b1, ← ht, tdiv_nn (by decide), ← hf]
    refine ⟨in_small (by omega) (by omega), in_small (by omega) (by omega), by omega, by omega, by unfold inL; omega, by omega, by unfold inL; omega, ⟨o, rfl, o1⟩, call0 (gd_of rfl) ?_⟩
    refine sp_X2_scale o3 ha0 (by omega) a1 a2.1 (by omega) (by omega) ⟨f1, by omega⟩ fun D1 g1 g2 g3 => ?_
    simp only [P_X2_divide, i_kil, i_icon, i_lcon, i_null, i_loadI, i_loadL, i_loadR, i_istore, i_lstore, i_astore, i_iinc, i_dup, i_dup2, i_pop, i_iadd, i_isub, i_imul, i_idiv, i_irem, i_ineg, i_iand, i_ior, i_ishl, i_ishr, i_lxor, i_ladd, i_lsub, i_lmul, i_ldiv, i_lrem, i_lneg, i_lshl, i_lcmp, i_i2l, i_l2i, i_i2b, i_i2s, i_ifeq, i_ifne, i_iflt, i_ifge, i_ifgt, i_ifle, i_cmpeq, i_cmpne, i_cmplt, i_cmpge, i_cmpgt, i_cmple, i_acmpeq, i_acmpne, i_ifnull, i_ifnonnull, i_getI, i_getR, i_putI, i_putZ, i_putR, i_ald, i_ldL, i_ldR, i_ast, i_stL, i_stR, i_alen, i_new, i_newa, i_iret, i_zret, i_lret, i_aret, i_vret, i_raise, i_throw, i_recv, i_objinit, i_tsw3, lget, lset, lput1, lput2, lkil, ltrim, largs, isL, takev, dropv, nthv, pushO, catv, gd, true_and, and_true, Option.some.injEq, Prod.mk.injEq, exists_eq_left', if_true, if_false, reduceCtorEq, Bool.false_eq_true, lcmp_ge, lcmp_lt, lcmp_le, lcmp_gt, lcmp_eq, true_or, or_true, not_true_eq_false, not_false_eq_true, false_implies, true_implies, List.length_cons, List.length_nil, o1, o2, o3, o4, o5, q1, r1, u1, v1]
    refine ⟨⟨o, rfl, o1⟩, call0 (gd_of rfl) ?_⟩
    have eb : D1 (b + 1) = D (b + 1) := funext fun i => g1 _ i (by omega)
    refine sp_X2_scale o5 hb0 (by omega) (n := n) (by rw [g1 b 1 (by omega)]; exact b1) (by rw [eb]; exact b2.1) (by omega) (by omega) ⟨f1, by omega⟩ fun D2 h1 h2 h3 => ?_
    rw [eb] at h3
    have eu : D2 (o + 1) = D1 (o + 1) := funext fun i => h1 _ i (by omega)
    rw [← eu] at g2 g3
    rw [← a4] at g3
    rw [← b4] at h3
    have hoff : ∀ c i, c ≠ o + 1 → c ≠ o + 2 → D2 c i = D c i := fun c i c1 c2 => by rw [h1 c i c2, g1 c i c1]
    simp only [P_X2_divide, i_kil, i_icon, i_lcon, i_null, i_loadI, i_loadL, i_loadR, i_istore, i_lstore, i_astore, i_iinc, i_dup, i_dup2, i_pop, i_iadd, i_isub, i_imul, i_idiv, i_irem, i_ineg, i_iand, i_ior, i_ishl, i_ishr, i_lxor, i_ladd, i_lsub, i_lmul, i_ldiv, i_lrem, i_lneg, i_lshl, i_lcmp, i_i2l, i_l2i, i_i2b, i_i2s, i_ifeq, i_ifne, i_iflt, i_ifge, i_ifgt, i_ifle, i_cmpeq, i_cmpne, i_cmplt, i_cmpge, i_cmpgt, i_cmple, i_acmpeq, i_acmpne, i_ifnull, i_ifnonnull, i_getI, i_getR, i_putI, i_putZ, i_putR, i_ald, i_ldL, i_ldR, i_ast, i_stL, i_stR, i_alen, i_new, i_newa, i_iret, i_zret, i_lret, i_aret, i_vret, i_raise, i_throw, i_recv, i_objinit, i_tsw3, lget, lset, lput1, lput2, lkil, ltrim, largs, isL, takev, dropv, nthv, pushO, catv, gd, true_and, and_true, Option.some.injEq, Prod.mk.injEq, exists_eq_left', if_true, if_false, reduceCtorEq, Bool.false_eq_true, lcmp_ge, lcmp_lt, lcmp_le, lcmp_gt, lcmp_eq, true_or, or_true, not_true_eq_false, not_false_eq_true, false_implies, true_implies, List.length_cons, List.length_nil, o1, o2, o3, o4, o5, q1, r1, u1, v1]
    -- the divisor, scaled
    obtain ⟨d, rfl⟩ : ∃ d, n = d + 1 := ⟨n - 1, by omega⟩
    have edn : ((d + 1 : Nat) : Int) - 1 = d := by omega
    rw [edn] at ht
    have hby : (y.natAbs : Int) < (t + 1) * 1000000000 ^ d := by
      rw [b4]; simp only [dv]; rw [← ht, Int.add_mul]
      have := dv_nn (b2.1.mono (Nat.le_succ d)); omega
    have hby2 : t * 1000000000 ^ d ≤ y.natAbs := by
      rw [b4]; simp only [dv]; rw [← ht]
      have := dv_nn (b2.1.mono (Nat.le_succ d)); omega
    have hpd := pw_pos d
    obtain ⟨V, hV⟩ : ∃ V, V = f * y.natAbs := ⟨_, rfl⟩
    have hVlt : V < 1000000000 ^ (d + 1) := by
      have e1 : f * y.natAbs < f * ((t + 1) * 1000000000 ^ d) := Int.mul_lt_mul_of_pos_left hby (by omega)
      have e2 : f * (t + 1) * 1000000000 ^ d ≤ 1000000000 * 1000000000 ^ d := Int.mul_le_mul_of_nonneg_right f3 (by omega)
      rw [← Int.mul_assoc] at e1
      rw [pw_succ]; omega
    have hVge : f * t * 1000000000 ^ d ≤ V := by
      have e1 : f * (t * 1000000000 ^ d) ≤ f * y.natAbs := Int.mul_le_mul_of_nonneg_left hby2 (by omega)
      rw [← Int.mul_assoc] at e1
      omega
    rw [← hV] at h3
    have hdv := dv_nn (h2.mono (Nat.le_succ (d + 1)))
    have hz : D2 (o + 2) ((d + 1 : Nat) : Int) = 0 := by
      have h4 := h2 ((d + 1 : Nat) : Int) (by omega) (by omega)
      rcases Int.lt_or_le 0 (D2 (o + 2) ((d + 1 : Nat) : Int)) with h | h
      · exfalso
        have e1 : 1 * 1000000000 ^ (d + 1) ≤ D2 (o + 2) ((d + 1 : Nat) : Int) * 1000000000 ^ (d + 1) := Int.mul_le_mul_of_nonneg_right (by omega) (by have := pw_pos (d + 1); omega)
        simp only [dv] at h3 hdv
        omega
      · omega
    have hVd : dv (D2 (o + 2)) (d + 1) = V := by
      have e1 : dv (D2 (o + 2)) (d + 1 + 1) = dv (D2 (o + 2)) (d + 1) + D2 (o + 2) ((d + 1 : Nat) : Int) * 1000000000 ^ (d + 1) := rfl
      rw [hz] at e1; omega
    have hv1 : 500000000 ≤ D2 (o + 2) (((d + 1 : Nat) : Int) - 1) := by
      rw [edn]
      have e1 : dv (D2 (o + 2)) (d + 1) = dv (D2 (o + 2)) d + D2 (o + 2) (d : Int) * 1000000000 ^ d := rfl
      have e2 := dv_nn (h2.mono (show d ≤ d + 1 + 1 by omega))
      have e3 : 500000000 * 1000000000 ^ d ≤ f * t * 1000000000 ^ d := Int.mul_le_mul_of_nonneg_right f4 (by omega)
      have e4 : 500000000 * 1000000000 ^ d < (D2 (o + 2) (d : Int) + 1) * 1000000000 ^ d := by rw [Int.add_mul]; omega
      have := Int.lt_of_mul_lt_mul_right e4 (by omega)
      omega
    have hVpos : 0 < V := by
      have e3 : 500000000 * 1000000000 ^ d ≤ f * t * 1000000000 ^ d := Int.mul_le_mul_of_nonneg_right f4 (by omega)
      omega
    have main : ∀ (l : Nat) (D' : Dat), l ≤ m + 1 → (∀ c i, c ≠ o + 1 → c ≠ q + 1 → D' c i = D2 c i) → dok (D' (o + 1)) (d + 1 + m + 1) → (∀ i : Int, l ≤ i → i < (m + 1 : Nat) → 0 ≤ D' (q + 1) i ∧ D' (q + 1) i < 1000000000) → dv (sh (D' (o + 1)) l) (d + 1) < V → f * x.natAbs = (dv (sh (D' (q + 1)) l) (m + 1 - l) * V + dv (sh (D' (o + 1)) l) (d + 1)) * 1000000000 ^ l + dv (D' (o + 1)) l →
        Wp P_X2_divide E 1 [some (aR o), some (aR q), some (aR r), some (aR a), some (aR b), some (aI ((d + 1 : Nat) : Int)), some (aI m), some (aL f), none, some (aI ((l : Int) - 1))] [] B S D' := by
      intro l
      induction l with
      | zero =>
        intro D' hl hk hd hqd hlt hv
        refine wp_in ?_
        simp only [P_X2_divide, i_kil, i_icon, i_lcon, i_null, i_loadI, i_loadL, i_loadR, i_istore, i_lstore, i_astore, i_iinc, i_dup, i_dup2, i_pop, i_iadd, i_isub, i_imul, i_idiv, i_irem, i_ineg, i_iand, i_ior, i_ishl, i_ishr, i_lxor, i_ladd, i_lsub, i_lmul, i_ldiv, i_lrem, i_lneg, i_lshl, i_lcmp, i_i2l, i_l2i, i_i2b, i_i2s, i_ifeq, i_ifne, i_iflt, i_ifge, i_ifgt, i_ifle, i_cmpeq, i_cmpne, i_cmplt, i_cmpge, i_cmpgt, i_cmple, i_acmpeq, i_acmpne, i_ifnull, i_ifnonnull, i_getI, i_getR, i_putI, i_putZ, i_putR, i_ald, i_ldL, i_ldR, i_ast, i_stL, i_stR, i_alen, i_new, i_newa, i_iret, i_zret, i_lret, i_aret, i_vret, i_raise, i_throw, i_recv, i_objinit, i_tsw3, lget, lset, lput1, lput2, lkil, ltrim, largs, isL, takev, dropv, nthv, pushO, catv, gd, true_and, and_true, Option.some.injEq, Prod.mk.injEq, exists_eq_left', if_true, if_false, reduceCtorEq, Bool.false_eq_true, lcmp_ge, lcmp_lt, lcmp_le, lcmp_gt, lcmp_eq, true_or, or_true, not_true_eq_false, not_false_eq_true, false_implies, true_implies, List.length_cons, List.length_nil, o1, o2, o3, o4, o5, q1, r1, u1, v1]
        refine ⟨fun _ => ⟨in_small (by omega) (by omega), ?_⟩, fun h => by omega⟩
        have hfr : ∀ c i, c ≠ o + 1 → c ≠ q + 1 → c ≠ o + 2 → D' c i = D c i := fun c i c2 c3 c4 => by rw [hk c i c2 c3, hoff c i c2 c4]
        have e0 : ∀ g : Int → Int, sh g 0 = g := fun g => by funext i; simp [sh]
        simp only [show ((0 : Nat) : Int) = 0 from rfl, e0, dv, Int.pow_zero, Int.mul_one, Int.add_zero, Nat.sub_zero] at hlt hv
        refine sp_X2_divide2 ho0 hq0 hr0 ha0 hb0 nqr nqa nqb nra nrb hy0 hxy ⟨f1, f2⟩ (by rw [hfr a 2 (by omega) (by omega) (by omega)]; exact a3) (by rw [hfr b 2 (by omega) (by omega) (by omega)]; exact b3) (by omega) (by omega) (by omega) m1 m2 (hd.mono (by omega)) (fun i h0 h1 => hqd i (by omega) h1) (by rw [← hV]; exact hlt) (by rw [← hV]; exact hv) (fun D'' k1 k2 k3 => k D'' (fun c i c1 c2 c3 c4 c5 c6 => by rw [k1 c i c1 c2 c3 c4, hfr c i c5 c2 c6]) k2 k3) (d + 1) 0 D' (Nat.le_refl _) (by omega) (fun _ _ _ => rfl) (fun i h0 h1 => by omega) (by simp [dv])
      | succ j ih =>
        intro D' hl hk hd hqd hlt hv
        rw [show ((j + 1 : Nat) : Int) - 1 = j by omega]
        refine wp_in ?_
        simp only [P_X2_divide, i_kil, i_icon, i_lcon, i_null, i_loadI, i_loadL, i_loadR, i_istore, i_lstore, i_astore, i_iinc, i_dup, i_dup2, i_pop, i_iadd, i_isub, i_imul, i_idiv, i_irem, i_ineg, i_iand, i_ior, i_ishl, i_ishr, i_lxor, i_ladd, i_lsub, i_lmul, i_ldiv, i_lrem, i_lneg, i_lshl, i_lcmp, i_i2l, i_l2i, i_i2b, i_i2s, i_ifeq, i_ifne, i_iflt, i_ifge, i_ifgt, i_ifle, i_cmpeq, i_cmpne, i_cmplt, i_cmpge, i_cmpgt, i_cmple, i_acmpeq, i_acmpne, i_ifnull, i_ifnonnull, i_getI, i_getR, i_putI, i_putZ, i_putR, i_ald, i_ldL, i_ldR, i_ast, i_stL, i_stR, i_alen, i_new, i_newa, i_iret, i_zret, i_lret, i_aret, i_vret, i_raise, i_throw, i_recv, i_objinit, i_tsw3, lget, lset, lput1, lput2, lkil, ltrim, largs, isL, takev, dropv, nthv, pushO, catv, gd, true_and, and_true, Option.some.injEq, Prod.mk.injEq, exists_eq_left', if_true, if_false, reduceCtorEq, Bool.false_eq_true, lcmp_ge, lcmp_lt, lcmp_le, lcmp_gt, lcmp_eq, true_or, or_true, not_true_eq_false, not_false_eq_true, false_implies, true_implies, List.length_cons, List.length_nil, o1, o2, o3, o4, o5, q1, q2, q3, r1, u1, v1]
        refine ⟨fun h => by omega, fun _ => ⟨⟨o, rfl, o1⟩, call0 (gd_of rfl) ?_⟩⟩
        have cuj := hd j (by omega) (by omega)
        have ev : D' (o + 2) = D2 (o + 2) := funext fun i => hk _ i (by omega) (by omega)
        have ehead : dv (sh (D' (o + 1)) j) (d + 1 + 1) = D' (o + 1) j + 1000000000 * dv (sh (D' (o + 1)) ((j + 1 : Nat) : Int)) (d + 1) := by
          rw [dv_head, sh_sh, show ((j + 1 : Nat) : Int) = (j : Int) + 1 by omega]
          simp [sh]
        have hUn := dv_nn (dok_sh (j := j + 1) (m := d + 1) hd (by omega))
        obtain ⟨T, hT⟩ : ∃ T, T = dv (sh (D' (o + 1)) j) (d + 1 + 1) := ⟨_, rfl⟩
        have hTB : 0 ≤ T ∧ T < 1000000000 * V := by rw [hT, ehead]; omega
        have hqq : T / V * V ≤ T ∧ T < (T / V + 1) * V := ⟨Int.ediv_mul_le _ (by omega), Int.lt_ediv_add_one_mul_self _ hVpos⟩
        have hq0' : 0 ≤ T / V := Int.ediv_nonneg hTB.1 (by omega)
        have hqB : T / V < 1000000000 := (Int.ediv_lt_iff_lt_mul hVpos).mpr hTB.2
        refine sp_X2_digit (q := T / V) ho0 (by omega) (by omega) (dok_sh hd (by omega)) (by rw [ev]; exact h2.mono (Nat.le_succ _)) (by rw [ev]; exact hv1) hq0' hqB (by rw [ev, hVd, ← hT]; exact hqq.1) (by rw [ev, hVd, ← hT]; exact hqq.2) fun D'' s1 s2 s3 s4 => ?_
        rw [ev, hVd, ← hT] at s4
        simp only [P_X2_divide, i_kil, i_icon, i_lcon, i_null, i_loadI, i_loadL, i_loadR, i_istore, i_lstore, i_astore, i_iinc, i_dup, i_dup2, i_pop, i_iadd, i_isub, i_imul, i_idiv, i_irem, i_ineg, i_iand, i_ior, i_ishl, i_ishr, i_lxor, i_ladd, i_lsub, i_lmul, i_ldiv, i_lrem, i_lneg, i_lshl, i_lcmp, i_i2l, i_l2i, i_i2b, i_i2s, i_ifeq, i_ifne, i_iflt, i_ifge, i_ifgt, i_ifle, i_cmpeq, i_cmpne, i_cmplt, i_cmpge, i_cmpgt, i_cmple, i_acmpeq, i_acmpne, i_ifnull, i_ifnonnull, i_getI, i_getR, i_putI, i_putZ, i_putR, i_ald, i_ldL, i_ldR, i_ast, i_stL, i_stR, i_alen, i_new, i_newa, i_iret, i_zret, i_lret, i_aret, i_vret, i_raise, i_throw, i_recv, i_objinit, i_tsw3, lget, lset, lput1, lput2, lkil, ltrim, largs, isL, takev, dropv, nthv, pushO, catv, gd, true_and, and_true, Option.some.injEq, Prod.mk.injEq, exists_eq_left', if_true, if_false, reduceCtorEq, Bool.false_eq_true, lcmp_ge, lcmp_lt, lcmp_le, lcmp_gt, lcmp_eq, true_or, or_true, not_true_eq_false, not_false_eq_true, false_implies, true_implies, List.length_cons, List.length_nil, o1, o2, o3, o4, o5, q1, q2, q3, r1, u1, v1]
        refine ⟨by omega, by omega, by simp [okT], in_small (by omega) (by omega), ?_⟩
        generalize T / V = dg at *
        have eo : ∀ i, pmu D'' (q + 1) j dg (o + 1) i = D'' (o + 1) i := fun i => by simp only [pmu]; rw [if_neg (fun h => nq5 h.1.symm)]
        have eo' : pmu D'' (q + 1) j dg (o + 1) = D'' (o + 1) := funext eo
        have eqd : ∀ i, pmu D'' (q + 1) j dg (q + 1) i = if i = j then dg else D' (q + 1) i := fun i => by
          simp only [pmu, true_and]; split
          · rfl
          · exact s1 _ i (fun h => nq5 h.1)
        have elow : dv (D'' (o + 1)) j = dv (D' (o + 1)) j := dv_congr fun i h0 h1 => s1 _ i (fun h => by omega)
        refine ih _ (by omega) (fun c i c1 c2 => ?_) ?_ (fun i h0 h1 => ?_) ?_ ?_
        · simp only [pmu]; rw [if_neg (fun h => c2 h.1), s1 c i (fun h => c1 h.1)]; exact hk c i c1 c2
        · rw [eo']
          intro i h0 h1
          by_cases hi : (j : Int) ≤ i ∧ i ≤ j + (d + 1 : Nat)
          · have := s2 (i - j) (by omega) (by omega)
            simp only [sh] at this
            rw [show (j : Int) + (i - j) = i by omega] at this
            exact this
          · rw [s1 _ i (fun h => hi ⟨h.2.1, h.2.2⟩)]; exact hd i h0 h1
        · rw [eqd]; split
          · exact ⟨hq0', hqB⟩
          · exact hqd i (by omega) h1
        · rw [eo', s4]; rw [Int.add_mul] at hqq; omega
        · rw [eo', s4, elow, hv]
          have e5 : dv (sh (pmu D'' (q + 1) j dg (q + 1)) j) (m + 1 - j) = dg + 1000000000 * dv (sh (D' (q + 1)) ((j + 1 : Nat) : Int)) (m + 1 - (j + 1)) := by
            obtain ⟨z, hz⟩ : ∃ z, m + 1 - j = z + 1 := ⟨m - j, by omega⟩
            rw [hz, show m + 1 - (j + 1) = z by omega, dv_head, sh_sh]
            congr 1
            · simp [sh, eqd]
            · congr 1
              refine dv_congr fun i h0 h1 => ?_
              simp only [sh]
              rw [eqd, if_neg (by omega)]
              congr 1
          rw [e5, hT, ehead, pw_succ]
          simp only [dv]
          generalize dv (sh (D' (q + 1)) ((j + 1 : Nat) : Int)) (m + 1 - (j + 1)) = Q1
          generalize dv (sh (D' (o + 1)) ((j + 1 : Nat) : Int)) (d + 1) = R1
          generalize (1000000000 : Int) ^ j = Pj
          generalize dv (D' (o + 1)) j = L1
          generalize D' (o + 1) (j : Int) = u1
          grind
    rw [show ((d + 1 + m : Nat) : Int) - ((d + 1 : Nat) : Int) = m by omega]
    have hst := main (m + 1) D2 (Nat.le_refl _) (fun _ _ _ _ => rfl) (g2.mono (by omega)) (fun i h0 h1 => by omega) ?_ ?_
    · rw [show ((m + 1 : Nat) : Int) - 1 = m by omega] at hst
      exact hst
    · -- the top of the scaled number is less than the divisor
      have e1 := dv_sh (f := D2 (o + 1)) (j := m + 1) (n := d + 1)
      rw [show m + 1 + (d + 1) = d + 1 + m + 1 by omega, g3] at e1
      have e2 := dv_nn (g2.mono (show m + 1 ≤ d + 1 + m + 1 by omega))
      have e3 : (x.natAbs : Int) < 1000000000 ^ (d + (m + 1)) := by
        rw [a4, show d + (m + 1) = d + 1 + m by omega]; exact (dv_nn a2.1).2
      have e4 : f * x.natAbs < f * (1000000000 ^ d * 1000000000 ^ (m + 1)) := by rw [← pw_add]; exact Int.mul_lt_mul_of_pos_left e3 (by omega)
      have e5 : f * 1 * 1000000000 ^ d ≤ f * t * 1000000000 ^ d := Int.mul_le_mul_of_nonneg_right (Int.mul_le_mul_of_nonneg_left ht1.1 (by omega)) (by omega)
      have e6 : dv (sh (D2 (o + 1)) ((m + 1 : Nat) : Int)) (d + 1) * 1000000000 ^ (m + 1) < f * 1000000000 ^ d * 1000000000 ^ (m + 1) := by rw [Int.mul_assoc]; omega
      have := Int.lt_of_mul_lt_mul_right e6 (by have := pw_pos (m + 1); omega)
      rw [Int.mul_one] at e5
      omega
    · have e1 := dv_sh (f := D2 (o + 1)) (j := m + 1) (n := d + 1)
      rw [show m + 1 + (d + 1) = d + 1 + m + 1 by omega, g3] at e1
      rw [Nat.sub_self]
      simp only [dv, Int.zero_mul, Int.zero_add]
      simp only [dv] at e1
      omega
  · have hxy : (x.natAbs : Int) < y.natAbs := hc1.mp hlt
    refine ⟨⟨r, rfl, r1⟩, call0 (gd_of rfl) ?_⟩
    refine sp_X3_be hr0 ha0 nra hx (Int.lt_of_lt_of_le hp (pw_mono l3)) hpow m2 fun D1 g1 g2 => ?_
    simp only [P_X2_divide, i_kil, i_icon, i_lcon, i_null, i_loadI, i_loadL, i_loadR, i_istore, i_lstore, i_astore, i_iinc, i_dup, i_dup2, i_pop, i_iadd, i_isub, i_imul, i_idiv, i_irem, i_ineg, i_iand, i_ior, i_ishl, i_ishr, i_lxor, i_ladd, i_lsub, i_lmul, i_ldiv, i_lrem, i_lneg, i_lshl, i_lcmp, i_i2l, i_l2i, i_i2b, i_i2s, i_ifeq, i_ifne, i_iflt, i_ifge, i_ifgt, i_ifle, i_cmpeq, i_cmpne, i_cmplt, i_cmpge, i_cmpgt, i_cmple, i_acmpeq, i_acmpne, i_ifnull, i_ifnonnull, i_getI, i_getR, i_putI, i_putZ, i_putR, i_ald, i_ldL, i_ldR, i_ast, i_stL, i_stR, i_alen, i_new, i_newa, i_iret, i_zret, i_lret, i_aret, i_vret, i_raise, i_throw, i_recv, i_objinit, i_tsw3, lget, lset, lput1, lput2, lkil, ltrim, largs, isL, takev, dropv, nthv, pushO, catv, gd, true_and, and_true, Option.some.injEq, Prod.mk.injEq, exists_eq_left', if_true, if_false, reduceCtorEq, Bool.false_eq_true, lcmp_ge, lcmp_lt, lcmp_le, lcmp_gt, lcmp_eq, true_or, or_true, not_true_eq_false, not_false_eq_true, false_implies, true_implies, List.length_cons, List.length_nil, o1, o2, o3, o4, o5, q1, r1, u1, v1]
    refine ⟨⟨q, rfl, q1⟩, call0 (gd_of rfl) ?_⟩
    refine sp_X3_set hq0 l4 m1 (by omega) fun D2 g3 g4 => ?_
    simp only [P_X2_divide, i_kil, i_icon, i_lcon, i_null, i_loadI, i_loadL, i_loadR, i_istore, i_lstore, i_astore, i_iinc, i_dup, i_dup2, i_pop, i_iadd, i_isub, i_imul, i_idiv, i_irem, i_ineg, i_iand, i_ior, i_ishl, i_ishr, i_lxor, i_ladd, i_lsub, i_lmul, i_ldiv, i_lrem, i_lneg, i_lshl, i_lcmp, i_i2l, i_l2i, i_i2b, i_i2s, i_ifeq, i_ifne, i_iflt, i_ifge, i_ifgt, i_ifle, i_cmpeq, i_cmpne, i_cmplt, i_cmpge, i_cmpgt, i_cmple, i_acmpeq, i_acmpne, i_ifnull, i_ifnonnull, i_getI, i_getR, i_putI, i_putZ, i_putR, i_ald, i_ldL, i_ldR, i_ast, i_stL, i_stR, i_alen, i_new, i_newa, i_iret, i_zret, i_lret, i_aret, i_vret, i_raise, i_throw, i_recv, i_objinit, i_tsw3, lget, lset, lput1, lput2, lkil, ltrim, largs, isL, takev, dropv, nthv, pushO, catv, gd, true_and, and_true, Option.some.injEq, Prod.mk.injEq, exists_eq_left', if_true, if_false, reduceCtorEq, Bool.false_eq_true, lcmp_ge, lcmp_lt, lcmp_le, lcmp_gt, lcmp_eq, true_or, or_true, not_true_eq_false, not_false_eq_true, false_implies, true_implies, List.length_cons, List.length_nil]
    obtain ⟨e1, e2⟩ := tdivmod (a := x) (b := y) (Q := 0) (R := x.natAbs) hy0 (by omega) (by omega) (by omega)
    refine k D2 (fun c i c1 c2 c3 c4 c5 c6 => by rw [g3 c i c1 c2, g1 c i c3 c4]) ?_ ?_
    · rw [e1, Int.mul_zero]; exact g4
    · rw [e2, ← sgn_mul_abs]
      exact g2.off g3 (by decide) (by decide) hr0 hq0 (Ne.symm nqr)
