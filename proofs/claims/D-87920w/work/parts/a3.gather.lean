/-! the model: a number gathered to a sum -/
set_option maxRecDepth 100000
set_option linter.unusedVariables false
theorem smD.put {D D' : Dat} {s n k : Nat} {φ : Nat → Rat} {e : Nat → Nat} {x : Rat} (h : smD D s φ n e) (hk : k < n) (hx : qfit x) (he : ∀ c i, s ≤ c → c ≤ s + 1824 → c ≠ s + 4 + 2 * k → c ≠ s + 4 + 2 * k + 1 → c ≠ s + 915 + 2 * k → c ≠ s + 915 + 2 * k + 1 → D' c i = D c i) (hf : frD D' (s + 4 + 2 * k) (s + 915 + 2 * k) x) : smD D' s (pupd φ (e k) x) n e := by
  have h0 := h
  obtain ⟨h1, h2, h3, h4, h5, h6⟩ := h
  refine ⟨h1, by rw [he _ _ (by omega) (by omega) (by omega) (by omega) (by omega) (by omega)]; exact h2, fun j hj => ?_, fun z z1 z2 z3 => by rw [he _ _ (by omega) (by omega) (by omega) (by omega) (by omega) (by omega)]; exact h4 z z1 z2 z3, fun t ht hno => ?_, h6.upd (h3 k hk).1 hx⟩
  · obtain ⟨a1, a2, a3, a4⟩ := h3 j hj
    refine ⟨a1, by rw [he _ _ (by omega) (by omega) (by omega) (by omega) (by omega) (by omega)]; exact a2, by rw [he _ _ (by omega) (by omega) (by omega) (by omega) (by omega) (by omega)]; exact a3, ?_⟩
    by_cases q : j = k
    · subst q
      have : pupd φ (e j) x (e j) = x := by unfold pupd; rw [if_pos rfl]
      rw [this]; exact hf
    · have : pupd φ (e k) x (e j) = φ (e j) := by unfold pupd; rw [if_neg (fun w => q (h0.inj hj hk w))]
      rw [this]
      exact a4.congr fun c i hc => he _ _ (by omega) (by omega) (by omega) (by omega) (by omega) (by omega)
  · unfold pupd
    rw [if_neg (fun w => hno k hk w.symm)]
    exact h5 t ht hno
/-- the model's places for gathering -/
def mgS (S : Stat) (M : Nat) : Prop := mS S M ∧ S.2.1 M 10 = some (M + 17) ∧ wS 17 S (M + 17) 260 ∧ S.2.1 M 11 = some (M + 19) ∧ wS 17 S (M + 19) 260
def gaW (M s : Nat) (D D' : Dat) : Prop := ∀ c i, (c < s ∨ s + 1824 < c) → (c ≤ M ∨ M + 20 < c) → D' c i = D c i
theorem qfit_iff {x : Rat} : qfit x ↔ (x.num.natAbs : Int) < 1000 * 1000000000 ^ 13 ∧ (x.den : Int) < 1000 * 1000000000 ^ 13 := by
  unfold qfit
  constructor
  · intro h
    refine Classical.byContradiction fun q => h (qFb.nought q)
  · intro h q
    rw [qFb.one h] at q
    exact absurd q (by decide)
theorem beyond_at {E : Ex} {B : Nat × Nat} {S : Stat} {D : Dat} {w r : Nat} {z : Int} (hw : wS 17 S w r) (hz : wD 2 1 D w z) (hr : 14 ≤ r) (hr2 : r < 1000) (k : ∀ v : Int, (v = 0 ↔ (z.natAbs : Int) < 1000 * 1000000000 ^ 13) → E (.inl (some (.inl v))) B S D) : Wp P_X17_isBeyond E 0 [some (aR w)] [] B S D := by
  refine sp_X17_isBeyond hw hz hr hr2 (k _ ?_)
  by_cases q : (z.natAbs : Int) < 1000 * 1000000000 ^ 13
  · rw [if_pos q]; exact ⟨fun _ => q, fun _ => rfl⟩
  · rw [if_neg q]; exact ⟨fun h => absurd h (by decide), fun h => absurd h q⟩
theorem sgn_cast {s : Int} (hs : s = 1 ∨ s = -1) (x y : Rat) : x + (s : Rat) * y = if s = 1 then x + y else x - y := by
  rcases hs with rfl | rfl
  · rw [if_pos rfl]
    have : ((1 : Int) : Rat) = 1 := rfl
    rw [this]; grind
  · rw [if_neg (by decide)]
    have : ((-1 : Int) : Rat) = -1 := rfl
    rw [this]; grind
theorem rat_self (x : Rat) : Rat.divInt x.num (x.den : Int) = x := by
  have := Rat.num_divInt_den x
  exact this
set_option maxHeartbeats 4000000 in
theorem sp_X16_gather {E : Ex} {B : Nat × Nat} {S : Stat} {D : Dat} {M s t a b ra rb p q : Nat} {φ : Nat → Rat} {x zn zd sg : Int} (hM : mgS S M) (hs : smS S s) (ls : M + 20 < s) (hD : smP D s φ) (ht : t < 455) (hx : x = tcode t) (ha : wS 17 S a ra) (hb : wS 17 S b rb) (la : a + 1 < M ∨ M + 20 < a) (lb : b + 1 < M ∨ M + 20 < b) (la2 : a + 1 < s ∨ s + 1824 < a) (lb2 : b + 1 < s ∨ s + 1824 < b)
    (hza : wD 2 1 D a zn) (hzb : wD 2 1 D b zd) (hz0 : zd ≠ 0) (hsg : sg = 1 ∨ sg = -1) (hp : (zn.natAbs : Int) < 1000000000 ^ p) (hq : (zd.natAbs : Int) < 1000000000 ^ q) (m1 : p ≤ ra) (m2 : q ≤ rb) (m3 : p ≤ 200) (m4 : q ≤ 200) (m5 : ra ≤ 260) (m6 : rb ≤ 260)
    (K1 : ∀ D' : Dat, gaW M s D D' → qfit (φ t + sg * Rat.divInt zn zd) → smP D' s (pupd φ t (φ t + sg * Rat.divInt zn zd)) → E (.inl (some (.inl 1))) B S D')
    (K0 : ∀ D' : Dat, gaW M s D D' → ¬ qfit (φ t + sg * Rat.divInt zn zd) → smP D' s φ → E (.inl (some (.inl 0))) B S D') : Wp P_X16_gather E 0 [some (aR M), some (aR s), some (aI x), some (aR a), some (aR b), some (aI sg)] [] B S D := by
  obtain ⟨g1, g2, g3, g4, g5⟩ := hM
  have M1 := g1.1
  have hs0 := hs
  obtain ⟨s1, s2, s3, s4, s5, s6, s7, s8, s9⟩ := hs
  have s71 := s7.1
  have s91 := s9.1
  have w17 := g3.1
  have w19 := g5.1
  obtain ⟨n0, e0, hD⟩ := hD
  refine wp_in ?_
  simp only [P_X16_gather, i_kil, i_icon, i_lcon, i_null, i_loadI, i_loadL, i_loadR, i_istore, i_lstore, i_astore, i_iinc, i_dup, i_dup2, i_pop, i_iadd, i_isub, i_imul, i_idiv, i_irem, i_ineg, i_iand, i_ior, i_ishl, i_ishr, i_lxor, i_ladd, i_lsub, i_lmul, i_ldiv, i_lrem, i_lneg, i_lshl, i_lcmp, i_i2l, i_l2i, i_i2b, i_i2s, i_ifeq, i_ifne, i_iflt, i_ifge, i_ifgt, i_ifle, i_cmpeq, i_cmpne, i_cmplt, i_cmpge, i_cmpgt, i_cmple, i_acmpeq, i_acmpne, i_ifnull, i_ifnonnull, i_getI, i_getR, i_putI, i_putZ, i_putR, i_ald, i_ldL, i_ldR, i_ast, i_stL, i_stR, i_alen, i_new, i_newa, i_iret, i_zret, i_lret, i_aret, i_vret, i_raise, i_throw, i_recv, i_objinit, i_tsw3, lget, lset, lput1, lput2, lkil, ltrim, largs, isL, takev, dropv, nthv, pushO, catv, gd, true_and, and_true, Option.some.injEq, Prod.mk.injEq, exists_eq_left', if_true, if_false, reduceCtorEq, Bool.false_eq_true, lcmp_ge, lcmp_lt, lcmp_le, lcmp_gt, lcmp_eq, true_or, or_true, not_true_eq_false, not_false_eq_true, false_implies, true_implies, List.length_cons, List.length_nil]
  repeat (first | refine ⟨in_small (by omega) (by omega), ?_⟩ | (show (_ → _) ∧ (_ → _); first | refine ⟨by omega, fun _ => ?_⟩ | refine ⟨fun _ => ?_, by omega⟩) | refine ⟨by omega, ?_⟩ | refine ⟨⟨_, rfl, by assumption⟩, ?_⟩ | refine ⟨okT_I _, ?_⟩ | refine call0 (gd_of rfl) ?_)
  refine sp_X19_place hs0 hD ht hx fun D1 k n e o1 h1 hk he => ?_
  subst he
  obtain ⟨n1, n2⟩ := s7.2 k (by have := h1.1; omega)
  obtain ⟨n3, n4⟩ := s9.2 k (by have := h1.1; omega)
  have v1 := n2.1
  have v2 := n4.1
  obtain ⟨a1, a2, a3, a4⟩ := h1.2.2.1 k hk
  have hf := h1.2.2.2.2.2.1 (e k) a1
  have hk455 : k < 455 := by have := h1.1; omega
  simp only [P_X16_gather, i_kil, i_icon, i_lcon, i_null, i_loadI, i_loadL, i_loadR, i_istore, i_lstore, i_astore, i_iinc, i_dup, i_dup2, i_pop, i_iadd, i_isub, i_imul, i_idiv, i_irem, i_ineg, i_iand, i_ior, i_ishl, i_ishr, i_lxor, i_ladd, i_lsub, i_lmul, i_ldiv, i_lrem, i_lneg, i_lshl, i_lcmp, i_i2l, i_l2i, i_i2b, i_i2s, i_ifeq, i_ifne, i_iflt, i_ifge, i_ifgt, i_ifle, i_cmpeq, i_cmpne, i_cmplt, i_cmpge, i_cmpgt, i_cmple, i_acmpeq, i_acmpne, i_ifnull, i_ifnonnull, i_getI, i_getR, i_putI, i_putZ, i_putR, i_ald, i_ldL, i_ldR, i_ast, i_stL, i_stR, i_alen, i_new, i_newa, i_iret, i_zret, i_lret, i_aret, i_vret, i_raise, i_throw, i_recv, i_objinit, i_tsw3, lget, lset, lput1, lput2, lkil, ltrim, largs, isL, takev, dropv, nthv, pushO, catv, gd, true_and, and_true, Option.some.injEq, Prod.mk.injEq, exists_eq_left', if_true, if_false, reduceCtorEq, Bool.false_eq_true, lcmp_ge, lcmp_lt, lcmp_le, lcmp_gt, lcmp_eq, true_or, or_true, not_true_eq_false, not_false_eq_true, false_implies, true_implies, List.length_cons, List.length_nil, M1, g2, s1, s6, s71, n1]
  repeat (first | refine ⟨in_small (by omega) (by omega), ?_⟩ | (show (_ → _) ∧ (_ → _); first | refine ⟨by omega, fun _ => ?_⟩ | refine ⟨fun _ => ?_, by omega⟩) | refine ⟨by omega, ?_⟩ | refine ⟨⟨_, rfl, by assumption⟩, ?_⟩ | refine ⟨okT_I _, ?_⟩ | refine call0 (gd_of rfl) ?_)
  refine sp_X17_copy g3 n2 a4.1 (Int.lt_of_lt_of_le hf.n (pw_mono (by omega))) hf.n (by omega) fun D2 f1 f2 => ?_
  simp only [P_X16_gather, i_kil, i_icon, i_lcon, i_null, i_loadI, i_loadL, i_loadR, i_istore, i_lstore, i_astore, i_iinc, i_dup, i_dup2, i_pop, i_iadd, i_isub, i_imul, i_idiv, i_irem, i_ineg, i_iand, i_ior, i_ishl, i_ishr, i_lxor, i_ladd, i_lsub, i_lmul, i_ldiv, i_lrem, i_lneg, i_lshl, i_lcmp, i_i2l, i_l2i, i_i2b, i_i2s, i_ifeq, i_ifne, i_iflt, i_ifge, i_ifgt, i_ifle, i_cmpeq, i_cmpne, i_cmplt, i_cmpge, i_cmpgt, i_cmple, i_acmpeq, i_acmpne, i_ifnull, i_ifnonnull, i_getI, i_getR, i_putI, i_putZ, i_putR, i_ald, i_ldL, i_ldR, i_ast, i_stL, i_stR, i_alen, i_new, i_newa, i_iret, i_zret, i_lret, i_aret, i_vret, i_raise, i_throw, i_recv, i_objinit, i_tsw3, lget, lset, lput1, lput2, lkil, ltrim, largs, isL, takev, dropv, nthv, pushO, catv, gd, true_and, and_true, Option.some.injEq, Prod.mk.injEq, exists_eq_left', if_true, if_false, reduceCtorEq, Bool.false_eq_true, lcmp_ge, lcmp_lt, lcmp_le, lcmp_gt, lcmp_eq, true_or, or_true, not_true_eq_false, not_false_eq_true, false_implies, true_implies, List.length_cons, List.length_nil, M1, g4, s1, s8, s91, n3]
  repeat (first | refine ⟨in_small (by omega) (by omega), ?_⟩ | (show (_ → _) ∧ (_ → _); first | refine ⟨by omega, fun _ => ?_⟩ | refine ⟨fun _ => ?_, by omega⟩) | refine ⟨by omega, ?_⟩ | refine ⟨⟨_, rfl, by assumption⟩, ?_⟩ | refine ⟨okT_I _, ?_⟩ | refine call0 (gd_of rfl) ?_)
  have a42 : wD 2 1 D2 (s + 915 + 2 * k) ((φ (e k)).den : Int) := a4.2.congr (fun j => f1 _ _ (by omega) (by omega)) (fun j => f1 _ _ (by omega) (by omega))
  refine sp_X17_copy g5 n4 a42 (Int.lt_of_lt_of_le hf.d (pw_mono (by omega))) hf.d (by omega) fun D3 f3 f4 => ?_
  have fn3 : wD 2 1 D3 (M + 17) (φ (e k)).num := f2.congr (fun j => f3 _ _ (by omega) (by omega)) (fun j => f3 _ _ (by omega) (by omega))
  have hza3 : wD 2 1 D3 a zn := hza.congr (fun j => by rw [f3 _ _ (by omega) (by omega), f1 _ _ (by omega) (by omega), o1 _ _ (by omega)]) (fun j => by rw [f3 _ _ (by omega) (by omega), f1 _ _ (by omega) (by omega), o1 _ _ (by omega)])
  have hzb3 : wD 2 1 D3 b zd := hzb.congr (fun j => by rw [f3 _ _ (by omega) (by omega), f1 _ _ (by omega) (by omega), o1 _ _ (by omega)]) (fun j => by rw [f3 _ _ (by omega) (by omega), f1 _ _ (by omega) (by omega), o1 _ _ (by omega)])
  have hden : ((φ (e k)).den : Int) ≠ 0 := by have := (φ (e k)).den_pos; omega
  simp only [P_X16_gather, i_kil, i_icon, i_lcon, i_null, i_loadI, i_loadL, i_loadR, i_istore, i_lstore, i_astore, i_iinc, i_dup, i_dup2, i_pop, i_iadd, i_isub, i_imul, i_idiv, i_irem, i_ineg, i_iand, i_ior, i_ishl, i_ishr, i_lxor, i_ladd, i_lsub, i_lmul, i_ldiv, i_lrem, i_lneg, i_lshl, i_lcmp, i_i2l, i_l2i, i_i2b, i_i2s, i_ifeq, i_ifne, i_iflt, i_ifge, i_ifgt, i_ifle, i_cmpeq, i_cmpne, i_cmplt, i_cmpge, i_cmpgt, i_cmple, i_acmpeq, i_acmpne, i_ifnull, i_ifnonnull, i_getI, i_getR, i_putI, i_putZ, i_putR, i_ald, i_ldL, i_ldR, i_ast, i_stL, i_stR, i_alen, i_new, i_newa, i_iret, i_zret, i_lret, i_aret, i_vret, i_raise, i_throw, i_recv, i_objinit, i_tsw3, lget, lset, lput1, lput2, lkil, ltrim, largs, isL, takev, dropv, nthv, pushO, catv, gd, true_and, and_true, Option.some.injEq, Prod.mk.injEq, exists_eq_left', if_true, if_false, reduceCtorEq, Bool.false_eq_true, lcmp_ge, lcmp_lt, lcmp_le, lcmp_gt, lcmp_eq, true_or, or_true, not_true_eq_false, not_false_eq_true, false_implies, true_implies, List.length_cons, List.length_nil, M1, g2, g4]
  repeat (first | refine ⟨in_small (by omega) (by omega), ?_⟩ | (show (_ → _) ∧ (_ → _); first | refine ⟨by omega, fun _ => ?_⟩ | refine ⟨fun _ => ?_, by omega⟩) | refine ⟨by omega, ?_⟩ | refine ⟨⟨_, rfl, by assumption⟩, ?_⟩ | refine ⟨okT_I _, ?_⟩ | refine call0 (gd_of rfl) ?_)
  refine sp_X16_fractionAdd (p := 14) (q := 14) (p2 := p) (q2 := q) g1 g3 g5 ha hb (by omega) (by unfold mN; omega) (by unfold mN; omega) (by unfold mN; omega) (by unfold mN; omega) (by omega) fn3 f4 hza3 hzb3 hden hz0 hsg hf.n hf.d hp hq (by omega) (by omega) m1 m2 (by omega) (by omega) (by omega) (by omega) (by omega) m5 m6 (by omega) fun D4 i1 i2 i3 => ?_
  rw [rat_self] at i2 i3
  generalize hy : φ (e k) + (sg : Rat) * Rat.divInt zn zd = y at *
  have h4 : smD D4 s φ n e := h1.congr fun c j c1 c2 => by rw [i1 _ _ (by omega) (by omega) (by omega) (by omega) (by omega), f3 _ _ (by omega) (by omega), f1 _ _ (by omega) (by omega)]
  have fr4 : gaW M s D D4 := fun c j c1 c2 => by rw [i1 _ _ (by omega) (by omega) (by omega) (by omega) (by omega), f3 _ _ (by omega) (by omega), f1 _ _ (by omega) (by omega), o1 _ _ c1]
  have no : ¬ qfit y → Wp P_X16_gather E 1 [] [] B S D4 := fun hq => by
    refine wp_in ?_
    simp only [P_X16_gather, i_kil, i_icon, i_lcon, i_null, i_loadI, i_loadL, i_loadR, i_istore, i_lstore, i_astore, i_iinc, i_dup, i_dup2, i_pop, i_iadd, i_isub, i_imul, i_idiv, i_irem, i_ineg, i_iand, i_ior, i_ishl, i_ishr, i_lxor, i_ladd, i_lsub, i_lmul, i_ldiv, i_lrem, i_lneg, i_lshl, i_lcmp, i_i2l, i_l2i, i_i2b, i_i2s, i_ifeq, i_ifne, i_iflt, i_ifge, i_ifgt, i_ifle, i_cmpeq, i_cmpne, i_cmplt, i_cmpge, i_cmpgt, i_cmple, i_acmpeq, i_acmpne, i_ifnull, i_ifnonnull, i_getI, i_getR, i_putI, i_putZ, i_putR, i_ald, i_ldL, i_ldR, i_ast, i_stL, i_stR, i_alen, i_new, i_newa, i_iret, i_zret, i_lret, i_aret, i_vret, i_raise, i_throw, i_recv, i_objinit, i_tsw3, lget, lset, lput1, lput2, lkil, ltrim, largs, isL, takev, dropv, nthv, pushO, catv, gd, true_and, and_true, Option.some.injEq, Prod.mk.injEq, exists_eq_left', if_true, if_false, reduceCtorEq, Bool.false_eq_true, lcmp_ge, lcmp_lt, lcmp_le, lcmp_gt, lcmp_eq, true_or, or_true, not_true_eq_false, not_false_eq_true, false_implies, true_implies, List.length_cons, List.length_nil]
    repeat (first | refine ⟨in_small (by omega) (by omega), ?_⟩ | (show (_ → _) ∧ (_ → _); first | refine ⟨by omega, fun _ => ?_⟩ | refine ⟨fun _ => ?_, by omega⟩) | refine ⟨by omega, ?_⟩ | refine ⟨⟨_, rfl, by assumption⟩, ?_⟩ | refine ⟨okT_I _, ?_⟩ | refine call0 (gd_of rfl) ?_)
    exact K0 D4 fr4 hq ⟨n, e, h4⟩
  simp only [P_X16_gather, i_kil, i_icon, i_lcon, i_null, i_loadI, i_loadL, i_loadR, i_istore, i_lstore, i_astore, i_iinc, i_dup, i_dup2, i_pop, i_iadd, i_isub, i_imul, i_idiv, i_irem, i_ineg, i_iand, i_ior, i_ishl, i_ishr, i_lxor, i_ladd, i_lsub, i_lmul, i_ldiv, i_lrem, i_lneg, i_lshl, i_lcmp, i_i2l, i_l2i, i_i2b, i_i2s, i_ifeq, i_ifne, i_iflt, i_ifge, i_ifgt, i_ifle, i_cmpeq, i_cmpne, i_cmplt, i_cmpge, i_cmpgt, i_cmple, i_acmpeq, i_acmpne, i_ifnull, i_ifnonnull, i_getI, i_getR, i_putI, i_putZ, i_putR, i_ald, i_ldL, i_ldR, i_ast, i_stL, i_stR, i_alen, i_new, i_newa, i_iret, i_zret, i_lret, i_aret, i_vret, i_raise, i_throw, i_recv, i_objinit, i_tsw3, lget, lset, lput1, lput2, lkil, ltrim, largs, isL, takev, dropv, nthv, pushO, catv, gd, true_and, and_true, Option.some.injEq, Prod.mk.injEq, exists_eq_left', if_true, if_false, reduceCtorEq, Bool.false_eq_true, lcmp_ge, lcmp_lt, lcmp_le, lcmp_gt, lcmp_eq, true_or, or_true, not_true_eq_false, not_false_eq_true, false_implies, true_implies, List.length_cons, List.length_nil, M1, g2]
  repeat (first | refine ⟨in_small (by omega) (by omega), ?_⟩ | (show (_ → _) ∧ (_ → _); first | refine ⟨by omega, fun _ => ?_⟩ | refine ⟨fun _ => ?_, by omega⟩) | refine ⟨by omega, ?_⟩ | refine ⟨⟨_, rfl, by assumption⟩, ?_⟩ | refine ⟨okT_I _, ?_⟩ | refine call0 (gd_of rfl) ?_)
  refine beyond_at g3 i2 (by omega) (by omega) fun v hv => ?_
  simp only [P_X16_gather, i_kil, i_icon, i_lcon, i_null, i_loadI, i_loadL, i_loadR, i_istore, i_lstore, i_astore, i_iinc, i_dup, i_dup2, i_pop, i_iadd, i_isub, i_imul, i_idiv, i_irem, i_ineg, i_iand, i_ior, i_ishl, i_ishr, i_lxor, i_ladd, i_lsub, i_lmul, i_ldiv, i_lrem, i_lneg, i_lshl, i_lcmp, i_i2l, i_l2i, i_i2b, i_i2s, i_ifeq, i_ifne, i_iflt, i_ifge, i_ifgt, i_ifle, i_cmpeq, i_cmpne, i_cmplt, i_cmpge, i_cmpgt, i_cmple, i_acmpeq, i_acmpne, i_ifnull, i_ifnonnull, i_getI, i_getR, i_putI, i_putZ, i_putR, i_ald, i_ldL, i_ldR, i_ast, i_stL, i_stR, i_alen, i_new, i_newa, i_iret, i_zret, i_lret, i_aret, i_vret, i_raise, i_throw, i_recv, i_objinit, i_tsw3, lget, lset, lput1, lput2, lkil, ltrim, largs, isL, takev, dropv, nthv, pushO, catv, gd, true_and, and_true, Option.some.injEq, Prod.mk.injEq, exists_eq_left', if_true, if_false, reduceCtorEq, Bool.false_eq_true, lcmp_ge, lcmp_lt, lcmp_le, lcmp_gt, lcmp_eq, true_or, or_true, not_true_eq_false, not_false_eq_true, false_implies, true_implies, List.length_cons, List.length_nil, M1, g4]
  refine ⟨fun h => no fun w => h (hv.mpr (qfit_iff.mp w).1), fun h => ?_⟩
  repeat (first | refine ⟨in_small (by omega) (by omega), ?_⟩ | (show (_ → _) ∧ (_ → _); first | refine ⟨by omega, fun _ => ?_⟩ | refine ⟨fun _ => ?_, by omega⟩) | refine ⟨by omega, ?_⟩ | refine ⟨⟨_, rfl, by assumption⟩, ?_⟩ | refine ⟨okT_I _, ?_⟩ | refine call0 (gd_of rfl) ?_)
  refine beyond_at g5 i3 (by omega) (by omega) fun v2 hv2 => ?_
  simp only [P_X16_gather, i_kil, i_icon, i_lcon, i_null, i_loadI, i_loadL, i_loadR, i_istore, i_lstore, i_astore, i_iinc, i_dup, i_dup2, i_pop, i_iadd, i_isub, i_imul, i_idiv, i_irem, i_ineg, i_iand, i_ior, i_ishl, i_ishr, i_lxor, i_ladd, i_lsub, i_lmul, i_ldiv, i_lrem, i_lneg, i_lshl, i_lcmp, i_i2l, i_l2i, i_i2b, i_i2s, i_ifeq, i_ifne, i_iflt, i_ifge, i_ifgt, i_ifle, i_cmpeq, i_cmpne, i_cmplt, i_cmpge, i_cmpgt, i_cmple, i_acmpeq, i_acmpne, i_ifnull, i_ifnonnull, i_getI, i_getR, i_putI, i_putZ, i_putR, i_ald, i_ldL, i_ldR, i_ast, i_stL, i_stR, i_alen, i_new, i_newa, i_iret, i_zret, i_lret, i_aret, i_vret, i_raise, i_throw, i_recv, i_objinit, i_tsw3, lget, lset, lput1, lput2, lkil, ltrim, largs, isL, takev, dropv, nthv, pushO, catv, gd, true_and, and_true, Option.some.injEq, Prod.mk.injEq, exists_eq_left', if_true, if_false, reduceCtorEq, Bool.false_eq_true, lcmp_ge, lcmp_lt, lcmp_le, lcmp_gt, lcmp_eq, true_or, or_true, not_true_eq_false, not_false_eq_true, false_implies, true_implies, List.length_cons, List.length_nil, M1, g2, g4, s1, s6, s71, n1]
  refine ⟨fun h2 => ?_, fun h2 => no fun w => h2 (hv2.mpr (by have := (qfit_iff.mp w).2; omega))⟩
  have hqy : qfit y := qfit_iff.mpr ⟨hv.mp h, by have := hv2.mp h2; omega⟩
  repeat (first | refine ⟨in_small (by omega) (by omega), ?_⟩ | (show (_ → _) ∧ (_ → _); first | refine ⟨by omega, fun _ => ?_⟩ | refine ⟨fun _ => ?_, by omega⟩) | refine ⟨by omega, ?_⟩ | refine ⟨⟨_, rfl, by assumption⟩, ?_⟩ | refine ⟨okT_I _, ?_⟩ | refine call0 (gd_of rfl) ?_)
  refine sp_X17_copy n2 g3 i2 hqy.n (Int.lt_of_lt_of_le hqy.n (pw_mono (by omega))) (by omega) fun D5 j1 j2 => ?_
  simp only [P_X16_gather, i_kil, i_icon, i_lcon, i_null, i_loadI, i_loadL, i_loadR, i_istore, i_lstore, i_astore, i_iinc, i_dup, i_dup2, i_pop, i_iadd, i_isub, i_imul, i_idiv, i_irem, i_ineg, i_iand, i_ior, i_ishl, i_ishr, i_lxor, i_ladd, i_lsub, i_lmul, i_ldiv, i_lrem, i_lneg, i_lshl, i_lcmp, i_i2l, i_l2i, i_i2b, i_i2s, i_ifeq, i_ifne, i_iflt, i_ifge, i_ifgt, i_ifle, i_cmpeq, i_cmpne, i_cmplt, i_cmpge, i_cmpgt, i_cmple, i_acmpeq, i_acmpne, i_ifnull, i_ifnonnull, i_getI, i_getR, i_putI, i_putZ, i_putR, i_ald, i_ldL, i_ldR, i_ast, i_stL, i_stR, i_alen, i_new, i_newa, i_iret, i_zret, i_lret, i_aret, i_vret, i_raise, i_throw, i_recv, i_objinit, i_tsw3, lget, lset, lput1, lput2, lkil, ltrim, largs, isL, takev, dropv, nthv, pushO, catv, gd, true_and, and_true, Option.some.injEq, Prod.mk.injEq, exists_eq_left', if_true, if_false, reduceCtorEq, Bool.false_eq_true, lcmp_ge, lcmp_lt, lcmp_le, lcmp_gt, lcmp_eq, true_or, or_true, not_true_eq_false, not_false_eq_true, false_implies, true_implies, List.length_cons, List.length_nil, M1, g2, g4, s1, s8, s91, n3]
  repeat (first | refine ⟨in_small (by omega) (by omega), ?_⟩ | (show (_ → _) ∧ (_ → _); first | refine ⟨by omega, fun _ => ?_⟩ | refine ⟨fun _ => ?_, by omega⟩) | refine ⟨by omega, ?_⟩ | refine ⟨⟨_, rfl, by assumption⟩, ?_⟩ | refine ⟨okT_I _, ?_⟩ | refine call0 (gd_of rfl) ?_)
  have i35 : wD 2 1 D5 (M + 19) (y.den : Int) := i3.congr (fun j => j1 _ _ (by omega) (by omega)) (fun j => j1 _ _ (by omega) (by omega))
  refine sp_X17_copy n4 g5 i35 hqy.d (Int.lt_of_lt_of_le hqy.d (pw_mono (by omega))) (by omega) fun D6 l1 l2 => ?_
  simp only [P_X16_gather, i_kil, i_icon, i_lcon, i_null, i_loadI, i_loadL, i_loadR, i_istore, i_lstore, i_astore, i_iinc, i_dup, i_dup2, i_pop, i_iadd, i_isub, i_imul, i_idiv, i_irem, i_ineg, i_iand, i_ior, i_ishl, i_ishr, i_lxor, i_ladd, i_lsub, i_lmul, i_ldiv, i_lrem, i_lneg, i_lshl, i_lcmp, i_i2l, i_l2i, i_i2b, i_i2s, i_ifeq, i_ifne, i_iflt, i_ifge, i_ifgt, i_ifle, i_cmpeq, i_cmpne, i_cmplt, i_cmpge, i_cmpgt, i_cmple, i_acmpeq, i_acmpne, i_ifnull, i_ifnonnull, i_getI, i_getR, i_putI, i_putZ, i_putR, i_ald, i_ldL, i_ldR, i_ast, i_stL, i_stR, i_alen, i_new, i_newa, i_iret, i_zret, i_lret, i_aret, i_vret, i_raise, i_throw, i_recv, i_objinit, i_tsw3, lget, lset, lput1, lput2, lkil, ltrim, largs, isL, takev, dropv, nthv, pushO, catv, gd, true_and, and_true, Option.some.injEq, Prod.mk.injEq, exists_eq_left', if_true, if_false, reduceCtorEq, Bool.false_eq_true, lcmp_ge, lcmp_lt, lcmp_le, lcmp_gt, lcmp_eq, true_or, or_true, not_true_eq_false, not_false_eq_true, false_implies, true_implies, List.length_cons, List.length_nil]
  repeat (first | refine ⟨in_small (by omega) (by omega), ?_⟩ | (show (_ → _) ∧ (_ → _); first | refine ⟨by omega, fun _ => ?_⟩ | refine ⟨fun _ => ?_, by omega⟩) | refine ⟨by omega, ?_⟩ | refine ⟨⟨_, rfl, by assumption⟩, ?_⟩ | refine ⟨okT_I _, ?_⟩ | refine call0 (gd_of rfl) ?_)
  refine K1 D6 (fun c j c1 c2 => by rw [l1 _ _ (by omega) (by omega), j1 _ _ (by omega) (by omega)]; exact fr4 c j c1 c2) hqy ⟨n, e, h4.put hk hqy (fun c j c1 c2 c3 c4 c5 c6 => by rw [l1 _ _ c5 c6, j1 _ _ c3 c4]) ⟨j2.congr (fun j => l1 _ _ (by omega) (by omega)) (fun j => l1 _ _ (by omega) (by omega)), l2⟩⟩
/-- the sum after the terms of a polynomial from the k-th on -/
def gat (φ : Nat → Rat) (w : Nat → Nat) (v : Nat → Rat) : Nat → Nat → Rat
  | 0 => φ
  | n + 1 => pupd (gat φ w v n) (w n) (gat φ w v n (w n) + v n)
theorem gat_at {φ v : Nat → Rat} {w : Nat → Nat} : ∀ (n : Nat) (t : Nat), (∀ k, k < n → w k ≠ t) → gat φ w v n t = φ t := by
  intro n
  induction n with
  | zero => intro t _; rfl
  | succ n ih =>
    intro t h
    simp only [gat, pupd]
    rw [if_neg (fun q => h n (by omega) q.symm)]
    exact ih t fun k hk => h k (by omega)
theorem gat_in {φ v : Nat → Rat} {w : Nat → Nat} : ∀ (n : Nat), (∀ i j, i < n → j < n → w i = w j → i = j) → ∀ k, k < n → gat φ w v n (w k) = φ (w k) + v k := by
  intro n
  induction n with
  | zero => intro _ k hk; omega
  | succ n ih =>
    intro h k hk
    simp only [gat, pupd]
    by_cases q : k = n
    · subst q
      rw [if_pos rfl, gat_at k (w k) fun j hj w => by have := h j k (by omega) (by omega) w; omega]
    · rw [if_neg (fun w => q (h k n (by omega) (by omega) w))]
      exact ih (fun i j hi hj => h i j (by omega) (by omega)) k (by omega)
