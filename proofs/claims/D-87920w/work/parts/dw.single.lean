/-! the component's need; one letter at most: single -/
-- needs: dv.small
set_option maxRecDepth 100000
set_option linter.unusedVariables false
section SNG
variable {C : Nat} {S : Stat}
/-- the component's failures -/
def faS (S : Stat) (C : Nat) : Prop := S.2.1 C 0 = some (C + 1) ∧ S.1 (C + 1) = some (111, 8) ∧ ∀ k : Nat, 1 ≤ k → k ≤ 7 → S.2.1 (C + 1) k = some (C + 727 + k) ∧ S.1 (C + 727 + k) = some (14, 0)
theorem sp_X0_need {E : Ex} {B : Nat × Nat} {D : Dat} {v x : Int} {k : Nat} (hC : S.1 C = some (0, 0)) (hF : faS S C) (hk : 1 ≤ k ∧ k ≤ 7) (hx : x = -(k : Int)) (K0 : v = 0 → E (.inr (C + 727 + k)) B S D) (K1 : v ≠ 0 → E (.inl none) B S D) : Wp P_X0_need E 0 [some (aR C), some (aI v), some (aI x)] [] B S D := by
  subst hx
  obtain ⟨f1, f2, f3⟩ := hF
  obtain ⟨f4, f5⟩ := f3 k hk.1 hk.2
  refine wp_in ?_
  simp only [P_X0_need, i_kil, i_icon, i_lcon, i_null, i_loadI, i_loadL, i_loadR, i_istore, i_lstore, i_astore, i_iinc, i_dup, i_dup2, i_pop, i_iadd, i_isub, i_imul, i_idiv, i_irem, i_ineg, i_iand, i_ior, i_ishl, i_ishr, i_lxor, i_ladd, i_lsub, i_lmul, i_ldiv, i_lrem, i_lneg, i_lshl, i_lcmp, i_i2l, i_l2i, i_i2b, i_i2s, i_ifeq, i_ifne, i_iflt, i_ifge, i_ifgt, i_ifle, i_cmpeq, i_cmpne, i_cmplt, i_cmpge, i_cmpgt, i_cmple, i_acmpeq, i_acmpne, i_ifnull, i_ifnonnull, i_getI, i_getR, i_putI, i_putZ, i_putR, i_ald, i_ldL, i_ldR, i_ast, i_stL, i_stR, i_alen, i_new, i_newa, i_iret, i_zret, i_lret, i_aret, i_vret, i_raise, i_throw, i_recv, i_objinit, i_tsw3, lget, lset, lput1, lput2, lkil, ltrim, largs, isL, takev, dropv, nthv, pushO, catv, gd, true_and, and_true, Option.some.injEq, Prod.mk.injEq, exists_eq_left', if_true, if_false, reduceCtorEq, Bool.false_eq_true, lcmp_ge, lcmp_lt, lcmp_le, lcmp_gt, lcmp_eq, true_or, or_true, not_true_eq_false, not_false_eq_true, false_implies, true_implies, List.length_cons, List.length_nil, hC]
  refine ⟨fun w => K1 w, fun w => ?_⟩
  repeat (first | refine ⟨in_small (by omega) (by omega), ?_⟩ | (show (_ → _) ∧ (_ → _); first | refine ⟨by omega, fun _ => ?_⟩ | refine ⟨fun _ => ?_, by omega⟩) | refine ⟨by omega, ?_⟩ | refine ⟨⟨_, rfl, by assumption⟩, ?_⟩ | refine ⟨okT_I _, ?_⟩ | refine call0 (gd_of rfl) ?_)
  refine wp_in ?_
  simp only [P_X0_failure, i_kil, i_icon, i_lcon, i_null, i_loadI, i_loadL, i_loadR, i_istore, i_lstore, i_astore, i_iinc, i_dup, i_dup2, i_pop, i_iadd, i_isub, i_imul, i_idiv, i_irem, i_ineg, i_iand, i_ior, i_ishl, i_ishr, i_lxor, i_ladd, i_lsub, i_lmul, i_ldiv, i_lrem, i_lneg, i_lshl, i_lcmp, i_i2l, i_l2i, i_i2b, i_i2s, i_ifeq, i_ifne, i_iflt, i_ifge, i_ifgt, i_ifle, i_cmpeq, i_cmpne, i_cmplt, i_cmpge, i_cmpgt, i_cmple, i_acmpeq, i_acmpne, i_ifnull, i_ifnonnull, i_getI, i_getR, i_putI, i_putZ, i_putR, i_ald, i_ldL, i_ldR, i_ast, i_stL, i_stR, i_alen, i_new, i_newa, i_iret, i_zret, i_lret, i_aret, i_vret, i_raise, i_throw, i_recv, i_objinit, i_tsw3, lget, lset, lput1, lput2, lkil, ltrim, largs, isL, takev, dropv, nthv, pushO, catv, gd, true_and, and_true, Option.some.injEq, Prod.mk.injEq, exists_eq_left', if_true, if_false, reduceCtorEq, Bool.false_eq_true, lcmp_ge, lcmp_lt, lcmp_le, lcmp_gt, lcmp_eq, true_or, or_true, not_true_eq_false, not_false_eq_true, false_implies, true_implies, List.length_cons, List.length_nil, hC, f1, f2]
  repeat (first | refine ⟨in_small (by omega) (by omega), ?_⟩ | (show (_ → _) ∧ (_ → _); first | refine ⟨by omega, fun _ => ?_⟩ | refine ⟨fun _ => ?_, by omega⟩) | refine ⟨by omega, ?_⟩ | refine ⟨⟨_, rfl, by assumption⟩, ?_⟩ | refine ⟨okT_I _, ?_⟩ | refine call0 (gd_of rfl) ?_)
  rw [Int.neg_neg, f4]
  exact ⟨f5, K0 w⟩
def usum (φ : Nat → Rat) (k : Nat) : Nat → Int
  | 0 => 0
  | t + 1 => usum φ k t + (if φ t = 0 then 0 else if tdg t = k then (φ t).num else 0)
theorem usum_none {φ : Nat → Rat} {k : Nat} : ∀ n, (∀ t, t < n → φ t ≠ 0 → tdg t ≠ k) → usum φ k n = 0
  | 0, _ => rfl
  | n + 1, h => by
    show usum φ k n + _ = 0
    rw [usum_none n fun t ht => h t (by omega)]
    split
    · rfl
    · rename_i q
      rw [if_neg (h n (by omega) q)]; rfl
theorem usum_at {φ : Nat → Rat} {k s : Nat} (h0 : φ s ≠ 0) (hk : tdg s = k) : ∀ n, s < n → (∀ t, t < n → φ t ≠ 0 → tdg t = k → t = s) → usum φ k n = (φ s).num
  | 0, h, _ => absurd h (Nat.not_lt_zero _)
  | n + 1, h, hu => by
    show usum φ k n + _ = _
    rcases Nat.decEq n s with q | q
    · rw [usum_at h0 hk n (by omega) fun t ht => hu t (by omega)]
      split
      · exact Int.add_zero _
      · rename_i q2
        rw [if_neg fun w => q (hu n (by omega) q2 w)]; exact Int.add_zero _
    · subst q
      rw [usum_none n fun t ht w1 w2 => by have := hu t (by omega) w1 w2; omega, if_neg h0, if_pos hk]
      exact Int.zero_add _
theorem usum_abs {φ : Nat → Rat} {k : Nat} (h : isPln φ 99) : ∀ n, n ≤ 455 → ((usum φ k n).natAbs : Int) ≤ 99 * n
  | 0, _ => by show ((0 : Int).natAbs : Int) ≤ _; decide
  | n + 1, hn => by
    have a := usum_abs (k := k) h n (by omega)
    have b := (h n (by omega)).2
    show ((usum φ k n + _).natAbs : Int) ≤ _
    split
    · omega
    · split <;> omega
theorem mask_or : ∀ x : Fin 8, ∀ l : Fin 3, orI ((x : Nat) : Int) (shlI 1 ((l : Nat) : Int)) = (((x : Nat) ||| (1 <<< (l : Nat)) : Nat) : Int) ∧ ((x : Nat) ||| (1 <<< (l : Nat))) < 8 ∧ ∀ j : Fin 3, ((x : Nat) ||| (1 <<< (l : Nat))).testBit j = (Nat.testBit x j || decide (j = l)) := by decide +kernel
theorem mask_no : ∀ x : Fin 8, orI ((x : Nat) : Int) 0 = ((x : Nat) : Int) := by decide +kernel
theorem mask_one : ∀ x : Fin 8, ((x : Nat) = 0 ∨ (x : Nat) = 1 ∨ (x : Nat) = 2 ∨ (x : Nat) = 4) ↔ ∃ l : Fin 3, ∀ j : Fin 3, j ≠ l → Nat.testBit x j = false := by decide +kernel
/-- which letters the terms below have -/
def mskI (φ : Nat → Rat) (m n : Nat) : Prop := m < 8 ∧ ∀ j, j < 3 → (m.testBit j = true ↔ ∃ t, t < n ∧ φ t ≠ 0 ∧ txl j t ≠ 0)
/-- and with the first letters of one more -/
def mskJ (φ : Nat → Rat) (m n b : Nat) : Prop := m < 8 ∧ ∀ j, j < 3 → (m.testBit j = true ↔ (∃ t, t < n ∧ φ t ≠ 0 ∧ txl j t ≠ 0) ∨ (j < b ∧ txl j n ≠ 0))
theorem mskI.toJ {φ : Nat → Rat} {m n : Nat} (h : mskI φ m n) : mskJ φ m n 0 := ⟨h.1, fun j hj => ⟨fun w => .inl ((h.2 j hj).mp w), fun w => by
  rcases w with w | w
  · exact (h.2 j hj).mpr w
  · exact absurd w.1 (Nat.not_lt_zero _)⟩⟩
theorem mskJ.toI {φ : Nat → Rat} {m n : Nat} (h : mskJ φ m n 3) (h0 : φ n ≠ 0) : mskI φ m (n + 1) := ⟨h.1, fun j hj => ⟨fun w => by
    rcases (h.2 j hj).mp w with ⟨t, q1, q2, q3⟩ | ⟨_, q⟩
    · exact ⟨t, by omega, q2, q3⟩
    · exact ⟨n, by omega, h0, q⟩, fun ⟨t, q1, q2, q3⟩ => (h.2 j hj).mpr (by
    rcases Nat.decEq t n with q | q
    · exact .inl ⟨t, by omega, q2, q3⟩
    · subst q; exact .inr ⟨hj, q3⟩)⟩⟩
theorem mskI.skip {φ : Nat → Rat} {m n : Nat} (h : mskI φ m n) (h0 : φ n = 0) : mskI φ m (n + 1) := ⟨h.1, fun j hj => ⟨fun w => by
    obtain ⟨t, q1, q2, q3⟩ := (h.2 j hj).mp w
    exact ⟨t, by omega, q2, q3⟩, fun ⟨t, q1, q2, q3⟩ => (h.2 j hj).mpr ⟨t, by
    have : t ≠ n := fun w => by subst w; exact q2 h0
    omega, q2, q3⟩⟩⟩
theorem mskJ.no {φ : Nat → Rat} {m n b : Nat} (h : mskJ φ m n b) (hb : b < 3) (h0 : txl b n = 0) : mskJ φ m n (b + 1) := ⟨h.1, fun j hj => by
  rw [h.2 j hj]
  constructor
  · rintro (w | ⟨w1, w2⟩)
    · exact .inl w
    · exact .inr ⟨by omega, w2⟩
  · rintro (w | ⟨w1, w2⟩)
    · exact .inl w
    · have : j ≠ b := fun q => by subst q; exact w2 h0
      exact .inr ⟨by omega, w2⟩⟩
theorem mskJ.yes {φ : Nat → Rat} {m n b : Nat} (h : mskJ φ m n b) (hb : b < 3) (h0 : txl b n ≠ 0) : mskJ φ (m ||| (1 <<< b)) n (b + 1) := by
  have a := mask_or ⟨m, h.1⟩ ⟨b, hb⟩
  refine ⟨a.2.1, fun j hj => ?_⟩
  have c := a.2.2 ⟨j, hj⟩
  have c' : (m ||| (1 <<< b)).testBit j = (m.testBit j || decide ((⟨j, hj⟩ : Fin 3) = ⟨b, hb⟩)) := c
  rw [c', Bool.or_eq_true, h.2 j hj, decide_eq_true_iff, Fin.mk.injEq]
  constructor
  · rintro ((w | ⟨w1, w2⟩) | w)
    · exact .inl w
    · exact .inr ⟨by omega, w2⟩
    · subst w; exact .inr ⟨by omega, h0⟩
  · rintro (w | ⟨w1, w2⟩)
    · exact .inl (.inl w)
    · rcases Nat.decEq j b with q | q
      · exact .inl (.inr ⟨by omega, w2⟩)
      · exact .inr q
theorem mskI.one {φ : Nat → Rat} {m : Nat} (h : mskI φ m 455) : (m = 0 ∨ m = 1 ∨ m = 2 ∨ m = 4) ↔ ∃ l, l < 3 ∧ ∀ t, t < 455 → φ t ≠ 0 → ∀ j, j < 3 → j ≠ l → txl j t = 0 := by
  rw [show (m = 0 ∨ m = 1 ∨ m = 2 ∨ m = 4) ↔ _ from mask_one ⟨m, h.1⟩]
  constructor
  · rintro ⟨l, hl⟩
    refine ⟨l.1, l.2, fun t ht h0 j hj hne => ?_⟩
    have := hl ⟨j, hj⟩ fun w => hne (by rw [← w])
    rcases Nat.decEq (txl j t) 0 with q | q
    · have := (h.2 j hj).mpr ⟨t, ht, h0, q⟩
      have e : m.testBit j = false := by assumption
      rw [e] at this; exact absurd this (by decide)
    · exact q
  · rintro ⟨l, hl, hh⟩
    refine ⟨⟨l, hl⟩, fun j hne => ?_⟩
    show m.testBit j.1 = false
    rcases hb : m.testBit j.1 with _ | _
    · rfl
    · obtain ⟨t, q1, q2, q3⟩ := (h.2 j.1 j.2).mp hb
      exact absurd (hh t q1 q2 j.1 j.2 fun w => hne (Fin.ext w)) q3
end SNG
