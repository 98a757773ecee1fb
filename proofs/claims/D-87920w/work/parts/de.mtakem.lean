/-! the model's chains: takeMultiples -/
-- needs: dd.msmall
set_option maxRecDepth 100000
set_option linter.unusedVariables false
theorem wD.turn2 {D : Dat} {w : Nat} {z z' v : Int} (h : wD 2 1 D w z) (e : z'.natAbs = z.natAbs) (hv : v = Int.sign z') : wD 2 1 (pmu D w 1 v) w z' := by
  obtain ⟨n, a1, a2, a3, a4⟩ := h
  have e1 : pmu D w 1 v (w + 1) = D (w + 1) := funext fun i => by simp only [pmu]; rw [if_neg (by omega)]
  refine ⟨n, ?_, by rw [e1]; exact a2, ?_, by rw [e1, e]; exact a4⟩
  · simp only [pmu]; rw [if_neg (by omega)]; exact a1
  · simp only [pmu, and_self, if_true]; exact hv
/-- the working row -/
def wkS (S : Stat) (M : Nat) : Prop := S.2.1 M 71 = some (M + 11241) ∧ nmS S (M + 11241) (M + 11242) 18 260
/-- what a taking away changes -/
def tmO (M : Nat) (D D' : Dat) : Prop := ∀ c i, (c ≤ M ∨ M + 16 < c) → (c < M + 10781 ∨ M + 10788 < c) → (c < M + 11242 ∨ M + 11277 < c) → D' c i = D c i
theorem crow_zp {f : Nat → Int} {n : Nat} (x : Rat) : (((gcn f n : Nat) : Int) : Rat) * zp (crow f n) n x = zp f n x := by
  rw [← zp_smul]
  exact zp_congr (fun k hk => crow_mul hk) x
theorem crow_prim {f : Nat → Int} {n : Nat} (h : 0 < n) (h0 : f (n - 1) ≠ 0) : zprim (crow f n) n := by
  obtain ⟨d, rfl⟩ : ∃ d, n = d + 1 := ⟨n - 1, by omega⟩
  exact brow_prim h0
theorem crow_top {f : Nat → Int} {n : Nat} (h : 0 < n) (h0 : f (n - 1) ≠ 0) : crow f n (n - 1) ≠ 0 := by
  obtain ⟨d, rfl⟩ : ∃ d, n = d + 1 := ⟨n - 1, by omega⟩
  exact brow_top h0
section TM
variable {E : Ex} {B : Nat × Nat} {S : Stat} {M Bq Rb da e p q H G : Nat} {f g : Nat → Int}
set_option maxHeartbeats 4000000 in
/-- one pass -/
theorem tm_pass {D : Dat} {d Hc : Nat} {fc : Nat → Int} (hM : mS S M) (hW : mwS S M) (hK : wkS S M) (hB : nmS S Bq (Bq + 1) 18 Rb) (lB : M + 10788 < Bq) (lB2 : Bq + 36 < M + 11241 ∨ M + 11277 < Bq) (hd : d < 18) (he : e ≤ d) (hg : ∀ k, k ≤ e → wD 2 1 D (Bq + 1 + 2 * k) (g k)) (hg0 : g e ≠ 0) (hG : ∀ k, k ≤ e → (g k).natAbs ≤ G) (hGq : (G : Int) < 1000000000 ^ q) (hqR : q ≤ Rb) (hRb : Rb < 265) (hf : ∀ k, k ≤ d → wD 2 1 D (M + 11242 + 2 * k) (fc k)) (hH : ∀ k, k ≤ d → (fc k).natAbs ≤ Hc) (hHp : ((Hc * (2 * G) : Nat) : Int) < 1000000000 ^ p) (hpq : p + q ≤ 260)
    (K : ∀ D' : Dat, tmO M D D' → (∀ k, k ≤ d → wD 2 1 D' (M + 11242 + 2 * k) (prs fc d g e k)) → Wp P_X16_takeMultiples E 4 [some (aR M), none, some (aR Bq), some (aI e), some (aI d)] [] B S D') : Wp P_X16_takeMultiples E 1 [some (aR M), none, some (aR Bq), some (aI e), some (aI d)] [] B S D := by
  obtain ⟨w1, w2, w3, w4, w5, w6, w7, w8⟩ := hW
  obtain ⟨k1, k2, k3⟩ := hK
  obtain ⟨b1, b2⟩ := hB
  obtain ⟨M1, m0, m264, -⟩ := id hM
  have c1 := w2.1
  have c2 := w4.1
  have c3 := w6.1
  have G0 : 1 ≤ G := by have := hG e (Nat.le_refl _); omega
  have hHc : (Hc : Int) < 1000000000 ^ p := by
    have h1 : Hc * 1 ≤ Hc * (2 * G) := Nat.mul_le_mul_left _ (by omega)
    omega
  obtain ⟨be1, be2⟩ := b2 e (by omega)
  obtain ⟨f1, f2⟩ := k3 d hd
  have be3 := be2.1
  have p260 : p ≤ 260 := by omega
  have q260 : q ≤ 260 := by omega
  have qR : ∀ {z : Int}, (z.natAbs : Int) < 1000000000 ^ q → (z.natAbs : Int) < 1000000000 ^ Rb := fun h => Int.lt_of_lt_of_le h (pw_mono hqR)
  have q26 : ∀ {z : Int}, (z.natAbs : Int) < 1000000000 ^ q → (z.natAbs : Int) < 1000000000 ^ 260 := fun h => Int.lt_of_lt_of_le h (pw_mono q260)
  have p26 : ∀ {z : Int}, (z.natAbs : Int) < 1000000000 ^ p → (z.natAbs : Int) < 1000000000 ^ 260 := fun h => Int.lt_of_lt_of_le h (pw_mono p260)
  have lg := fun k hk => nat_pw (hG k hk) hGq
  have lf := fun k hk => nat_pw (hH k hk) hHc
  -- what was multiplied
  have lm : ∀ k, k ≤ d → (fc k * ((g e).natAbs : Int)).natAbs ≤ Hc * G := fun k hk => by
    rw [Int.natAbs_mul, Int.natAbs_natCast]
    exact Nat.mul_le_mul (hH k hk) (hG e (Nat.le_refl _))
  have l3 : Hc * (2 * G) = Hc * G + Hc * G := by rw [Nat.two_mul, Nat.mul_add]
  have second : ∀ (L j : Nat) (D1 : Dat), j + L = e + 1 → tmO M D D1 → wD 2 1 D1 (M + 10783) (Int.sign (g e) * fc d) → (∀ k, k ≤ d → wD 2 1 D1 (M + 11242 + 2 * k) (if k < d - e + j then prs fc d g e k else fc k * ((g e).natAbs : Int))) → Wp P_X16_takeMultiples E 3 [some (aR M), none, some (aR Bq), some (aI e), some (aI d), some (aI j)] [] B S D1 := by
    intro L
    induction L with
    | zero =>
      intro j D1 hj hfr hb hrow
      refine wp_in ?_
      simp only [P_X16_takeMultiples, i_kil, i_icon, i_lcon, i_null, i_loadI, i_loadL, i_loadR, i_istore, i_lstore, i_astore, i_iinc, i_dup, i_dup2, i_pop, i_iadd, i_isub, i_imul, i_idiv, i_irem, i_ineg, i_iand, i_ior, i_ishl, i_ishr, i_lxor, i_ladd, i_lsub, i_lmul, i_ldiv, i_lrem, i_lneg, i_lshl, i_lcmp, i_i2l, i_l2i, i_i2b, i_i2s, i_ifeq, i_ifne, i_iflt, i_ifge, i_ifgt, i_ifle, i_cmpeq, i_cmpne, i_cmplt, i_cmpge, i_cmpgt, i_cmple, i_acmpeq, i_acmpne, i_ifnull, i_ifnonnull, i_getI, i_getR, i_putI, i_putZ, i_putR, i_ald, i_ldL, i_ldR, i_ast, i_stL, i_stR, i_alen, i_new, i_newa, i_iret, i_zret, i_lret, i_aret, i_vret, i_raise, i_throw, i_recv, i_objinit, i_tsw3, lget, lset, lput1, lput2, lkil, ltrim, largs, isL, takev, dropv, nthv, pushO, catv, gd, true_and, and_true, Option.some.injEq, Prod.mk.injEq, exists_eq_left', if_true, if_false, reduceCtorEq, Bool.false_eq_true, lcmp_ge, lcmp_lt, lcmp_le, lcmp_gt, lcmp_eq, true_or, or_true, not_true_eq_false, not_false_eq_true, false_implies, true_implies, List.length_cons, List.length_nil]
      repeat (first | refine ⟨in_small (by omega) (by omega), ?_⟩ | (show (_ → _) ∧ (_ → _); first | refine ⟨by omega, fun _ => ?_⟩ | refine ⟨fun _ => ?_, by omega⟩) | refine ⟨by omega, ?_⟩ | refine ⟨⟨_, rfl, by assumption⟩, ?_⟩ | refine ⟨okT_I _, ?_⟩ | refine ⟨okT_S (by omega) (by omega), ?_⟩ | refine ⟨okT_B (by omega) (by omega), ?_⟩ | refine call0 (gd_of rfl) ?_)
      refine K D1 hfr fun k hk => ?_
      have := hrow k hk
      rwa [if_pos (by omega)] at this
    | succ L ih =>
      intro j D1 hj hfr hb hrow
      obtain ⟨v1, v2⟩ := b2 j (by omega)
      obtain ⟨u1, u2⟩ := k3 (d - e + j) (by omega)
      have eu : (d : Int) - e + j = ((d - e + j : Nat) : Int) := by omega
      have hgj : wD 2 1 D1 (Bq + 1 + 2 * j) (g j) := (hg j (by omega)).congr (fun i => hfr _ i (by omega) (by omega) (by omega)) fun i => hfr _ i (by omega) (by omega) (by omega)
      have ly : ((Int.sign (g e) * fc d).natAbs : Int) < 1000000000 ^ p := by rw [natAbs_sign_mul _ _ hg0]; exact lf d (Nat.le_refl _)
      refine wp_in ?_
      simp only [P_X16_takeMultiples, i_kil, i_icon, i_lcon, i_null, i_loadI, i_loadL, i_loadR, i_istore, i_lstore, i_astore, i_iinc, i_dup, i_dup2, i_pop, i_iadd, i_isub, i_imul, i_idiv, i_irem, i_ineg, i_iand, i_ior, i_ishl, i_ishr, i_lxor, i_ladd, i_lsub, i_lmul, i_ldiv, i_lrem, i_lneg, i_lshl, i_lcmp, i_i2l, i_l2i, i_i2b, i_i2s, i_ifeq, i_ifne, i_iflt, i_ifge, i_ifgt, i_ifle, i_cmpeq, i_cmpne, i_cmplt, i_cmpge, i_cmpgt, i_cmple, i_acmpeq, i_acmpne, i_ifnull, i_ifnonnull, i_getI, i_getR, i_putI, i_putZ, i_putR, i_ald, i_ldL, i_ldR, i_ast, i_stL, i_stR, i_alen, i_new, i_newa, i_iret, i_zret, i_lret, i_aret, i_vret, i_raise, i_throw, i_recv, i_objinit, i_tsw3, lget, lset, lput1, lput2, lkil, ltrim, largs, isL, takev, dropv, nthv, pushO, catv, gd, true_and, and_true, Option.some.injEq, Prod.mk.injEq, exists_eq_left', if_true, if_false, reduceCtorEq, Bool.false_eq_true, lcmp_ge, lcmp_lt, lcmp_le, lcmp_gt, lcmp_eq, true_or, or_true, not_true_eq_false, not_false_eq_true, false_implies, true_implies, List.length_cons, List.length_nil, M1, w3, w5, k1, b1, v1]
      repeat (first | refine ⟨in_small (by omega) (by omega), ?_⟩ | (show (_ → _) ∧ (_ → _); first | refine ⟨by omega, fun _ => ?_⟩ | refine ⟨fun _ => ?_, by omega⟩) | refine ⟨by omega, ?_⟩ | refine ⟨⟨_, rfl, by assumption⟩, ?_⟩ | refine ⟨okT_I _, ?_⟩ | refine ⟨okT_S (by omega) (by omega), ?_⟩ | refine ⟨okT_B (by omega) (by omega), ?_⟩ | refine call0 (gd_of rfl) ?_)
      refine sp_X16_multiply (p := q) (q := p) w6 v2 w4 M1 m0 m264 (by omega) (by omega) (by omega) hgj hb (lg j (by omega)) ly hqR p260 (by omega) (by omega) (by omega) (by omega) (by omega) fun D2 g1 g2 => ?_
      have hold : wD 2 1 D2 (M + 11242 + 2 * (d - e + j)) (fc (d - e + j) * ((g e).natAbs : Int)) := by
        have := hrow (d - e + j) (by omega)
        rw [if_neg (by omega)] at this
        exact this.congr (fun i => g1 _ i (by omega) (by omega) (by omega)) fun i => g1 _ i (by omega) (by omega) (by omega)
      have l1 := lm (d - e + j) (by omega)
      have l2 : (g j * (Int.sign (g e) * fc d)).natAbs ≤ Hc * G := by
        rw [Int.natAbs_mul, natAbs_sign_mul _ _ hg0, Nat.mul_comm]
        exact Nat.mul_le_mul (hH d (Nat.le_refl _)) (hG j (by omega))
      have l4 : ((fc (d - e + j) * ((g e).natAbs : Int)).natAbs : Int) + (g j * (Int.sign (g e) * fc d)).natAbs < 1000000000 ^ 260 := by
        refine Int.lt_of_lt_of_le ?_ (pw_mono p260)
        rw [l3] at hHp
        generalize Hc * G = U at *
        omega
      simp only [P_X16_takeMultiples, i_kil, i_icon, i_lcon, i_null, i_loadI, i_loadL, i_loadR, i_istore, i_lstore, i_astore, i_iinc, i_dup, i_dup2, i_pop, i_iadd, i_isub, i_imul, i_idiv, i_irem, i_ineg, i_iand, i_ior, i_ishl, i_ishr, i_lxor, i_ladd, i_lsub, i_lmul, i_ldiv, i_lrem, i_lneg, i_lshl, i_lcmp, i_i2l, i_l2i, i_i2b, i_i2s, i_ifeq, i_ifne, i_iflt, i_ifge, i_ifgt, i_ifle, i_cmpeq, i_cmpne, i_cmplt, i_cmpge, i_cmpgt, i_cmple, i_acmpeq, i_acmpne, i_ifnull, i_ifnonnull, i_getI, i_getR, i_putI, i_putZ, i_putR, i_ald, i_ldL, i_ldR, i_ast, i_stL, i_stR, i_alen, i_new, i_newa, i_iret, i_zret, i_lret, i_aret, i_vret, i_raise, i_throw, i_recv, i_objinit, i_tsw3, lget, lset, lput1, lput2, lkil, ltrim, largs, isL, takev, dropv, nthv, pushO, catv, gd, true_and, and_true, Option.some.injEq, Prod.mk.injEq, exists_eq_left', if_true, if_false, reduceCtorEq, Bool.false_eq_true, lcmp_ge, lcmp_lt, lcmp_le, lcmp_gt, lcmp_eq, true_or, or_true, not_true_eq_false, not_false_eq_true, false_implies, true_implies, List.length_cons, List.length_nil, M1, w3, w5, k1, k2, eu, u1]
      repeat (first | refine ⟨in_small (by omega) (by omega), ?_⟩ | (show (_ → _) ∧ (_ → _); first | refine ⟨by omega, fun _ => ?_⟩ | refine ⟨fun _ => ?_, by omega⟩) | refine ⟨by omega, ?_⟩ | refine ⟨⟨_, rfl, by assumption⟩, ?_⟩ | refine ⟨okT_I _, ?_⟩ | refine ⟨okT_S (by omega) (by omega), ?_⟩ | refine ⟨okT_B (by omega) (by omega), ?_⟩ | refine call0 (gd_of rfl) ?_)
      refine sp_X16_add u2 u2 w6 hold g2 (.inr rfl) (by omega) (by omega) l4 (by omega) (by omega) (by omega) fun D3 i1 i2 => ?_
      simp only [P_X16_takeMultiples, i_kil, i_icon, i_lcon, i_null, i_loadI, i_loadL, i_loadR, i_istore, i_lstore, i_astore, i_iinc, i_dup, i_dup2, i_pop, i_iadd, i_isub, i_imul, i_idiv, i_irem, i_ineg, i_iand, i_ior, i_ishl, i_ishr, i_lxor, i_ladd, i_lsub, i_lmul, i_ldiv, i_lrem, i_lneg, i_lshl, i_lcmp, i_i2l, i_l2i, i_i2b, i_i2s, i_ifeq, i_ifne, i_iflt, i_ifge, i_ifgt, i_ifle, i_cmpeq, i_cmpne, i_cmplt, i_cmpge, i_cmpgt, i_cmple, i_acmpeq, i_acmpne, i_ifnull, i_ifnonnull, i_getI, i_getR, i_putI, i_putZ, i_putR, i_ald, i_ldL, i_ldR, i_ast, i_stL, i_stR, i_alen, i_new, i_newa, i_iret, i_zret, i_lret, i_aret, i_vret, i_raise, i_throw, i_recv, i_objinit, i_tsw3, lget, lset, lput1, lput2, lkil, ltrim, largs, isL, takev, dropv, nthv, pushO, catv, gd, true_and, and_true, Option.some.injEq, Prod.mk.injEq, exists_eq_left', if_true, if_false, reduceCtorEq, Bool.false_eq_true, lcmp_ge, lcmp_lt, lcmp_le, lcmp_gt, lcmp_eq, true_or, or_true, not_true_eq_false, not_false_eq_true, false_implies, true_implies, List.length_cons, List.length_nil]
      repeat (first | refine ⟨in_small (by omega) (by omega), ?_⟩ | (show (_ → _) ∧ (_ → _); first | refine ⟨by omega, fun _ => ?_⟩ | refine ⟨fun _ => ?_, by omega⟩) | refine ⟨by omega, ?_⟩ | refine ⟨⟨_, rfl, by assumption⟩, ?_⟩ | refine ⟨okT_I _, ?_⟩ | refine ⟨okT_S (by omega) (by omega), ?_⟩ | refine ⟨okT_B (by omega) (by omega), ?_⟩ | refine call0 (gd_of rfl) ?_)
      refine ih (j + 1) D3 (by omega) (fun c i c1 c2 c3 => ?_) (hb.congr (fun i => by rw [i1 _ i (by omega) (by omega), g1 _ i (by omega) (by omega) (by omega)]) fun i => by rw [i1 _ i (by omega) (by omega), g1 _ i (by omega) (by omega) (by omega)]) fun k hk => ?_
      · rw [i1 c i (by omega) (by omega), g1 c i (by omega) (by omega) (by omega)]; exact hfr c i c1 c2 c3
      · by_cases w : k = d - e + j
        · subst w
          rw [if_pos (by omega)]
          have ee : prs fc d g e (d - e + j) = fc (d - e + j) * ((g e).natAbs : Int) + -1 * (g j * (Int.sign (g e) * fc d)) := by
            unfold prs
            rw [if_pos (by omega), show d - e + j - (d - e) = j by omega, Int.mul_comm (g j)]; omega
          rw [ee]; exact i2
        · have := (hrow k hk).congr (D' := D3) (fun i => by rw [i1 _ i (by omega) (by omega), g1 _ i (by omega) (by omega) (by omega)]) fun i => by rw [i1 _ i (by omega) (by omega), g1 _ i (by omega) (by omega) (by omega)]
          by_cases w2 : k < d - e + j
          · rw [if_pos w2] at this; rw [if_pos (by omega)]; exact this
          · rw [if_neg w2] at this; rw [if_neg (by omega)]; exact this
  have first : ∀ (L j : Nat) (D1 : Dat), j + L = d + 1 → tmO M D D1 → wD 2 1 D1 (M + 10781) ((g e).natAbs : Int) → wD 2 1 D1 (M + 10783) (Int.sign (g e) * fc d) → (∀ k, k ≤ d → wD 2 1 D1 (M + 11242 + 2 * k) (if k < j then fc k * ((g e).natAbs : Int) else fc k)) → Wp P_X16_takeMultiples E 2 [some (aR M), none, some (aR Bq), some (aI e), some (aI d), some (aI j)] [] B S D1 := by
    intro L
    induction L with
    | zero =>
      intro j D1 hj hfr ha hb hrow
      refine wp_in ?_
      simp only [P_X16_takeMultiples, i_kil, i_icon, i_lcon, i_null, i_loadI, i_loadL, i_loadR, i_istore, i_lstore, i_astore, i_iinc, i_dup, i_dup2, i_pop, i_iadd, i_isub, i_imul, i_idiv, i_irem, i_ineg, i_iand, i_ior, i_ishl, i_ishr, i_lxor, i_ladd, i_lsub, i_lmul, i_ldiv, i_lrem, i_lneg, i_lshl, i_lcmp, i_i2l, i_l2i, i_i2b, i_i2s, i_ifeq, i_ifne, i_iflt, i_ifge, i_ifgt, i_ifle, i_cmpeq, i_cmpne, i_cmplt, i_cmpge, i_cmpgt, i_cmple, i_acmpeq, i_acmpne, i_ifnull, i_ifnonnull, i_getI, i_getR, i_putI, i_putZ, i_putR, i_ald, i_ldL, i_ldR, i_ast, i_stL, i_stR, i_alen, i_new, i_newa, i_iret, i_zret, i_lret, i_aret, i_vret, i_raise, i_throw, i_recv, i_objinit, i_tsw3, lget, lset, lput1, lput2, lkil, ltrim, largs, isL, takev, dropv, nthv, pushO, catv, gd, true_and, and_true, Option.some.injEq, Prod.mk.injEq, exists_eq_left', if_true, if_false, reduceCtorEq, Bool.false_eq_true, lcmp_ge, lcmp_lt, lcmp_le, lcmp_gt, lcmp_eq, true_or, or_true, not_true_eq_false, not_false_eq_true, false_implies, true_implies, List.length_cons, List.length_nil]
      repeat (first | refine ⟨in_small (by omega) (by omega), ?_⟩ | (show (_ → _) ∧ (_ → _); first | refine ⟨by omega, fun _ => ?_⟩ | refine ⟨fun _ => ?_, by omega⟩) | refine ⟨by omega, ?_⟩ | refine ⟨⟨_, rfl, by assumption⟩, ?_⟩ | refine ⟨okT_I _, ?_⟩ | refine ⟨okT_S (by omega) (by omega), ?_⟩ | refine ⟨okT_B (by omega) (by omega), ?_⟩ | refine call0 (gd_of rfl) ?_)
      refine second (e + 1) 0 D1 (by omega) hfr hb fun k hk => ?_
      have := hrow k hk
      rw [if_pos (by omega)] at this
      by_cases w : k < d - e + 0
      · rw [if_pos w]
        have ee : prs fc d g e k = fc k * ((g e).natAbs : Int) := by
          unfold prs
          rw [if_neg (by omega)]; omega
        rw [ee]; exact this
      · rw [if_neg w]; exact this
    | succ L ih =>
      intro j D1 hj hfr ha hb hrow
      obtain ⟨u1, u2⟩ := k3 j (by omega)
      have hj4 := hrow j (by omega)
      rw [if_neg (by omega)] at hj4
      refine wp_in ?_
      simp only [P_X16_takeMultiples, i_kil, i_icon, i_lcon, i_null, i_loadI, i_loadL, i_loadR, i_istore, i_lstore, i_astore, i_iinc, i_dup, i_dup2, i_pop, i_iadd, i_isub, i_imul, i_idiv, i_irem, i_ineg, i_iand, i_ior, i_ishl, i_ishr, i_lxor, i_ladd, i_lsub, i_lmul, i_ldiv, i_lrem, i_lneg, i_lshl, i_lcmp, i_i2l, i_l2i, i_i2b, i_i2s, i_ifeq, i_ifne, i_iflt, i_ifge, i_ifgt, i_ifle, i_cmpeq, i_cmpne, i_cmplt, i_cmpge, i_cmpgt, i_cmple, i_acmpeq, i_acmpne, i_ifnull, i_ifnonnull, i_getI, i_getR, i_putI, i_putZ, i_putR, i_ald, i_ldL, i_ldR, i_ast, i_stL, i_stR, i_alen, i_new, i_newa, i_iret, i_zret, i_lret, i_aret, i_vret, i_raise, i_throw, i_recv, i_objinit, i_tsw3, lget, lset, lput1, lput2, lkil, ltrim, largs, isL, takev, dropv, nthv, pushO, catv, gd, true_and, and_true, Option.some.injEq, Prod.mk.injEq, exists_eq_left', if_true, if_false, reduceCtorEq, Bool.false_eq_true, lcmp_ge, lcmp_lt, lcmp_le, lcmp_gt, lcmp_eq, true_or, or_true, not_true_eq_false, not_false_eq_true, false_implies, true_implies, List.length_cons, List.length_nil, M1, w1, k1, k2, u1]
      repeat (first | refine ⟨in_small (by omega) (by omega), ?_⟩ | (show (_ → _) ∧ (_ → _); first | refine ⟨by omega, fun _ => ?_⟩ | refine ⟨fun _ => ?_, by omega⟩) | refine ⟨by omega, ?_⟩ | refine ⟨⟨_, rfl, by assumption⟩, ?_⟩ | refine ⟨okT_I _, ?_⟩ | refine ⟨okT_S (by omega) (by omega), ?_⟩ | refine ⟨okT_B (by omega) (by omega), ?_⟩ | refine call0 (gd_of rfl) ?_)
      refine sp_X16_multiply (p := p) (q := q) u2 u2 w2 M1 m0 m264 (by omega) (by omega) (by omega) hj4 ha (lf j (by omega)) (by rw [Int.natAbs_natCast]; exact lg e (Nat.le_refl _)) p260 q260 hpq (by omega) (by omega) (by omega) (by omega) fun D2 g1 g2 => ?_
      simp only [P_X16_takeMultiples, i_kil, i_icon, i_lcon, i_null, i_loadI, i_loadL, i_loadR, i_istore, i_lstore, i_astore, i_iinc, i_dup, i_dup2, i_pop, i_iadd, i_isub, i_imul, i_idiv, i_irem, i_ineg, i_iand, i_ior, i_ishl, i_ishr, i_lxor, i_ladd, i_lsub, i_lmul, i_ldiv, i_lrem, i_lneg, i_lshl, i_lcmp, i_i2l, i_l2i, i_i2b, i_i2s, i_ifeq, i_ifne, i_iflt, i_ifge, i_ifgt, i_ifle, i_cmpeq, i_cmpne, i_cmplt, i_cmpge, i_cmpgt, i_cmple, i_acmpeq, i_acmpne, i_ifnull, i_ifnonnull, i_getI, i_getR, i_putI, i_putZ, i_putR, i_ald, i_ldL, i_ldR, i_ast, i_stL, i_stR, i_alen, i_new, i_newa, i_iret, i_zret, i_lret, i_aret, i_vret, i_raise, i_throw, i_recv, i_objinit, i_tsw3, lget, lset, lput1, lput2, lkil, ltrim, largs, isL, takev, dropv, nthv, pushO, catv, gd, true_and, and_true, Option.some.injEq, Prod.mk.injEq, exists_eq_left', if_true, if_false, reduceCtorEq, Bool.false_eq_true, lcmp_ge, lcmp_lt, lcmp_le, lcmp_gt, lcmp_eq, true_or, or_true, not_true_eq_false, not_false_eq_true, false_implies, true_implies, List.length_cons, List.length_nil]
      repeat (first | refine ⟨in_small (by omega) (by omega), ?_⟩ | (show (_ → _) ∧ (_ → _); first | refine ⟨by omega, fun _ => ?_⟩ | refine ⟨fun _ => ?_, by omega⟩) | refine ⟨by omega, ?_⟩ | refine ⟨⟨_, rfl, by assumption⟩, ?_⟩ | refine ⟨okT_I _, ?_⟩ | refine ⟨okT_S (by omega) (by omega), ?_⟩ | refine ⟨okT_B (by omega) (by omega), ?_⟩ | refine call0 (gd_of rfl) ?_)
      refine ih (j + 1) D2 (by omega) (fun c i c1 c2 c3 => ?_) (ha.congr (fun i => g1 _ i (by omega) (by omega) (by omega)) fun i => g1 _ i (by omega) (by omega) (by omega)) (hb.congr (fun i => g1 _ i (by omega) (by omega) (by omega)) fun i => g1 _ i (by omega) (by omega) (by omega)) fun k hk => ?_
      · rw [g1 c i (by omega) (by omega) (by omega)]; exact hfr c i c1 c2 c3
      · by_cases w : k = j
        · subst w; rw [if_pos (by omega)]; exact g2
        · have := (hrow k hk).congr (D' := D2) (fun i => g1 _ i (by omega) (by omega) (by omega)) fun i => g1 _ i (by omega) (by omega) (by omega)
          by_cases w2 : k < j
          · rw [if_pos w2] at this; rw [if_pos (by omega)]; exact this
          · rw [if_neg w2] at this; rw [if_neg (by omega)]; exact this
  refine wp_in ?_
  simp only [P_X16_takeMultiples, i_kil, i_icon, i_lcon, i_null, i_loadI, i_loadL, i_loadR, i_istore, i_lstore, i_astore, i_iinc, i_dup, i_dup2, i_pop, i_iadd, i_isub, i_imul, i_idiv, i_irem, i_ineg, i_iand, i_ior, i_ishl, i_ishr, i_lxor, i_ladd, i_lsub, i_lmul, i_ldiv, i_lrem, i_lneg, i_lshl, i_lcmp, i_i2l, i_l2i, i_i2b, i_i2s, i_ifeq, i_ifne, i_iflt, i_ifge, i_ifgt, i_ifle, i_cmpeq, i_cmpne, i_cmplt, i_cmpge, i_cmpgt, i_cmple, i_acmpeq, i_acmpne, i_ifnull, i_ifnonnull, i_getI, i_getR, i_putI, i_putZ, i_putR, i_ald, i_ldL, i_ldR, i_ast, i_stL, i_stR, i_alen, i_new, i_newa, i_iret, i_zret, i_lret, i_aret, i_vret, i_raise, i_throw, i_recv, i_objinit, i_tsw3, lget, lset, lput1, lput2, lkil, ltrim, largs, isL, takev, dropv, nthv, pushO, catv, gd, true_and, and_true, Option.some.injEq, Prod.mk.injEq, exists_eq_left', if_true, if_false, reduceCtorEq, Bool.false_eq_true, lcmp_ge, lcmp_lt, lcmp_le, lcmp_gt, lcmp_eq, true_or, or_true, not_true_eq_false, not_false_eq_true, false_implies, true_implies, List.length_cons, List.length_nil, M1, w1, b1, be1]
  refine ⟨fun w => by omega, fun _ => ?_⟩
  repeat (first | refine ⟨in_small (by omega) (by omega), ?_⟩ | (show (_ → _) ∧ (_ → _); first | refine ⟨by omega, fun _ => ?_⟩ | refine ⟨fun _ => ?_, by omega⟩) | refine ⟨by omega, ?_⟩ | refine ⟨⟨_, rfl, by assumption⟩, ?_⟩ | refine ⟨okT_I _, ?_⟩ | refine ⟨okT_S (by omega) (by omega), ?_⟩ | refine ⟨okT_B (by omega) (by omega), ?_⟩ | refine call0 (gd_of rfl) ?_)
  refine sp_X17_copy w2 be2 (hg e (Nat.le_refl _)) (q26 (lg e (Nat.le_refl _))) (qR (lg e (Nat.le_refl _))) (by omega) fun D1 g1 g2 => ?_
  have x1 := g2.turn2 (z' := ((g e).natAbs : Int)) (v := 1) (by omega) (by rw [Int.sign_eq_one_of_pos (by omega)])
  simp only [P_X16_takeMultiples, i_kil, i_icon, i_lcon, i_null, i_loadI, i_loadL, i_loadR, i_istore, i_lstore, i_astore, i_iinc, i_dup, i_dup2, i_pop, i_iadd, i_isub, i_imul, i_idiv, i_irem, i_ineg, i_iand, i_ior, i_ishl, i_ishr, i_lxor, i_ladd, i_lsub, i_lmul, i_ldiv, i_lrem, i_lneg, i_lshl, i_lcmp, i_i2l, i_l2i, i_i2b, i_i2s, i_ifeq, i_ifne, i_iflt, i_ifge, i_ifgt, i_ifle, i_cmpeq, i_cmpne, i_cmplt, i_cmpge, i_cmpgt, i_cmple, i_acmpeq, i_acmpne, i_ifnull, i_ifnonnull, i_getI, i_getR, i_putI, i_putZ, i_putR, i_ald, i_ldL, i_ldR, i_ast, i_stL, i_stR, i_alen, i_new, i_newa, i_iret, i_zret, i_lret, i_aret, i_vret, i_raise, i_throw, i_recv, i_objinit, i_tsw3, lget, lset, lput1, lput2, lkil, ltrim, largs, isL, takev, dropv, nthv, pushO, catv, gd, true_and, and_true, Option.some.injEq, Prod.mk.injEq, exists_eq_left', if_true, if_false, reduceCtorEq, Bool.false_eq_true, lcmp_ge, lcmp_lt, lcmp_le, lcmp_gt, lcmp_eq, true_or, or_true, not_true_eq_false, not_false_eq_true, false_implies, true_implies, List.length_cons, List.length_nil, M1, w1, w3, c1, k1, k2, f1]
  repeat (first | refine ⟨in_small (by omega) (by omega), ?_⟩ | (show (_ → _) ∧ (_ → _); first | refine ⟨by omega, fun _ => ?_⟩ | refine ⟨fun _ => ?_, by omega⟩) | refine ⟨by omega, ?_⟩ | refine ⟨⟨_, rfl, by assumption⟩, ?_⟩ | refine ⟨okT_I _, ?_⟩ | refine ⟨okT_S (by omega) (by omega), ?_⟩ | refine ⟨okT_B (by omega) (by omega), ?_⟩ | refine call0 (gd_of rfl) ?_)
  refine sp_X17_copy w4 f2 ((hf d (Nat.le_refl _)).congr (D' := pmu D1 (M + 10781) 1 1) (fun i => ?_) fun i => ?_) (p26 (lf d (Nat.le_refl _))) (p26 (lf d (Nat.le_refl _))) (by omega) fun D2 i1 i2 => ?_
  · simp only [pmu]; rw [if_neg (by omega)]; exact g1 _ i (by omega) (by omega)
  · simp only [pmu]; rw [if_neg (by omega)]; exact g1 _ i (by omega) (by omega)
  have e16 := i2.sg
  have eg : D2 (Bq + 1 + 2 * e) 1 = Int.sign (g e) := by
    rw [i1 _ _ (by omega) (by omega)]
    simp only [pmu]; rw [if_neg (by omega), g1 _ _ (by omega) (by omega)]
    exact (hg e (Nat.le_refl _)).sg
  have y1 := i2.turn2 (z' := Int.sign (g e) * fc d) (v := Int.sign (fc d) * Int.sign (g e)) (natAbs_sign_mul _ _ hg0) (by rw [Int.sign_mul, Int.sign_sign, Int.mul_comm])
  have hsg : ∀ z : Int, Int.sign z = 1 ∨ Int.sign z = 0 ∨ Int.sign z = -1 := fun z => by rcases sgn_cases z with h | h | h <;> omega
  have hin : inI (Int.sign (fc d) * Int.sign (g e)) := by
    rcases hsg (fc d) with h | h | h <;> rcases hsg (g e) with h' | h' | h' <;> rw [h, h'] <;> exact in_small (by decide) (by decide)
  simp only [P_X16_takeMultiples, i_kil, i_icon, i_lcon, i_null, i_loadI, i_loadL, i_loadR, i_istore, i_lstore, i_astore, i_iinc, i_dup, i_dup2, i_pop, i_iadd, i_isub, i_imul, i_idiv, i_irem, i_ineg, i_iand, i_ior, i_ishl, i_ishr, i_lxor, i_ladd, i_lsub, i_lmul, i_ldiv, i_lrem, i_lneg, i_lshl, i_lcmp, i_i2l, i_l2i, i_i2b, i_i2s, i_ifeq, i_ifne, i_iflt, i_ifge, i_ifgt, i_ifle, i_cmpeq, i_cmpne, i_cmplt, i_cmpge, i_cmpgt, i_cmple, i_acmpeq, i_acmpne, i_ifnull, i_ifnonnull, i_getI, i_getR, i_putI, i_putZ, i_putR, i_ald, i_ldL, i_ldR, i_ast, i_stL, i_stR, i_alen, i_new, i_newa, i_iret, i_zret, i_lret, i_aret, i_vret, i_raise, i_throw, i_recv, i_objinit, i_tsw3, lget, lset, lput1, lput2, lkil, ltrim, largs, isL, takev, dropv, nthv, pushO, catv, gd, true_and, and_true, Option.some.injEq, Prod.mk.injEq, exists_eq_left', if_true, if_false, reduceCtorEq, Bool.false_eq_true, lcmp_ge, lcmp_lt, lcmp_le, lcmp_gt, lcmp_eq, true_or, or_true, not_true_eq_false, not_false_eq_true, false_implies, true_implies, List.length_cons, List.length_nil, M1, w3, c2, b1, be1, be3, e16, eg]
  repeat (first | refine ⟨in_small (by omega) (by omega), ?_⟩ | (show (_ → _) ∧ (_ → _); first | refine ⟨by omega, fun _ => ?_⟩ | refine ⟨fun _ => ?_, by omega⟩) | refine ⟨by omega, ?_⟩ | refine ⟨⟨_, rfl, by assumption⟩, ?_⟩ | refine ⟨okT_I _, ?_⟩ | refine ⟨okT_S (by omega) (by omega), ?_⟩ | refine ⟨okT_B (by omega) (by omega), ?_⟩ | refine call0 (gd_of rfl) ?_)
  refine first (d + 1) 0 _ (by omega) (fun c i c1 c2 c3 => ?_) (x1.congr (fun i => ?_) fun i => ?_) y1 fun k hk => ?_
  · simp only [pmu]; rw [if_neg (by omega), i1 c i (by omega) (by omega)]
    simp only [pmu]; rw [if_neg (by omega)]; exact g1 c i (by omega) (by omega)
  · show pmu D2 (M + 10783) 1 _ (M + 10781) i = _
    simp only [pmu]; rw [if_neg (by omega), i1 _ i (by omega) (by omega)]
    simp only [pmu]
  · show pmu D2 (M + 10783) 1 _ (M + 10781 + 1) i = _
    simp only [pmu]; rw [if_neg (by omega), i1 _ i (by omega) (by omega)]
    simp only [pmu]
  · rw [if_neg (by omega)]
    refine (hf k hk).congr (fun i => ?_) fun i => ?_
    · simp only [pmu]; rw [if_neg (by omega), i1 _ i (by omega) (by omega)]
      simp only [pmu]; rw [if_neg (by omega)]; exact g1 _ i (by omega) (by omega)
    · simp only [pmu]; rw [if_neg (by omega), i1 _ i (by omega) (by omega)]
      simp only [pmu]; rw [if_neg (by omega)]; exact g1 _ i (by omega) (by omega)
set_option maxHeartbeats 4000000 in
theorem sp_X16_takeMultiples {D : Dat} {x : Int} (hM : mS S M) (hW : mwS S M) (hK : wkS S M) (hB : nmS S Bq (Bq + 1) 18 Rb) (lB : M + 10788 < Bq) (lB2 : Bq + 36 < M + 11241 ∨ M + 11277 < Bq) (hda : da < 18) (he : e < 18) (hx : x = da) (hf : ∀ k, k ≤ da → wD 2 1 D (M + 11242 + 2 * k) (f k)) (hg : ∀ k, k ≤ e → wD 2 1 D (Bq + 1 + 2 * k) (g k)) (f0 : f da ≠ 0) (hg0 : g e ≠ 0) (hH : ∀ k, k ≤ da → (f k).natAbs ≤ H) (hG : ∀ k, k ≤ e → (g k).natAbs ≤ G) (hGq : (G : Int) < 1000000000 ^ q) (hqR : q ≤ Rb) (hRb : Rb < 265) (hsz : ((H * (2 * G) ^ (da + 1 - e) : Nat) : Int) < 1000000000 ^ p) (hpq : p + q ≤ 260)
    (K : ∀ (D' : Dat) (n : Nat) (R : Nat → Int), tmO M D D' → n ≤ e → (∀ k, k < n → wD 2 1 D' (M + 11242 + 2 * k) (R k)) → (0 < n → R (n - 1) ≠ 0) → (e ≤ da → 0 < n → zprim R n) → prem (zp f (da + 1)) (zp g (e + 1)) (zp R n) → (∀ k, k < n → (R k).natAbs ≤ H * (2 * G) ^ (da + 1 - e)) → E (.inl (some (.inl ((n : Int) - 1)))) B S D') : Wp P_X16_takeMultiples E 0 [some (aR M), some (aI x), some (aR Bq), some (aI e)] [] B S D := by
  subst hx
  obtain ⟨k1, k2, k3⟩ := id hK
  have M1 := hM.1
  have G0 : 1 ≤ G := by have := hG e (Nat.le_refl _); omega
  have hT : ∀ m, 1 ≤ (2 * G) ^ m := fun m => Nat.pos_of_ne_zero (by intro h; rw [Nat.pow_eq_zero] at h; omega)
  have hH0 : H ≤ H * (2 * G) ^ (da + 1 - e) := by
    have := Nat.mul_le_mul_left H (hT (da + 1 - e)); omega
  generalize hTT : H * (2 * G) ^ (da + 1 - e) = T at *
  have p260 : p ≤ 260 := by omega
  have outer : ∀ (N n : Nat) (fc : Nat → Int) (Hc : Nat) (D1 : Dat), n ≤ N → n ≤ da + 1 → tmO M D D1 → (∀ k, k < n → wD 2 1 D1 (M + 11242 + 2 * k) (fc k)) → (0 < n → fc (n - 1) ≠ 0) → (∀ k, k < n → (fc k).natAbs ≤ Hc) → Hc * (2 * G) ^ (n - e) ≤ T → prem (zp f (da + 1)) (zp g (e + 1)) (zp fc n) → (n ≤ e → e ≤ da → 0 < n → zprim fc n) → Wp P_X16_takeMultiples E 1 [some (aR M), none, some (aR Bq), some (aI e), some (aI ((n : Int) - 1))] [] B S D1 := by
    intro N
    induction N with
    | zero =>
      intro n fc Hc D1 hN hn hfr hrow htop hbd hpw hpr hprim
      have : n = 0 := by omega
      subst this
      refine wp_in ?_
      simp only [P_X16_takeMultiples, i_kil, i_icon, i_lcon, i_null, i_loadI, i_loadL, i_loadR, i_istore, i_lstore, i_astore, i_iinc, i_dup, i_dup2, i_pop, i_iadd, i_isub, i_imul, i_idiv, i_irem, i_ineg, i_iand, i_ior, i_ishl, i_ishr, i_lxor, i_ladd, i_lsub, i_lmul, i_ldiv, i_lrem, i_lneg, i_lshl, i_lcmp, i_i2l, i_l2i, i_i2b, i_i2s, i_ifeq, i_ifne, i_iflt, i_ifge, i_ifgt, i_ifle, i_cmpeq, i_cmpne, i_cmplt, i_cmpge, i_cmpgt, i_cmple, i_acmpeq, i_acmpne, i_ifnull, i_ifnonnull, i_getI, i_getR, i_putI, i_putZ, i_putR, i_ald, i_ldL, i_ldR, i_ast, i_stL, i_stR, i_alen, i_new, i_newa, i_iret, i_zret, i_lret, i_aret, i_vret, i_raise, i_throw, i_recv, i_objinit, i_tsw3, lget, lset, lput1, lput2, lkil, ltrim, largs, isL, takev, dropv, nthv, pushO, catv, gd, true_and, and_true, Option.some.injEq, Prod.mk.injEq, exists_eq_left', if_true, if_false, reduceCtorEq, Bool.false_eq_true, lcmp_ge, lcmp_lt, lcmp_le, lcmp_gt, lcmp_eq, true_or, or_true, not_true_eq_false, not_false_eq_true, false_implies, true_implies, List.length_cons, List.length_nil]
      refine ⟨fun _ => ?_, fun w => by omega⟩
      exact K D1 0 fc hfr (by omega) hrow htop (fun a b => hprim (by omega) a b) hpr (fun k hk => by omega)
    | succ N ih =>
      intro n fc Hc D1 hN hn hfr hrow htop hbd hpw hpr hprim
      have hHc : Hc ≤ T := by
        have := Nat.mul_le_mul_left Hc (hT (n - e)); omega
      by_cases hdone : n ≤ e
      · refine wp_in ?_
        simp only [P_X16_takeMultiples, i_kil, i_icon, i_lcon, i_null, i_loadI, i_loadL, i_loadR, i_istore, i_lstore, i_astore, i_iinc, i_dup, i_dup2, i_pop, i_iadd, i_isub, i_imul, i_idiv, i_irem, i_ineg, i_iand, i_ior, i_ishl, i_ishr, i_lxor, i_ladd, i_lsub, i_lmul, i_ldiv, i_lrem, i_lneg, i_lshl, i_lcmp, i_i2l, i_l2i, i_i2b, i_i2s, i_ifeq, i_ifne, i_iflt, i_ifge, i_ifgt, i_ifle, i_cmpeq, i_cmpne, i_cmplt, i_cmpge, i_cmpgt, i_cmple, i_acmpeq, i_acmpne, i_ifnull, i_ifnonnull, i_getI, i_getR, i_putI, i_putZ, i_putR, i_ald, i_ldL, i_ldR, i_ast, i_stL, i_stR, i_alen, i_new, i_newa, i_iret, i_zret, i_lret, i_aret, i_vret, i_raise, i_throw, i_recv, i_objinit, i_tsw3, lget, lset, lput1, lput2, lkil, ltrim, largs, isL, takev, dropv, nthv, pushO, catv, gd, true_and, and_true, Option.some.injEq, Prod.mk.injEq, exists_eq_left', if_true, if_false, reduceCtorEq, Bool.false_eq_true, lcmp_ge, lcmp_lt, lcmp_le, lcmp_gt, lcmp_eq, true_or, or_true, not_true_eq_false, not_false_eq_true, false_implies, true_implies, List.length_cons, List.length_nil]
        refine ⟨fun _ => ?_, fun w => by omega⟩
        exact K D1 n fc hfr hdone hrow htop (hprim hdone) hpr (fun k hk => by have := hbd k hk; omega)
      · have hstep : Hc * (2 * G) ≤ T := by
          have h2 : (2 * G) ^ (n - e) = (2 * G) ^ (n - e - 1) * (2 * G) := by rw [← Nat.pow_succ]; congr 1; omega
          rw [h2] at hpw
          have h3 := Nat.mul_le_mul_right (2 * G) (hT (n - e - 1))
          rw [Nat.one_mul] at h3
          have h4 := Nat.mul_le_mul_left Hc h3
          omega
        have ed : (n : Int) - 1 = ((n - 1 : Nat) : Int) := by omega
        rw [ed]
        refine tm_pass (p := p) (q := q) (Hc := Hc) (G := G) (fc := fc) (g := g) hM hW hK hB lB lB2 (by omega) (by omega) (fun k hk => (hg k hk).congr (fun i => hfr _ i (by omega) (by omega) (by omega)) fun i => hfr _ i (by omega) (by omega) (by omega)) hg0 hG hGq hqR hRb (fun k hk => hrow k (by omega)) (fun k hk => hbd k (by omega)) (by omega) hpq fun D2 j1 j2 => ?_
        have hfr2 : tmO M D D2 := fun c i c1 c2 c3 => by rw [j1 c i c1 c2 c3]; exact hfr c i c1 c2 c3
        have hbd2 : ∀ k, k < n → (prs fc (n - 1) g e k).natAbs ≤ Hc * (2 * G) := fun k hk => prs_abs (by omega) (fun k hk => hbd k (by omega)) hG k (by omega)
        have hpr2 : prem (zp f (da + 1)) (zp g (e + 1)) (zp (prs fc (n - 1) g e) n) := by
          have := prem.step (f := fc) (d := n - 1) (e := e) (g := g) (by rwa [show n - 1 + 1 = n by omega]) (by omega) hg0
          rwa [show n - 1 + 1 = n by omega] at this
        -- made small
        have sml : ∀ (n2 : Nat), n2 < n → (0 < n2 → prs fc (n - 1) g e (n2 - 1) ≠ 0) → prem (zp f (da + 1)) (zp g (e + 1)) (zp (prs fc (n - 1) g e) n2) → Wp P_X16_takeMultiples E 5 [some (aR M), none, some (aR Bq), some (aI e), some (aI ((n2 : Int) - 1))] [] B S D2 := fun n2 hlt ht2 hp2 => by
          refine wp_in ?_
          simp only [P_X16_takeMultiples, i_kil, i_icon, i_lcon, i_null, i_loadI, i_loadL, i_loadR, i_istore, i_lstore, i_astore, i_iinc, i_dup, i_dup2, i_pop, i_iadd, i_isub, i_imul, i_idiv, i_irem, i_ineg, i_iand, i_ior, i_ishl, i_ishr, i_lxor, i_ladd, i_lsub, i_lmul, i_ldiv, i_lrem, i_lneg, i_lshl, i_lcmp, i_i2l, i_l2i, i_i2b, i_i2s, i_ifeq, i_ifne, i_iflt, i_ifge, i_ifgt, i_ifle, i_cmpeq, i_cmpne, i_cmplt, i_cmpge, i_cmpgt, i_cmple, i_acmpeq, i_acmpne, i_ifnull, i_ifnonnull, i_getI, i_getR, i_putI, i_putZ, i_putR, i_ald, i_ldL, i_ldR, i_ast, i_stL, i_stR, i_alen, i_new, i_newa, i_iret, i_zret, i_lret, i_aret, i_vret, i_raise, i_throw, i_recv, i_objinit, i_tsw3, lget, lset, lput1, lput2, lkil, ltrim, largs, isL, takev, dropv, nthv, pushO, catv, gd, true_and, and_true, Option.some.injEq, Prod.mk.injEq, exists_eq_left', if_true, if_false, reduceCtorEq, Bool.false_eq_true, lcmp_ge, lcmp_lt, lcmp_le, lcmp_gt, lcmp_eq, true_or, or_true, not_true_eq_false, not_false_eq_true, false_implies, true_implies, List.length_cons, List.length_nil, M1, k1]
          repeat (first | refine ⟨in_small (by omega) (by omega), ?_⟩ | (show (_ → _) ∧ (_ → _); first | refine ⟨by omega, fun _ => ?_⟩ | refine ⟨fun _ => ?_, by omega⟩) | refine ⟨by omega, ?_⟩ | refine ⟨⟨_, rfl, by assumption⟩, ?_⟩ | refine ⟨okT_I _, ?_⟩ | refine ⟨okT_S (by omega) (by omega), ?_⟩ | refine ⟨okT_B (by omega) (by omega), ?_⟩ | refine call0 (gd_of rfl) ?_)
          refine sp_X16_small (R := 260) (N := 18) (n := n2) (p := p) (f := prs fc (n - 1) g e) hM hW ⟨k2, k3⟩ (by omega) (by omega) (by omega) (fun k hk => j2 k (by omega)) (fun k hk => nat_pw (Nat.le_trans (hbd2 k (by omega)) hstep) hsz) p260 p260 rfl (by omega) fun D3 i1 i2 => ?_
          simp only [P_X16_takeMultiples, i_kil, i_icon, i_lcon, i_null, i_loadI, i_loadL, i_loadR, i_istore, i_lstore, i_astore, i_iinc, i_dup, i_dup2, i_pop, i_iadd, i_isub, i_imul, i_idiv, i_irem, i_ineg, i_iand, i_ior, i_ishl, i_ishr, i_lxor, i_ladd, i_lsub, i_lmul, i_ldiv, i_lrem, i_lneg, i_lshl, i_lcmp, i_i2l, i_l2i, i_i2b, i_i2s, i_ifeq, i_ifne, i_iflt, i_ifge, i_ifgt, i_ifle, i_cmpeq, i_cmpne, i_cmplt, i_cmpge, i_cmpgt, i_cmple, i_acmpeq, i_acmpne, i_ifnull, i_ifnonnull, i_getI, i_getR, i_putI, i_putZ, i_putR, i_ald, i_ldL, i_ldR, i_ast, i_stL, i_stR, i_alen, i_new, i_newa, i_iret, i_zret, i_lret, i_aret, i_vret, i_raise, i_throw, i_recv, i_objinit, i_tsw3, lget, lset, lput1, lput2, lkil, ltrim, largs, isL, takev, dropv, nthv, pushO, catv, gd, true_and, and_true, Option.some.injEq, Prod.mk.injEq, exists_eq_left', if_true, if_false, reduceCtorEq, Bool.false_eq_true, lcmp_ge, lcmp_lt, lcmp_le, lcmp_gt, lcmp_eq, true_or, or_true, not_true_eq_false, not_false_eq_true, false_implies, true_implies, List.length_cons, List.length_nil]
          refine ih n2 (crow (prs fc (n - 1) g e) n2) (Hc * (2 * G)) D3 (by omega) (by omega) (fun c i c1 c2 c3 => ?_) i2 (fun h0 => crow_top h0 (ht2 h0)) (fun k hk => Nat.le_trans (crow_abs hk) (hbd2 k (by omega))) ?_ ?_ fun _ _ h0 => crow_prim h0 (ht2 h0)
          · rw [i1 c i (by omega) (by omega) (by omega) c1]; exact hfr2 c i c1 c2 c3
          · have h5 : (2 * G) * (2 * G) ^ (n2 - e) ≤ (2 * G) ^ (n - e) := by
              rw [Nat.mul_comm, ← Nat.pow_succ]
              exact Nat.pow_le_pow_right (by omega) (by omega)
            rw [Nat.mul_assoc]
            exact Nat.le_trans (Nat.mul_le_mul_left _ h5) hpw
          · rcases Nat.eq_zero_or_pos n2 with z | z
            · subst z; exact hp2.congr fun x => rfl
            · have hg1 : (0 : Rat) < (((gcn (prs fc (n - 1) g e) n2 : Nat) : Int) : Rat) := Rat.intCast_pos.mpr (by have := gcn_pos n2 (n2 - 1) (by omega) (ht2 z); omega)
              exact hp2.scale hg1 fun x => crow_zp x
        -- the tops that are 0 go
        have tops : ∀ (n2 : Nat), n2 ≤ n → prem (zp f (da + 1)) (zp g (e + 1)) (zp (prs fc (n - 1) g e) n2) → Wp P_X16_takeMultiples E 4 [some (aR M), none, some (aR Bq), some (aI e), some (aI ((n2 : Int) - 1))] [] B S D2 := by
          intro n2
          induction n2 with
          | zero =>
            intro _ hp2
            refine wp_in ?_
            simp only [P_X16_takeMultiples, i_kil, i_icon, i_lcon, i_null, i_loadI, i_loadL, i_loadR, i_istore, i_lstore, i_astore, i_iinc, i_dup, i_dup2, i_pop, i_iadd, i_isub, i_imul, i_idiv, i_irem, i_ineg, i_iand, i_ior, i_ishl, i_ishr, i_lxor, i_ladd, i_lsub, i_lmul, i_ldiv, i_lrem, i_lneg, i_lshl, i_lcmp, i_i2l, i_l2i, i_i2b, i_i2s, i_ifeq, i_ifne, i_iflt, i_ifge, i_ifgt, i_ifle, i_cmpeq, i_cmpne, i_cmplt, i_cmpge, i_cmpgt, i_cmple, i_acmpeq, i_acmpne, i_ifnull, i_ifnonnull, i_getI, i_getR, i_putI, i_putZ, i_putR, i_ald, i_ldL, i_ldR, i_ast, i_stL, i_stR, i_alen, i_new, i_newa, i_iret, i_zret, i_lret, i_aret, i_vret, i_raise, i_throw, i_recv, i_objinit, i_tsw3, lget, lset, lput1, lput2, lkil, ltrim, largs, isL, takev, dropv, nthv, pushO, catv, gd, true_and, and_true, Option.some.injEq, Prod.mk.injEq, exists_eq_left', if_true, if_false, reduceCtorEq, Bool.false_eq_true, lcmp_ge, lcmp_lt, lcmp_le, lcmp_gt, lcmp_eq, true_or, or_true, not_true_eq_false, not_false_eq_true, false_implies, true_implies, List.length_cons, List.length_nil]
            refine ⟨fun _ => sml 0 (by omega) (fun w => by omega) hp2, fun w => absurd w (by decide)⟩
          | succ n2 ih2 =>
            intro hle hp2
            obtain ⟨t1, t2⟩ := k3 n2 (by omega)
            have t3 := t2.1
            have hw := j2 n2 (by omega)
            have hsg := hw.sg
            have e2 : ((n2 + 1 : Nat) : Int) - 1 = (n2 : Int) := by omega
            rw [e2]
            refine wp_in ?_
            simp only [P_X16_takeMultiples, i_kil, i_icon, i_lcon, i_null, i_loadI, i_loadL, i_loadR, i_istore, i_lstore, i_astore, i_iinc, i_dup, i_dup2, i_pop, i_iadd, i_isub, i_imul, i_idiv, i_irem, i_ineg, i_iand, i_ior, i_ishl, i_ishr, i_lxor, i_ladd, i_lsub, i_lmul, i_ldiv, i_lrem, i_lneg, i_lshl, i_lcmp, i_i2l, i_l2i, i_i2b, i_i2s, i_ifeq, i_ifne, i_iflt, i_ifge, i_ifgt, i_ifle, i_cmpeq, i_cmpne, i_cmplt, i_cmpge, i_cmpgt, i_cmple, i_acmpeq, i_acmpne, i_ifnull, i_ifnonnull, i_getI, i_getR, i_putI, i_putZ, i_putR, i_ald, i_ldL, i_ldR, i_ast, i_stL, i_stR, i_alen, i_new, i_newa, i_iret, i_zret, i_lret, i_aret, i_vret, i_raise, i_throw, i_recv, i_objinit, i_tsw3, lget, lset, lput1, lput2, lkil, ltrim, largs, isL, takev, dropv, nthv, pushO, catv, gd, true_and, and_true, Option.some.injEq, Prod.mk.injEq, exists_eq_left', if_true, if_false, reduceCtorEq, Bool.false_eq_true, lcmp_ge, lcmp_lt, lcmp_le, lcmp_gt, lcmp_eq, true_or, or_true, not_true_eq_false, not_false_eq_true, false_implies, true_implies, List.length_cons, List.length_nil, M1, k1, k2, t1, t3, hsg]
            refine ⟨fun w => by omega, fun _ => ?_⟩
            refine ⟨by omega, by omega, fun w => ?_, fun w => ?_⟩
            · have hnz : prs fc (n - 1) g e n2 ≠ 0 := fun q => w (sign_nz.mpr q)
              have hlt : n2 + 1 < n := by
                rcases Nat.lt_or_ge (n2 + 1) n with q | q
                · exact q
                · exfalso
                  have e3 : n2 = n - 1 := by omega
                  rw [e3] at hnz
                  exact hnz (prs_top (by omega))
              have := sml (n2 + 1) hlt (fun _ => by rw [Nat.add_sub_cancel]; exact hnz) hp2
              rwa [e2] at this
            · have hz : prs fc (n - 1) g e n2 = 0 := sign_nz.mp w
              refine ⟨in_small (by omega) (by omega), ?_⟩
              exact ih2 (by omega) (hp2.congr fun x => (zp_drop hz x).symm)
        have := tops n (Nat.le_refl _) hpr2
        rwa [ed] at this
  refine wp_in ?_
  simp only [P_X16_takeMultiples, i_kil, i_icon, i_lcon, i_null, i_loadI, i_loadL, i_loadR, i_istore, i_lstore, i_astore, i_iinc, i_dup, i_dup2, i_pop, i_iadd, i_isub, i_imul, i_idiv, i_irem, i_ineg, i_iand, i_ior, i_ishl, i_ishr, i_lxor, i_ladd, i_lsub, i_lmul, i_ldiv, i_lrem, i_lneg, i_lshl, i_lcmp, i_i2l, i_l2i, i_i2b, i_i2s, i_ifeq, i_ifne, i_iflt, i_ifge, i_ifgt, i_ifle, i_cmpeq, i_cmpne, i_cmplt, i_cmpge, i_cmpgt, i_cmple, i_acmpeq, i_acmpne, i_ifnull, i_ifnonnull, i_getI, i_getR, i_putI, i_putZ, i_putR, i_ald, i_ldL, i_ldR, i_ast, i_stL, i_stR, i_alen, i_new, i_newa, i_iret, i_zret, i_lret, i_aret, i_vret, i_raise, i_throw, i_recv, i_objinit, i_tsw3, lget, lset, lput1, lput2, lkil, ltrim, largs, isL, takev, dropv, nthv, pushO, catv, gd, true_and, and_true, Option.some.injEq, Prod.mk.injEq, exists_eq_left', if_true, if_false, reduceCtorEq, Bool.false_eq_true, lcmp_ge, lcmp_lt, lcmp_le, lcmp_gt, lcmp_eq, true_or, or_true, not_true_eq_false, not_false_eq_true, false_implies, true_implies, List.length_cons, List.length_nil]
  have := outer (da + 1) (da + 1) f H D (Nat.le_refl _) (Nat.le_refl _) (fun _ _ _ _ _ => rfl) (fun k hk => hf k (by omega)) (fun _ => by rw [Nat.add_sub_cancel]; exact f0) (fun k hk => hH k (by omega)) (by omega) (prem.refl _ _) (fun a b => by omega)
  rwa [show ((da + 1 : Nat) : Int) - 1 = da by omega] at this
end TM
