/-! the model: makeSimple -/
-- needs: di.mchang 79o.node2
set_option maxRecDepth 100000
set_option linter.unusedVariables false
/-- the polynomial at hand -/
def plS (S : Stat) (M : Nat) : Prop := S.2.1 M 83 = some (M + 11307) ∧ S.1 (M + 11307) = some (104, 9)
def plD (D : Dat) (M : Nat) (f : Nat → Int) (d : Nat) : Prop := D M 84 = d ∧ ∀ k : Nat, k < 9 → D (M + 11307) k = if k ≤ d then f k else 0
def msO (M : Nat) (D D' : Dat) : Prop := (∀ c i, (c < M ∨ M + 16 < c) → (c < M + 10781 ∨ M + 10788 < c) → (c < M + 10796 ∨ M + 11277 < c) → c ≠ M + 11307 → D' c i = D c i) ∧ ∀ i, i ≠ 70 → i ≠ 84 → D' M i = D M i
theorem mhO2.toS {M : Nat} {D D' : Dat} (h : mhO2 M D D') : msO M D D' := ⟨fun c i c1 c2 c3 _ => h.1 c i c1 c2 c3, fun i hi _ => h.2 i hi⟩
theorem z99_47 : 99 ≤ 2 ^ 47 := by decide
theorem z99_50 : 99 ≤ 2 ^ 50 := by decide
section MKS
variable {M : Nat}
set_option maxHeartbeats 4000000 in
theorem sp_X16_makeSimple {E : Ex} {B : Nat × Nat} {S : Stat} {D : Dat} {f : Nat → Int} {d : Nat} (hS : mhS S M) (hp : plS S M) (hD : plD D M f d) (hd : d ≤ 8) (hd1 : 1 ≤ d) (f0 : f d ≠ 0) (hb : ∀ k, k ≤ d → (f k).natAbs ≤ 99)
    (K : ∀ (D' : Dat) (s : Nat → Int) (a : Nat), msO M D D' → 1 ≤ a → a ≤ d → s a ≠ 0 → plD D' M s a → smp (zp f (d + 1)) (zp s (a + 1)) → (∀ k, k ≤ a → (s k).natAbs ≤ 2 ^ 47) → (a = 8 → ∀ k, k ≤ a → (s k).natAbs ≤ 99) → E (.inl none) B S D') : Wp P_X16_makeSimple E 0 [some (aR M)] [] B S D := by
  have hS0 := hS
  obtain ⟨hM, hWw, hK, s1, s2, s3, s4, s5⟩ := hS
  obtain ⟨k1, k2, k3⟩ := id hK
  obtain ⟨w1, w2, w3, w4, w5, w6, w7, w8⟩ := id hWw
  obtain ⟨M1, m0, m264, -⟩ := id hM
  obtain ⟨p1, p2⟩ := hp
  obtain ⟨hD1, hD2⟩ := hD
  have hRr := hM.r
  have hWr := hM.w
  -- the noughts behind
  have tail : ∀ (s : Nat → Int) (a : Nat), 1 ≤ a → a ≤ d → s a ≠ 0 → smp (zp f (d + 1)) (zp s (a + 1)) → (∀ k, k ≤ a → (s k).natAbs ≤ 2 ^ 47) → (a = 8 → ∀ k, k ≤ a → (s k).natAbs ≤ 99) → ∀ (L j : Nat) (D1 : Dat), j + L = 9 → a + 1 ≤ j → msO M D D1 → D1 M 84 = a → (∀ k : Nat, k < 9 → D1 (M + 11307) k = if k ≤ a then s k else if k < j then 0 else D (M + 11307) k) → Wp P_X16_makeSimple E 5 [some (aR M), none, none, some (aI j)] [] B S D1 := by
    intro s a ha1 had hs0 hsm hs47 hs99 L
    induction L with
    | zero =>
      intro j D1 hj haj hfr h84 hrow
      refine wp_in ?_
      simp only [P_X16_makeSimple, i_kil, i_icon, i_lcon, i_null, i_loadI, i_loadL, i_loadR, i_istore, i_lstore, i_astore, i_iinc, i_dup, i_dup2, i_pop, i_iadd, i_isub, i_imul, i_idiv, i_irem, i_ineg, i_iand, i_ior, i_ishl, i_ishr, i_lxor, i_ladd, i_lsub, i_lmul, i_ldiv, i_lrem, i_lneg, i_lshl, i_lcmp, i_i2l, i_l2i, i_i2b, i_i2s, i_ifeq, i_ifne, i_iflt, i_ifge, i_ifgt, i_ifle, i_cmpeq, i_cmpne, i_cmplt, i_cmpge, i_cmpgt, i_cmple, i_acmpeq, i_acmpne, i_ifnull, i_ifnonnull, i_getI, i_getR, i_putI, i_putZ, i_putR, i_ald, i_ldL, i_ldR, i_ast, i_stL, i_stR, i_alen, i_new, i_newa, i_iret, i_zret, i_lret, i_aret, i_vret, i_raise, i_throw, i_recv, i_objinit, i_tsw3, lget, lset, lput1, lput2, lkil, ltrim, largs, isL, takev, dropv, nthv, pushO, catv, gd, true_and, and_true, Option.some.injEq, Prod.mk.injEq, exists_eq_left', if_true, if_false, reduceCtorEq, Bool.false_eq_true, lcmp_ge, lcmp_lt, lcmp_le, lcmp_gt, lcmp_eq, true_or, or_true, not_true_eq_false, not_false_eq_true, false_implies, true_implies, List.length_cons, List.length_nil]
      refine ⟨fun _ => ?_, fun w => by omega⟩
      refine K D1 s a hfr ha1 had hs0 ⟨h84, fun k hk => ?_⟩ hsm hs47 hs99
      rw [hrow k hk]
      by_cases w : k ≤ a
      · rw [if_pos w, if_pos w]
      · rw [if_neg w, if_neg w, if_pos (by omega)]
    | succ L ih =>
      intro j D1 hj haj hfr h84 hrow
      refine wp_in ?_
      simp only [P_X16_makeSimple, i_kil, i_icon, i_lcon, i_null, i_loadI, i_loadL, i_loadR, i_istore, i_lstore, i_astore, i_iinc, i_dup, i_dup2, i_pop, i_iadd, i_isub, i_imul, i_idiv, i_irem, i_ineg, i_iand, i_ior, i_ishl, i_ishr, i_lxor, i_ladd, i_lsub, i_lmul, i_ldiv, i_lrem, i_lneg, i_lshl, i_lcmp, i_i2l, i_l2i, i_i2b, i_i2s, i_ifeq, i_ifne, i_iflt, i_ifge, i_ifgt, i_ifle, i_cmpeq, i_cmpne, i_cmplt, i_cmpge, i_cmpgt, i_cmple, i_acmpeq, i_acmpne, i_ifnull, i_ifnonnull, i_getI, i_getR, i_putI, i_putZ, i_putR, i_ald, i_ldL, i_ldR, i_ast, i_stL, i_stR, i_alen, i_new, i_newa, i_iret, i_zret, i_lret, i_aret, i_vret, i_raise, i_throw, i_recv, i_objinit, i_tsw3, lget, lset, lput1, lput2, lkil, ltrim, largs, isL, takev, dropv, nthv, pushO, catv, gd, true_and, and_true, Option.some.injEq, Prod.mk.injEq, exists_eq_left', if_true, if_false, reduceCtorEq, Bool.false_eq_true, lcmp_ge, lcmp_lt, lcmp_le, lcmp_gt, lcmp_eq, true_or, or_true, not_true_eq_false, not_false_eq_true, false_implies, true_implies, List.length_cons, List.length_nil, M1, p1, p2]
      refine ⟨fun w => by omega, fun _ => ?_⟩
      repeat (first | refine ⟨in_small (by omega) (by omega), ?_⟩ | (show (_ → _) ∧ (_ → _); first | refine ⟨by omega, fun _ => ?_⟩ | refine ⟨fun _ => ?_, by omega⟩) | refine ⟨by omega, ?_⟩ | refine ⟨⟨_, rfl, by assumption⟩, ?_⟩ | refine ⟨okT_I _, ?_⟩ | refine ⟨okT_S (by omega) (by omega), ?_⟩ | refine ⟨okT_B (by omega) (by omega), ?_⟩ | refine call0 (gd_of rfl) ?_)
      refine ih (j + 1) _ (by omega) (by omega) ⟨fun c i c1 c2 c3 c4 => ?_, fun i h1 h2 => ?_⟩ ?_ fun k hk => ?_
      · simp only [pmu]; rw [if_neg (by omega)]; exact hfr.1 c i c1 c2 c3 c4
      · simp only [pmu]; rw [if_neg (by omega)]; exact hfr.2 i h1 h2
      · simp only [pmu]; rw [if_neg (by omega)]; exact h84
      · simp only [pmu]
        by_cases w : k = j
        · rw [if_pos (by subst w; simp), if_neg (by omega), if_pos (by omega)]
        · rw [if_neg (by omega), hrow k hk]
          by_cases w2 : k ≤ a
          · rw [if_pos w2, if_pos w2]
          · rw [if_neg w2, if_neg w2]
            by_cases w3 : k < j
            · rw [if_pos w3, if_pos (by omega)]
            · rw [if_neg w3, if_neg (by omega)]
  have tail4 : ∀ (s : Nat → Int) (a : Nat) (D1 : Dat), 1 ≤ a → a ≤ d → s a ≠ 0 → smp (zp f (d + 1)) (zp s (a + 1)) → (∀ k, k ≤ a → (s k).natAbs ≤ 2 ^ 47) → (a = 8 → ∀ k, k ≤ a → (s k).natAbs ≤ 99) → msO M D D1 → D1 M 84 = a → (∀ k : Nat, k < 9 → D1 (M + 11307) k = if k ≤ a then s k else D (M + 11307) k) → Wp P_X16_makeSimple E 4 [some (aR M)] [] B S D1 := by
    intro s a D1 ha1 had hs0 hsm hs47 hs99 hfr h84 hrow
    refine wp_in ?_
    simp only [P_X16_makeSimple, i_kil, i_icon, i_lcon, i_null, i_loadI, i_loadL, i_loadR, i_istore, i_lstore, i_astore, i_iinc, i_dup, i_dup2, i_pop, i_iadd, i_isub, i_imul, i_idiv, i_irem, i_ineg, i_iand, i_ior, i_ishl, i_ishr, i_lxor, i_ladd, i_lsub, i_lmul, i_ldiv, i_lrem, i_lneg, i_lshl, i_lcmp, i_i2l, i_l2i, i_i2b, i_i2s, i_ifeq, i_ifne, i_iflt, i_ifge, i_ifgt, i_ifle, i_cmpeq, i_cmpne, i_cmplt, i_cmpge, i_cmpgt, i_cmple, i_acmpeq, i_acmpne, i_ifnull, i_ifnonnull, i_getI, i_getR, i_putI, i_putZ, i_putR, i_ald, i_ldL, i_ldR, i_ast, i_stL, i_stR, i_alen, i_new, i_newa, i_iret, i_zret, i_lret, i_aret, i_vret, i_raise, i_throw, i_recv, i_objinit, i_tsw3, lget, lset, lput1, lput2, lkil, ltrim, largs, isL, takev, dropv, nthv, pushO, catv, gd, true_and, and_true, Option.some.injEq, Prod.mk.injEq, exists_eq_left', if_true, if_false, reduceCtorEq, Bool.false_eq_true, lcmp_ge, lcmp_lt, lcmp_le, lcmp_gt, lcmp_eq, true_or, or_true, not_true_eq_false, not_false_eq_true, false_implies, true_implies, List.length_cons, List.length_nil, M1, h84]
    repeat (first | refine ⟨in_small (by omega) (by omega), ?_⟩ | (show (_ → _) ∧ (_ → _); first | refine ⟨by omega, fun _ => ?_⟩ | refine ⟨fun _ => ?_, by omega⟩) | refine ⟨by omega, ?_⟩ | refine ⟨⟨_, rfl, by assumption⟩, ?_⟩ | refine ⟨okT_I _, ?_⟩ | refine ⟨okT_S (by omega) (by omega), ?_⟩ | refine ⟨okT_B (by omega) (by omega), ?_⟩ | refine call0 (gd_of rfl) ?_)
    refine tail s a ha1 had hs0 hsm hs47 hs99 (8 - a) (a + 1) D1 (by omega) (Nat.le_refl _) hfr h84 fun k hk => ?_
    rw [hrow k hk]
    by_cases w : k ≤ a
    · rw [if_pos w, if_pos w]
    · rw [if_neg w, if_neg w, if_neg (by omega)]
  refine wp_in ?_
  simp only [P_X16_makeSimple, i_kil, i_icon, i_lcon, i_null, i_loadI, i_loadL, i_loadR, i_istore, i_lstore, i_astore, i_iinc, i_dup, i_dup2, i_pop, i_iadd, i_isub, i_imul, i_idiv, i_irem, i_ineg, i_iand, i_ior, i_ishl, i_ishr, i_lxor, i_ladd, i_lsub, i_lmul, i_ldiv, i_lrem, i_lneg, i_lshl, i_lcmp, i_i2l, i_l2i, i_i2b, i_i2s, i_ifeq, i_ifne, i_iflt, i_ifge, i_ifgt, i_ifle, i_cmpeq, i_cmpne, i_cmplt, i_cmpge, i_cmpgt, i_cmple, i_acmpeq, i_acmpne, i_ifnull, i_ifnonnull, i_getI, i_getR, i_putI, i_putZ, i_putR, i_ald, i_ldL, i_ldR, i_ast, i_stL, i_stR, i_alen, i_new, i_newa, i_iret, i_zret, i_lret, i_aret, i_vret, i_raise, i_throw, i_recv, i_objinit, i_tsw3, lget, lset, lput1, lput2, lkil, ltrim, largs, isL, takev, dropv, nthv, pushO, catv, gd, true_and, and_true, Option.some.injEq, Prod.mk.injEq, exists_eq_left', if_true, if_false, reduceCtorEq, Bool.false_eq_true, lcmp_ge, lcmp_lt, lcmp_le, lcmp_gt, lcmp_eq, true_or, or_true, not_true_eq_false, not_false_eq_true, false_implies, true_implies, List.length_cons, List.length_nil, M1, p1, hD1]
  repeat (first | refine ⟨in_small (by omega) (by omega), ?_⟩ | (show (_ → _) ∧ (_ → _); first | refine ⟨by omega, fun _ => ?_⟩ | refine ⟨fun _ => ?_, by omega⟩) | refine ⟨by omega, ?_⟩ | refine ⟨⟨_, rfl, by assumption⟩, ?_⟩ | refine ⟨okT_I _, ?_⟩ | refine ⟨okT_S (by omega) (by omega), ?_⟩ | refine ⟨okT_B (by omega) (by omega), ?_⟩ | refine call0 (gd_of rfl) ?_)
  refine sp_X16_plainChain (f := f) hS0 p2 (by omega) (by omega) (by omega) rfl hd hd1 (fun k hk => by rw [hD2 k (by omega), if_pos hk]) (fun k hk => Nat.le_trans (hb k hk) z99_50) f0 fun D1 F n m g1 g2 g3 g4 => ?_
  have hm := g4.1
  have hm10 := g4.2.1
  obtain ⟨d1, d2, d3, d4⟩ := g2.2 (m - 1) (by omega)
  have em : (m : Int) - 1 = ((m - 1 : Nat) : Int) := by omega
  have d8 := g2.1
  obtain ⟨r1, r2⟩ := s3 (m - 1) (by omega)
  obtain ⟨q1, q2⟩ := id r2
  have hpc := mG_pc g4 hd1 f0
  have e84 : D1 M 84 = d := by rw [g1.2 _ (by omega)]; exact hD1
  have epl : ∀ k : Nat, k < 9 → D1 (M + 11307) k = if k ≤ d then f k else 0 := fun k hk => by rw [g1.1 _ _ (by omega) (by omega) (by omega)]; exact hD2 k hk
  simp only [P_X16_makeSimple, i_kil, i_icon, i_lcon, i_null, i_loadI, i_loadL, i_loadR, i_istore, i_lstore, i_astore, i_iinc, i_dup, i_dup2, i_pop, i_iadd, i_isub, i_imul, i_idiv, i_irem, i_ineg, i_iand, i_ior, i_ishl, i_ishr, i_lxor, i_ladd, i_lsub, i_lmul, i_ldiv, i_lrem, i_lneg, i_lshl, i_lcmp, i_i2l, i_l2i, i_i2b, i_i2s, i_ifeq, i_ifne, i_iflt, i_ifge, i_ifgt, i_ifle, i_cmpeq, i_cmpne, i_cmplt, i_cmpge, i_cmpgt, i_cmple, i_acmpeq, i_acmpne, i_ifnull, i_ifnonnull, i_getI, i_getR, i_putI, i_putZ, i_putR, i_ald, i_ldL, i_ldR, i_ast, i_stL, i_stR, i_alen, i_new, i_newa, i_iret, i_zret, i_lret, i_aret, i_vret, i_raise, i_throw, i_recv, i_objinit, i_tsw3, lget, lset, lput1, lput2, lkil, ltrim, largs, isL, takev, dropv, nthv, pushO, catv, gd, true_and, and_true, Option.some.injEq, Prod.mk.injEq, exists_eq_left', if_true, if_false, reduceCtorEq, Bool.false_eq_true, lcmp_ge, lcmp_lt, lcmp_le, lcmp_gt, lcmp_eq, true_or, or_true, not_true_eq_false, not_false_eq_true, false_implies, true_implies, List.length_cons, List.length_nil, M1, s1, s2, s4, s5, d8, em, r1, d1]
  repeat (first | refine ⟨in_small (by omega) (by omega), ?_⟩ | (show (_ → _) ∧ (_ → _); first | refine ⟨by omega, fun _ => ?_⟩ | refine ⟨fun _ => ?_, by omega⟩) | refine ⟨by omega, ?_⟩ | refine ⟨⟨_, rfl, by assumption⟩, ?_⟩ | refine ⟨okT_I _, ?_⟩ | refine ⟨okT_S (by omega) (by omega), ?_⟩ | refine ⟨okT_B (by omega) (by omega), ?_⟩ | refine call0 (gd_of rfl) ?_)
  refine ⟨fun w => ?_, fun w => ?_⟩
  · -- nothing in common
    have he : n (m - 1) = 0 := by omega
    have hl := g4.2.2.2.2.2.2.1.1 (m - 1) (by omega)
    rw [he] at hl
    obtain ⟨c, c0, hcx⟩ := hl.const
    refine tail4 f d D1 hd1 (Nat.le_refl _) f0 ⟨zp_pp _ _, zp_pp _ _, zF F n, n, m, hpc, c, c0, fun x => by rw [hcx]; grind⟩ (fun k hk => Nat.le_trans (hb k hk) z99_47) (fun _ => hb) g1.toS e84 fun k hk => ?_
    rw [epl k hk, hD2 k hk]
    by_cases w : k ≤ d
    · rw [if_pos w, if_pos w]
    · rw [if_neg w, if_neg w]
  · -- the quotient
    let e := n (m - 1)
    have he1 : 1 ≤ n (m - 1) := by omega
    have hle : n (m - 1) ≤ d - 1 := by
      have := g4.2.2.2.2.2.2.1.desc (m - 2) 1 (by omega) (by omega)
      rw [show 1 + (m - 2) = m - 1 by omega, g4.2.2.2.2.2.1] at this; omega
    obtain ⟨-, ⟨u, hu, e2⟩, -⟩ := g4.2.2.2.2.2.2.1.last g4.2.2.2.2.2.2.2.1 hm
    have eF0 : zF F n 0 = zp f (d + 1) := by unfold zF; rw [g4.2.2.1, g4.2.2.2.2.1]
    rw [eF0] at e2
    have gp : zprim (crow (F (m - 1)) (n (m - 1) + 1)) (n (m - 1) + 1) := brow_prim d3
    have gt : crow (F (m - 1)) (n (m - 1) + 1) (n (m - 1)) ≠ 0 := brow_top d3
    have hgc : (0 : Rat) < (((gcn (F (m - 1)) (n (m - 1) + 1) : Nat) : Int) : Rat) := Rat.intCast_pos.mpr (by have := gcn_pos (n (m - 1) + 1) (n (m - 1)) (by omega) d3; omega)
    have hfc : (0 : Rat) < (((gcn f (d + 1) : Nat) : Int) : Rat) := Rat.intCast_pos.mpr (by have := gcn_pos (d + 1) d (by omega) f0; omega)
    obtain ⟨fi1, fi2⟩ := pos_inv hfc
    obtain ⟨-, h, z1, z2, z3, z4⟩ := quo_ex (f := brow f d) (g := crow (F (m - 1)) (n (m - 1) + 1)) (d := d) (e := n (m - 1)) gp gt (brow_top f0) ⟨fun x => (((gcn f (d + 1) : Nat) : Int) : Rat)⁻¹ * (((gcn (F (m - 1)) (n (m - 1) + 1) : Nat) : Int) : Rat) * u x, hu.smul _, fun x => by
      have k4 := crow_zp (f := F (m - 1)) (n := n (m - 1) + 1) x
      have k5 := brow_zp (f := f) (d := d) x
      have k6 := e2 x
      have k7 : zF F n (m - 1) x = zp (F (m - 1)) (n (m - 1) + 1) x := rfl
      rw [k7, ← k4, ← k5] at k6
      have k8 : zp (brow f d) (d + 1) x = (((gcn f (d + 1) : Nat) : Int) : Rat)⁻¹ * ((((gcn f (d + 1) : Nat) : Int) : Rat) * zp (brow f d) (d + 1) x) := by
        have : (((gcn f (d + 1) : Nat) : Int) : Rat)⁻¹ * ((((gcn f (d + 1) : Nat) : Int) : Rat) * zp (brow f d) (d + 1) x) = (((gcn f (d + 1) : Nat) : Int) : Rat)⁻¹ * (((gcn f (d + 1) : Nat) : Int) : Rat) * zp (brow f d) (d + 1) x := by grind
        rw [this, fi2]; grind
      rw [k8, k6]; grind⟩
    generalize hg : crow (F (m - 1)) (n (m - 1) + 1) = g at *
    have bfb : ∀ k, k ≤ d → (brow f d k).natAbs ≤ 99 := fun k hk => Nat.le_trans (brow_abs hk f0) (hb k hk)
    have hgq : ∀ t : Int, ∃ z : Int, zp (brow f d) (d + 1) (t : Rat) = zp g (n (m - 1) + 1) (t : Rat) * (z : Rat) := fun t => by
      obtain ⟨z, hz⟩ := zp_int h t (d - n (m - 1) + 1)
      exact ⟨z, by rw [z3, hz]⟩
    have bg := fac_bd hd (by omega) (brow_top f0) bfb hgq
    have hsm : smp (zp f (d + 1)) (zp h (d - n (m - 1) + 1)) := by
      refine ⟨zp_pp _ _, zp_pp _ _, zF F n, n, m, hpc, (((gcn f (d + 1) : Nat) : Int) : Rat)⁻¹ * (((gcn (F (m - 1)) (n (m - 1) + 1) : Nat) : Int) : Rat), nz_mul (fun w => by rw [w] at fi1; exact Rat.lt_irrefl fi1) (fun w => by rw [w] at hgc; exact Rat.lt_irrefl hgc), fun x => ?_⟩
      have k4 := crow_zp (f := F (m - 1)) (n := n (m - 1) + 1) x
      rw [hg] at k4
      have k5 := brow_zp (f := f) (d := d) x
      show _ = _ * zp (F (m - 1)) (n (m - 1) + 1) x
      rw [← k4, ← k5, z3 x]
      have : (((gcn f (d + 1) : Nat) : Int) : Rat)⁻¹ * (((gcn (F (m - 1)) (n (m - 1) + 1) : Nat) : Int) : Rat) * ((((gcn f (d + 1) : Nat) : Int) : Rat) * (zp g (n (m - 1) + 1) x * zp h (d - n (m - 1) + 1) x)) = (((gcn f (d + 1) : Nat) : Int) : Rat)⁻¹ * (((gcn f (d + 1) : Nat) : Int) : Rat) * ((((gcn (F (m - 1)) (n (m - 1) + 1) : Nat) : Int) : Rat) * (zp g (n (m - 1) + 1) x * zp h (d - n (m - 1) + 1) x)) := by grind
      rw [this, fi2]; grind
    have bh := fac_bd2 (f := f) (h := h) (g := g) (d := d) (a := d - n (m - 1)) (e := n (m - 1)) hd (by omega) hb hsm.shr ⟨((gcn f (d + 1) : Nat) : Int), fun x => by rw [← brow_zp (f := f) (d := d) x, z3 x]; grind⟩
    have e65 : (2 : Nat) ^ 65 * 2 ^ 47 * 10 ≤ 2 ^ 116 := Nat.le_of_ble_eq_true rfl
    have l116 : ((2 ^ 116 : Nat) : Int) < 1000000000 ^ 5 := two_pw (by decide)
    have l65 : ((2 ^ 65 : Nat) : Int) < 1000000000 ^ 3 := two_pw (by decide)
    have l47 : ((2 ^ 47 : Nat) : Int) < 1000000000 ^ 2 := two_pw (by decide)
    have p260 : ∀ {z : Int} {p : Nat}, p ≤ 260 → (z.natAbs : Int) < 1000000000 ^ p → (z.natAbs : Int) < 1000000000 ^ 260 := fun hp h => Int.lt_of_lt_of_le h (pw_mono hp)
    have zb : ∀ k j, (zcv g (low h k) (n (m - 1) + 1) j).natAbs ≤ 9 * (2 ^ 65 * 2 ^ 47) := fun k j => by
      have h1 := zcv_abs (g := g) (a := low h k) (G := 2 ^ 65) (H := 2 ^ 47) (j := j) (n (m - 1) + 1) (fun t ht => bg t (by omega)) (low_abs fun t ht => by
        rcases Nat.lt_or_ge (d - n (m - 1)) t with w | w
        · rw [z1 t w]; exact Nat.zero_le _
        · exact bh t w)
      exact Nat.le_trans h1 (Nat.mul_le_mul_right _ (by omega))
    have hbgh : ∀ k i, k ≤ d - n (m - 1) → i ≤ n (m - 1) → (h k * g i).natAbs ≤ 2 ^ 65 * 2 ^ 47 := fun k i hk hi => by
      rw [Int.natAbs_mul, Nat.mul_comm]
      exact Nat.mul_le_mul (bg i hi) (bh k hk)
    generalize hU : 2 ^ 65 * 2 ^ 47 = U at *
    have lU : ∀ z : Int, z.natAbs ≤ 10 * U → (z.natAbs : Int) < 1000000000 ^ 5 := fun z hz => nat_pw (H := 2 ^ 116) (by omega) l116
    -- the quotient, from the top down
    have third : ∀ (kk : Nat) (D2 : Dat), kk ≤ d - n (m - 1) + 1 → msO M D D2 → D2 M 84 = d → (∀ k, k ≤ n (m - 1) → wD 2 1 D2 (mcw M (m - 1) k) (g k)) → (∀ j, j ≤ d → wD 2 1 D2 (M + 11242 + 2 * j) (zcv g (low h kk) (n (m - 1) + 1) j)) → (∀ k : Nat, k < 9 → D2 (M + 11307) k = if kk ≤ k ∧ k ≤ d - n (m - 1) then h k else D (M + 11307) k) → Wp P_X16_makeSimple E 2 [some (aR M), some (aR (M + 10796 + 37 * (m - 1))), some (aI (n (m - 1))), some (aI ((kk : Int) - 1))] [] B S D2 := by
      intro kk
      induction kk with
      | zero =>
        intro D2 hk hfr h84 hgg hw0 hrow
        refine wp_in ?_
        simp only [P_X16_makeSimple, i_kil, i_icon, i_lcon, i_null, i_loadI, i_loadL, i_loadR, i_istore, i_lstore, i_astore, i_iinc, i_dup, i_dup2, i_pop, i_iadd, i_isub, i_imul, i_idiv, i_irem, i_ineg, i_iand, i_ior, i_ishl, i_ishr, i_lxor, i_ladd, i_lsub, i_lmul, i_ldiv, i_lrem, i_lneg, i_lshl, i_lcmp, i_i2l, i_l2i, i_i2b, i_i2s, i_ifeq, i_ifne, i_iflt, i_ifge, i_ifgt, i_ifle, i_cmpeq, i_cmpne, i_cmplt, i_cmpge, i_cmpgt, i_cmple, i_acmpeq, i_acmpne, i_ifnull, i_ifnonnull, i_getI, i_getR, i_putI, i_putZ, i_putR, i_ald, i_ldL, i_ldR, i_ast, i_stL, i_stR, i_alen, i_new, i_newa, i_iret, i_zret, i_lret, i_aret, i_vret, i_raise, i_throw, i_recv, i_objinit, i_tsw3, lget, lset, lput1, lput2, lkil, ltrim, largs, isL, takev, dropv, nthv, pushO, catv, gd, true_and, and_true, Option.some.injEq, Prod.mk.injEq, exists_eq_left', if_true, if_false, reduceCtorEq, Bool.false_eq_true, lcmp_ge, lcmp_lt, lcmp_le, lcmp_gt, lcmp_eq, true_or, or_true, not_true_eq_false, not_false_eq_true, false_implies, true_implies, List.length_cons, List.length_nil, M1, h84]
        refine ⟨fun _ => ?_, fun w => absurd w (by decide)⟩
        repeat (first | refine ⟨in_small (by omega) (by omega), ?_⟩ | (show (_ → _) ∧ (_ → _); first | refine ⟨by omega, fun _ => ?_⟩ | refine ⟨fun _ => ?_, by omega⟩) | refine ⟨by omega, ?_⟩ | refine ⟨⟨_, rfl, by assumption⟩, ?_⟩ | refine ⟨okT_I _, ?_⟩ | refine ⟨okT_S (by omega) (by omega), ?_⟩ | refine ⟨okT_B (by omega) (by omega), ?_⟩ | refine call0 (gd_of rfl) ?_)
        refine tail4 h (d - n (m - 1)) _ (by omega) (by omega) z2 hsm bh (fun w8 => by omega) ⟨fun c i c1 c2 c3 c4 => ?_, fun i h1 h2 => ?_⟩ ?_ fun k hk => ?_
        · simp only [pmu]; rw [if_neg (by omega)]; exact hfr.1 c i c1 c2 c3 c4
        · simp only [pmu]; rw [if_neg (by omega)]; exact hfr.2 i h1 h2
        · simp only [pmu, and_self, if_true]; omega
        · simp only [pmu]; rw [if_neg (by omega), hrow k hk]
          by_cases w2 : k ≤ d - n (m - 1)
          · rw [if_pos (by omega), if_pos w2]
          · rw [if_neg (by omega), if_neg w2]
      | succ k ih =>
        intro D2 hk hfr h84 hgg hw0 hrow
        obtain ⟨t1, t2⟩ := k3 (k + n (m - 1)) (by omega)
        obtain ⟨v1, v2⟩ := q2 (n (m - 1)) (by omega)
        have c62 := w6.1
        have ek : ((k + 1 : Nat) : Int) - 1 = (k : Int) := by omega
        have eke : (k : Int) + n (m - 1) = ((k + n (m - 1) : Nat) : Int) := by omega
        have hv := hw0 (k + n (m - 1)) (by omega)
        rw [ztop] at hv
        have lv5 : ((g (n (m - 1)) * h k).natAbs : Int) < 1000000000 ^ 5 := lU _ (by have := hbgh k (n (m - 1)) (by omega) (Nat.le_refl _); rw [Int.mul_comm]; omega)
        have lg3 : ∀ i, i ≤ n (m - 1) → ((g i).natAbs : Int) < 1000000000 ^ 3 := fun i hi => nat_pw (bg i hi) l65
        have lh2 : ((h k).natAbs : Int) < 1000000000 ^ 2 := nat_pw (bh k (by omega)) l47
        rw [ek]
        refine wp_in ?_
        simp only [P_X16_makeSimple, i_kil, i_icon, i_lcon, i_null, i_loadI, i_loadL, i_loadR, i_istore, i_lstore, i_astore, i_iinc, i_dup, i_dup2, i_pop, i_iadd, i_isub, i_imul, i_idiv, i_irem, i_ineg, i_iand, i_ior, i_ishl, i_ishr, i_lxor, i_ladd, i_lsub, i_lmul, i_ldiv, i_lrem, i_lneg, i_lshl, i_lcmp, i_i2l, i_l2i, i_i2b, i_i2s, i_ifeq, i_ifne, i_iflt, i_ifge, i_ifgt, i_ifle, i_cmpeq, i_cmpne, i_cmplt, i_cmpge, i_cmpgt, i_cmple, i_acmpeq, i_acmpne, i_ifnull, i_ifnonnull, i_getI, i_getR, i_putI, i_putZ, i_putR, i_ald, i_ldL, i_ldR, i_ast, i_stL, i_stR, i_alen, i_new, i_newa, i_iret, i_zret, i_lret, i_aret, i_vret, i_raise, i_throw, i_recv, i_objinit, i_tsw3, lget, lset, lput1, lput2, lkil, ltrim, largs, isL, takev, dropv, nthv, pushO, catv, gd, true_and, and_true, Option.some.injEq, Prod.mk.injEq, exists_eq_left', if_true, if_false, reduceCtorEq, Bool.false_eq_true, lcmp_ge, lcmp_lt, lcmp_le, lcmp_gt, lcmp_eq, true_or, or_true, not_true_eq_false, not_false_eq_true, false_implies, true_implies, List.length_cons, List.length_nil, M1, w5, k1, k2, eke, t1, q1, v1]
        refine ⟨fun w => by omega, fun _ => ?_⟩
        repeat (first | refine ⟨in_small (by omega) (by omega), ?_⟩ | (show (_ → _) ∧ (_ → _); first | refine ⟨by omega, fun _ => ?_⟩ | refine ⟨fun _ => ?_, by omega⟩) | refine ⟨by omega, ?_⟩ | refine ⟨⟨_, rfl, by assumption⟩, ?_⟩ | refine ⟨okT_I _, ?_⟩ | refine ⟨okT_S (by omega) (by omega), ?_⟩ | refine ⟨okT_B (by omega) (by omega), ?_⟩ | refine call0 (gd_of rfl) ?_)
        refine sp_X16_divide_q hRr hWr w6 t2 v2 hv (hgg _ (Nat.le_refl _)) gt (p260 (by omega) lv5) (Int.lt_of_lt_of_le (lg3 _ (Nat.le_refl _)) (pw_mono (by decide))) (p260 (by omega) lv5) (by omega) (by omega) (by omega) fun D3 g5 g6 => ?_
        rw [Int.mul_tdiv_cancel_left _ gt] at g6
        simp only [P_X16_makeSimple, i_kil, i_icon, i_lcon, i_null, i_loadI, i_loadL, i_loadR, i_istore, i_lstore, i_astore, i_iinc, i_dup, i_dup2, i_pop, i_iadd, i_isub, i_imul, i_idiv, i_irem, i_ineg, i_iand, i_ior, i_ishl, i_ishr, i_lxor, i_ladd, i_lsub, i_lmul, i_ldiv, i_lrem, i_lneg, i_lshl, i_lcmp, i_i2l, i_l2i, i_i2b, i_i2s, i_ifeq, i_ifne, i_iflt, i_ifge, i_ifgt, i_ifle, i_cmpeq, i_cmpne, i_cmplt, i_cmpge, i_cmpgt, i_cmple, i_acmpeq, i_acmpne, i_ifnull, i_ifnonnull, i_getI, i_getR, i_putI, i_putZ, i_putR, i_ald, i_ldL, i_ldR, i_ast, i_stL, i_stR, i_alen, i_new, i_newa, i_iret, i_zret, i_lret, i_aret, i_vret, i_raise, i_throw, i_recv, i_objinit, i_tsw3, lget, lset, lput1, lput2, lkil, ltrim, largs, isL, takev, dropv, nthv, pushO, catv, gd, true_and, and_true, Option.some.injEq, Prod.mk.injEq, exists_eq_left', if_true, if_false, reduceCtorEq, Bool.false_eq_true, lcmp_ge, lcmp_lt, lcmp_le, lcmp_gt, lcmp_eq, true_or, or_true, not_true_eq_false, not_false_eq_true, false_implies, true_implies, List.length_cons, List.length_nil, M1, w5, p1]
        repeat (first | refine ⟨in_small (by omega) (by omega), ?_⟩ | (show (_ → _) ∧ (_ → _); first | refine ⟨by omega, fun _ => ?_⟩ | refine ⟨fun _ => ?_, by omega⟩) | refine ⟨by omega, ?_⟩ | refine ⟨⟨_, rfl, by assumption⟩, ?_⟩ | refine ⟨okT_I _, ?_⟩ | refine ⟨okT_S (by omega) (by omega), ?_⟩ | refine ⟨okT_B (by omega) (by omega), ?_⟩ | refine call0 (gd_of rfl) ?_)
        have b47 : (2 : Nat) ^ 47 = 140737488355328 := by decide
        have bhk := bh k (by omega)
        rw [b47] at bhk
        refine sp_X17_plain w6 g6 (by omega) (by omega) (by omega) (p260 (by omega) lh2) ?_
        simp only [P_X16_makeSimple, i_kil, i_icon, i_lcon, i_null, i_loadI, i_loadL, i_loadR, i_istore, i_lstore, i_astore, i_iinc, i_dup, i_dup2, i_pop, i_iadd, i_isub, i_imul, i_idiv, i_irem, i_ineg, i_iand, i_ior, i_ishl, i_ishr, i_lxor, i_ladd, i_lsub, i_lmul, i_ldiv, i_lrem, i_lneg, i_lshl, i_lcmp, i_i2l, i_l2i, i_i2b, i_i2s, i_ifeq, i_ifne, i_iflt, i_ifge, i_ifgt, i_ifle, i_cmpeq, i_cmpne, i_cmplt, i_cmpge, i_cmpgt, i_cmple, i_acmpeq, i_acmpne, i_ifnull, i_ifnonnull, i_getI, i_getR, i_putI, i_putZ, i_putR, i_ald, i_ldL, i_ldR, i_ast, i_stL, i_stR, i_alen, i_new, i_newa, i_iret, i_zret, i_lret, i_aret, i_vret, i_raise, i_throw, i_recv, i_objinit, i_tsw3, lget, lset, lput1, lput2, lkil, ltrim, largs, isL, takev, dropv, nthv, pushO, catv, gd, true_and, and_true, Option.some.injEq, Prod.mk.injEq, exists_eq_left', if_true, if_false, reduceCtorEq, Bool.false_eq_true, lcmp_ge, lcmp_lt, lcmp_le, lcmp_gt, lcmp_eq, true_or, or_true, not_true_eq_false, not_false_eq_true, false_implies, true_implies, List.length_cons, List.length_nil, M1, p1, p2]
        repeat (first | refine ⟨in_small (by omega) (by omega), ?_⟩ | (show (_ → _) ∧ (_ → _); first | refine ⟨by omega, fun _ => ?_⟩ | refine ⟨fun _ => ?_, by omega⟩) | refine ⟨by omega, ?_⟩ | refine ⟨⟨_, rfl, by assumption⟩, ?_⟩ | refine ⟨okT_I _, ?_⟩ | refine ⟨okT_S (by omega) (by omega), ?_⟩ | refine ⟨okT_B (by omega) (by omega), ?_⟩ | refine call0 (gd_of rfl) ?_)
        have fr3 : ∀ c i, (c ≤ M ∨ M + 16 < c) → c ≠ M + 10785 → c ≠ M + 10786 → c ≠ M + 11307 → pmu D3 (M + 11307) k (h k) c i = D2 c i := fun c i c1 c2 c3 c4 => by
          simp only [pmu]; rw [if_neg (by omega)]; exact g5 c i (by omega) (by omega) (by omega) (by omega) (by omega)
        have inner : ∀ (L i : Nat) (D4 : Dat), i + L = n (m - 1) + 1 → msO M D D4 → D4 M 84 = d → (∀ k, k ≤ n (m - 1) → wD 2 1 D4 (mcw M (m - 1) k) (g k)) → wD 2 1 D4 (M + 10785) (h k) → (∀ j, j ≤ d → (j < k + i → wD 2 1 D4 (M + 11242 + 2 * j) (zcv g (low h k) (n (m - 1) + 1) j)) ∧ (k + i ≤ j → wD 2 1 D4 (M + 11242 + 2 * j) (zcv g (low h (k + 1)) (n (m - 1) + 1) j))) → (∀ k' : Nat, k' < 9 → D4 (M + 11307) k' = if k ≤ k' ∧ k' ≤ d - n (m - 1) then h k' else D (M + 11307) k') → Wp P_X16_makeSimple E 3 [some (aR M), some (aR (M + 10796 + 37 * (m - 1))), some (aI (n (m - 1))), some (aI k), some (aI i)] [] B S D4 := by
          intro L
          induction L with
          | zero =>
            intro i D4 hi hfr4 h844 hg4 hrc hw4 hrow4
            refine wp_in ?_
            simp only [P_X16_makeSimple, i_kil, i_icon, i_lcon, i_null, i_loadI, i_loadL, i_loadR, i_istore, i_lstore, i_astore, i_iinc, i_dup, i_dup2, i_pop, i_iadd, i_isub, i_imul, i_idiv, i_irem, i_ineg, i_iand, i_ior, i_ishl, i_ishr, i_lxor, i_ladd, i_lsub, i_lmul, i_ldiv, i_lrem, i_lneg, i_lshl, i_lcmp, i_i2l, i_l2i, i_i2b, i_i2s, i_ifeq, i_ifne, i_iflt, i_ifge, i_ifgt, i_ifle, i_cmpeq, i_cmpne, i_cmplt, i_cmpge, i_cmpgt, i_cmple, i_acmpeq, i_acmpne, i_ifnull, i_ifnonnull, i_getI, i_getR, i_putI, i_putZ, i_putR, i_ald, i_ldL, i_ldR, i_ast, i_stL, i_stR, i_alen, i_new, i_newa, i_iret, i_zret, i_lret, i_aret, i_vret, i_raise, i_throw, i_recv, i_objinit, i_tsw3, lget, lset, lput1, lput2, lkil, ltrim, largs, isL, takev, dropv, nthv, pushO, catv, gd, true_and, and_true, Option.some.injEq, Prod.mk.injEq, exists_eq_left', if_true, if_false, reduceCtorEq, Bool.false_eq_true, lcmp_ge, lcmp_lt, lcmp_le, lcmp_gt, lcmp_eq, true_or, or_true, not_true_eq_false, not_false_eq_true, false_implies, true_implies, List.length_cons, List.length_nil]
            repeat (first | refine ⟨in_small (by omega) (by omega), ?_⟩ | (show (_ → _) ∧ (_ → _); first | refine ⟨by omega, fun _ => ?_⟩ | refine ⟨fun _ => ?_, by omega⟩) | refine ⟨by omega, ?_⟩ | refine ⟨⟨_, rfl, by assumption⟩, ?_⟩ | refine ⟨okT_I _, ?_⟩ | refine ⟨okT_S (by omega) (by omega), ?_⟩ | refine ⟨okT_B (by omega) (by omega), ?_⟩ | refine call0 (gd_of rfl) ?_)
            refine ih D4 (by omega) hfr4 h844 hg4 (fun j hj => ?_) hrow4
            rcases Nat.lt_or_ge j (k + i) with w | w
            · exact (hw4 j hj).1 w
            · have := (hw4 j hj).2 w
              rwa [zlow, if_neg (by omega), Int.add_zero] at this
          | succ L ihL =>
            intro i D4 hi hfr4 h844 hg4 hrc hw4 hrow4
            obtain ⟨a1, a2⟩ := q2 i (by omega)
            obtain ⟨b1, b2⟩ := k3 (k + i) (by omega)
            have eki : (k : Int) + i = ((k + i : Nat) : Int) := by omega
            refine wp_in ?_
            simp only [P_X16_makeSimple, i_kil, i_icon, i_lcon, i_null, i_loadI, i_loadL, i_loadR, i_istore, i_lstore, i_astore, i_iinc, i_dup, i_dup2, i_pop, i_iadd, i_isub, i_imul, i_idiv, i_irem, i_ineg, i_iand, i_ior, i_ishl, i_ishr, i_lxor, i_ladd, i_lsub, i_lmul, i_ldiv, i_lrem, i_lneg, i_lshl, i_lcmp, i_i2l, i_l2i, i_i2b, i_i2s, i_ifeq, i_ifne, i_iflt, i_ifge, i_ifgt, i_ifle, i_cmpeq, i_cmpne, i_cmplt, i_cmpge, i_cmpgt, i_cmple, i_acmpeq, i_acmpne, i_ifnull, i_ifnonnull, i_getI, i_getR, i_putI, i_putZ, i_putR, i_ald, i_ldL, i_ldR, i_ast, i_stL, i_stR, i_alen, i_new, i_newa, i_iret, i_zret, i_lret, i_aret, i_vret, i_raise, i_throw, i_recv, i_objinit, i_tsw3, lget, lset, lput1, lput2, lkil, ltrim, largs, isL, takev, dropv, nthv, pushO, catv, gd, true_and, and_true, Option.some.injEq, Prod.mk.injEq, exists_eq_left', if_true, if_false, reduceCtorEq, Bool.false_eq_true, lcmp_ge, lcmp_lt, lcmp_le, lcmp_gt, lcmp_eq, true_or, or_true, not_true_eq_false, not_false_eq_true, false_implies, true_implies, List.length_cons, List.length_nil, M1, w1, w5, q1, a1]
            repeat (first | refine ⟨in_small (by omega) (by omega), ?_⟩ | (show (_ → _) ∧ (_ → _); first | refine ⟨by omega, fun _ => ?_⟩ | refine ⟨fun _ => ?_, by omega⟩) | refine ⟨by omega, ?_⟩ | refine ⟨⟨_, rfl, by assumption⟩, ?_⟩ | refine ⟨okT_I _, ?_⟩ | refine ⟨okT_S (by omega) (by omega), ?_⟩ | refine ⟨okT_B (by omega) (by omega), ?_⟩ | refine call0 (gd_of rfl) ?_)
            refine sp_X16_multiply (p := 2) (q := 3) w2 w6 a2 M1 m0 m264 (by omega) (by omega) (by omega) hrc (hg4 i (by omega)) lh2 (lg3 i (by omega)) (by omega) (by omega) (by omega) (by omega) (by omega) (by omega) (by omega) fun D5 i1 i2 => ?_
            have hold : wD 2 1 D5 (M + 11242 + 2 * (k + i)) (zcv g (low h (k + 1)) (n (m - 1) + 1) (k + i)) := ((hw4 (k + i) (by omega)).2 (Nat.le_refl _)).congr (fun i' => i1 _ i' (by omega) (by omega) (by omega)) fun i' => i1 _ i' (by omega) (by omega) (by omega)
            have l1 := zb (k + 1) (k + i)
            have l2 := hbgh k i (by omega) (by omega)
            have l5 : (1000000000 : Int) ^ 5 ≤ 1000000000 ^ 260 := pw_mono (by decide)
            have lsum : ((zcv g (low h (k + 1)) (n (m - 1) + 1) (k + i)).natAbs : Int) + (h k * g i).natAbs < 1000000000 ^ 260 := by
              have : (((10 * U : Nat) : Int)) < 1000000000 ^ 5 := Int.lt_of_le_of_lt (Int.ofNat_le.mpr (by omega : 10 * U ≤ 2 ^ 116)) l116
              omega
            simp only [P_X16_makeSimple, i_kil, i_icon, i_lcon, i_null, i_loadI, i_loadL, i_loadR, i_istore, i_lstore, i_astore, i_iinc, i_dup, i_dup2, i_pop, i_iadd, i_isub, i_imul, i_idiv, i_irem, i_ineg, i_iand, i_ior, i_ishl, i_ishr, i_lxor, i_ladd, i_lsub, i_lmul, i_ldiv, i_lrem, i_lneg, i_lshl, i_lcmp, i_i2l, i_l2i, i_i2b, i_i2s, i_ifeq, i_ifne, i_iflt, i_ifge, i_ifgt, i_ifle, i_cmpeq, i_cmpne, i_cmplt, i_cmpge, i_cmpgt, i_cmple, i_acmpeq, i_acmpne, i_ifnull, i_ifnonnull, i_getI, i_getR, i_putI, i_putZ, i_putR, i_ald, i_ldL, i_ldR, i_ast, i_stL, i_stR, i_alen, i_new, i_newa, i_iret, i_zret, i_lret, i_aret, i_vret, i_raise, i_throw, i_recv, i_objinit, i_tsw3, lget, lset, lput1, lput2, lkil, ltrim, largs, isL, takev, dropv, nthv, pushO, catv, gd, true_and, and_true, Option.some.injEq, Prod.mk.injEq, exists_eq_left', if_true, if_false, reduceCtorEq, Bool.false_eq_true, lcmp_ge, lcmp_lt, lcmp_le, lcmp_gt, lcmp_eq, true_or, or_true, not_true_eq_false, not_false_eq_true, false_implies, true_implies, List.length_cons, List.length_nil, M1, w1, k1, k2, eki, b1]
            repeat (first | refine ⟨in_small (by omega) (by omega), ?_⟩ | (show (_ → _) ∧ (_ → _); first | refine ⟨by omega, fun _ => ?_⟩ | refine ⟨fun _ => ?_, by omega⟩) | refine ⟨by omega, ?_⟩ | refine ⟨⟨_, rfl, by assumption⟩, ?_⟩ | refine ⟨okT_I _, ?_⟩ | refine ⟨okT_S (by omega) (by omega), ?_⟩ | refine ⟨okT_B (by omega) (by omega), ?_⟩ | refine call0 (gd_of rfl) ?_)
            refine sp_X16_add b2 b2 w2 hold i2 (.inr rfl) (by omega) (by omega) lsum (by omega) (by omega) (by omega) fun D6 j1 j2 => ?_
            simp only [P_X16_makeSimple, i_kil, i_icon, i_lcon, i_null, i_loadI, i_loadL, i_loadR, i_istore, i_lstore, i_astore, i_iinc, i_dup, i_dup2, i_pop, i_iadd, i_isub, i_imul, i_idiv, i_irem, i_ineg, i_iand, i_ior, i_ishl, i_ishr, i_lxor, i_ladd, i_lsub, i_lmul, i_ldiv, i_lrem, i_lneg, i_lshl, i_lcmp, i_i2l, i_l2i, i_i2b, i_i2s, i_ifeq, i_ifne, i_iflt, i_ifge, i_ifgt, i_ifle, i_cmpeq, i_cmpne, i_cmplt, i_cmpge, i_cmpgt, i_cmple, i_acmpeq, i_acmpne, i_ifnull, i_ifnonnull, i_getI, i_getR, i_putI, i_putZ, i_putR, i_ald, i_ldL, i_ldR, i_ast, i_stL, i_stR, i_alen, i_new, i_newa, i_iret, i_zret, i_lret, i_aret, i_vret, i_raise, i_throw, i_recv, i_objinit, i_tsw3, lget, lset, lput1, lput2, lkil, ltrim, largs, isL, takev, dropv, nthv, pushO, catv, gd, true_and, and_true, Option.some.injEq, Prod.mk.injEq, exists_eq_left', if_true, if_false, reduceCtorEq, Bool.false_eq_true, lcmp_ge, lcmp_lt, lcmp_le, lcmp_gt, lcmp_eq, true_or, or_true, not_true_eq_false, not_false_eq_true, false_implies, true_implies, List.length_cons, List.length_nil]
            repeat (first | refine ⟨in_small (by omega) (by omega), ?_⟩ | (show (_ → _) ∧ (_ → _); first | refine ⟨by omega, fun _ => ?_⟩ | refine ⟨fun _ => ?_, by omega⟩) | refine ⟨by omega, ?_⟩ | refine ⟨⟨_, rfl, by assumption⟩, ?_⟩ | refine ⟨okT_I _, ?_⟩ | refine ⟨okT_S (by omega) (by omega), ?_⟩ | refine ⟨okT_B (by omega) (by omega), ?_⟩ | refine call0 (gd_of rfl) ?_)
            have enew : zcv g (low h (k + 1)) (n (m - 1) + 1) (k + i) + -1 * (h k * g i) = zcv g (low h k) (n (m - 1) + 1) (k + i) := by
              rw [zlow, if_pos (by omega), show k + i - k = i by omega]; omega
            rw [enew] at j2
            have fr6 : ∀ c i', c ≠ M + 1 → c ≠ M + 10781 → c ≠ M + 10782 → c ≠ M + 11242 + 2 * (k + i) → c ≠ M + 11242 + 2 * (k + i) + 1 → D6 c i' = D4 c i' := fun c i' c1 c2 c3 c4 c5 => by rw [j1 c i' c4 c5, i1 c i' c2 c3 c1]
            refine ihL (i + 1) D6 (by omega) ⟨fun c i' c1 c2 c3 c4 => ?_, fun i' h1 h2 => ?_⟩ ?_ (fun k' hk' => ?_) (hrc.congr (fun i' => fr6 _ i' (by omega) (by omega) (by omega) (by omega) (by omega)) fun i' => fr6 _ i' (by omega) (by omega) (by omega) (by omega) (by omega)) (fun j hj => ⟨fun w => ?_, fun w => ?_⟩) fun k' hk' => ?_
            · rw [fr6 c i' (by omega) (by omega) (by omega) (by omega) (by omega)]; exact hfr4.1 c i' c1 c2 c3 c4
            · rw [fr6 _ i' (by omega) (by omega) (by omega) (by omega) (by omega)]; exact hfr4.2 i' h1 h2
            · rw [fr6 _ _ (by omega) (by omega) (by omega) (by omega) (by omega)]; exact h844
            · exact (hg4 k' hk').congr (fun i' => fr6 _ i' (by unfold mcw; omega) (by unfold mcw; omega) (by unfold mcw; omega) (by unfold mcw; omega) (by unfold mcw; omega)) fun i' => fr6 _ i' (by unfold mcw; omega) (by unfold mcw; omega) (by unfold mcw; omega) (by unfold mcw; omega) (by unfold mcw; omega)
            · by_cases q : j = k + i
              · rw [q]; exact j2
              · exact ((hw4 j hj).1 (by omega)).congr (fun i' => fr6 _ i' (by omega) (by omega) (by omega) (by omega) (by omega)) fun i' => fr6 _ i' (by omega) (by omega) (by omega) (by omega) (by omega)
            · exact ((hw4 j hj).2 (by omega)).congr (fun i' => fr6 _ i' (by omega) (by omega) (by omega) (by omega) (by omega)) fun i' => fr6 _ i' (by omega) (by omega) (by omega) (by omega) (by omega)
            · rw [fr6 _ _ (by omega) (by omega) (by omega) (by omega) (by omega)]; exact hrow4 k' hk'
        refine inner (n (m - 1) + 1) 0 _ (by omega) ⟨fun c i' c1 c2 c3 c4 => ?_, fun i' h1 h2 => ?_⟩ ?_ (fun k' hk' => ?_) (g6.congr (fun i' => by simp only [pmu]; rw [if_neg (by omega)]) fun i' => by simp only [pmu]; rw [if_neg (by omega)]) (fun j hj => ⟨fun w => ?_, fun w => ?_⟩) fun k' hk' => ?_
        · rw [fr3 c i' (by omega) (by omega) (by omega) c4]; exact hfr.1 c i' c1 c2 c3 c4
        · rw [fr3 _ i' (by omega) (by omega) (by omega) (by omega)]; exact hfr.2 i' h1 h2
        · rw [fr3 _ _ (by omega) (by omega) (by omega) (by omega)]; exact h84
        · exact (hgg k' hk').congr (fun i' => fr3 _ i' (by unfold mcw; omega) (by unfold mcw; omega) (by unfold mcw; omega) (by unfold mcw; omega)) fun i' => fr3 _ i' (by unfold mcw; omega) (by unfold mcw; omega) (by unfold mcw; omega) (by unfold mcw; omega)
        · have := (hw0 j hj).congr (D' := pmu D3 (M + 11307) k (h k)) (fun i' => fr3 _ i' (by omega) (by omega) (by omega) (by omega)) fun i' => fr3 _ i' (by omega) (by omega) (by omega) (by omega)
          rwa [zlow, if_neg (by omega), Int.add_zero] at this
        · exact (hw0 j hj).congr (fun i' => fr3 _ i' (by omega) (by omega) (by omega) (by omega)) fun i' => fr3 _ i' (by omega) (by omega) (by omega) (by omega)
        · simp only [pmu]
          by_cases q : k' = k
          · rw [if_pos (by subst q; simp), if_pos (by omega), q]
          · rw [if_neg (by omega), g5 _ _ (by omega) (by omega) (by omega) (by omega) (by omega), hrow k' hk']
            by_cases q2 : k + 1 ≤ k' ∧ k' ≤ d - n (m - 1)
            · rw [if_pos q2, if_pos (by omega)]
            · rw [if_neg q2, if_neg (by omega)]
    -- the numbers come to work
    have second : ∀ (L j : Nat) (D2 : Dat), j + L = d + 1 → msO M D D2 → D2 M 84 = d → (∀ k, k ≤ n (m - 1) → wD 2 1 D2 (mcw M (m - 1) k) (g k)) → (∀ k : Nat, k < 9 → D2 (M + 11307) k = D (M + 11307) k) → (∀ k, k < j → wD 2 1 D2 (M + 11242 + 2 * k) (f k)) → Wp P_X16_makeSimple E 1 [some (aR M), some (aR (M + 10796 + 37 * (m - 1))), some (aI (n (m - 1))), some (aI j)] [] B S D2 := by
      intro L
      induction L with
      | zero =>
        intro j D2 hj hfr h84 hgg hrow hdone
        refine wp_in ?_
        simp only [P_X16_makeSimple, i_kil, i_icon, i_lcon, i_null, i_loadI, i_loadL, i_loadR, i_istore, i_lstore, i_astore, i_iinc, i_dup, i_dup2, i_pop, i_iadd, i_isub, i_imul, i_idiv, i_irem, i_ineg, i_iand, i_ior, i_ishl, i_ishr, i_lxor, i_ladd, i_lsub, i_lmul, i_ldiv, i_lrem, i_lneg, i_lshl, i_lcmp, i_i2l, i_l2i, i_i2b, i_i2s, i_ifeq, i_ifne, i_iflt, i_ifge, i_ifgt, i_ifle, i_cmpeq, i_cmpne, i_cmplt, i_cmpge, i_cmpgt, i_cmple, i_acmpeq, i_acmpne, i_ifnull, i_ifnonnull, i_getI, i_getR, i_putI, i_putZ, i_putR, i_ald, i_ldL, i_ldR, i_ast, i_stL, i_stR, i_alen, i_new, i_newa, i_iret, i_zret, i_lret, i_aret, i_vret, i_raise, i_throw, i_recv, i_objinit, i_tsw3, lget, lset, lput1, lput2, lkil, ltrim, largs, isL, takev, dropv, nthv, pushO, catv, gd, true_and, and_true, Option.some.injEq, Prod.mk.injEq, exists_eq_left', if_true, if_false, reduceCtorEq, Bool.false_eq_true, lcmp_ge, lcmp_lt, lcmp_le, lcmp_gt, lcmp_eq, true_or, or_true, not_true_eq_false, not_false_eq_true, false_implies, true_implies, List.length_cons, List.length_nil, M1, k1, h84]
        repeat (first | refine ⟨in_small (by omega) (by omega), ?_⟩ | (show (_ → _) ∧ (_ → _); first | refine ⟨by omega, fun _ => ?_⟩ | refine ⟨fun _ => ?_, by omega⟩) | refine ⟨by omega, ?_⟩ | refine ⟨⟨_, rfl, by assumption⟩, ?_⟩ | refine ⟨okT_I _, ?_⟩ | refine ⟨okT_S (by omega) (by omega), ?_⟩ | refine ⟨okT_B (by omega) (by omega), ?_⟩ | refine call0 (gd_of rfl) ?_)
        refine sp_X16_small (A := M + 11241) (R := 260) (N := 18) (n := d + 1) (p := 1) (f := f) hM hWw ⟨k2, k3⟩ (by omega) (by omega) (by omega) (fun k hk => hdone k (by omega)) (fun k hk => by have := hb k (by omega); omega) (by omega) (by omega) (by omega) (by omega) fun D3 i1 i2 => ?_
        have e84' : D3 M 84 = d := by rw [i1 _ _ (by omega) (by omega) (by omega) (by omega)]; exact h84
        simp only [P_X16_makeSimple, i_kil, i_icon, i_lcon, i_null, i_loadI, i_loadL, i_loadR, i_istore, i_lstore, i_astore, i_iinc, i_dup, i_dup2, i_pop, i_iadd, i_isub, i_imul, i_idiv, i_irem, i_ineg, i_iand, i_ior, i_ishl, i_ishr, i_lxor, i_ladd, i_lsub, i_lmul, i_ldiv, i_lrem, i_lneg, i_lshl, i_lcmp, i_i2l, i_l2i, i_i2b, i_i2s, i_ifeq, i_ifne, i_iflt, i_ifge, i_ifgt, i_ifle, i_cmpeq, i_cmpne, i_cmplt, i_cmpge, i_cmpgt, i_cmple, i_acmpeq, i_acmpne, i_ifnull, i_ifnonnull, i_getI, i_getR, i_putI, i_putZ, i_putR, i_ald, i_ldL, i_ldR, i_ast, i_stL, i_stR, i_alen, i_new, i_newa, i_iret, i_zret, i_lret, i_aret, i_vret, i_raise, i_throw, i_recv, i_objinit, i_tsw3, lget, lset, lput1, lput2, lkil, ltrim, largs, isL, takev, dropv, nthv, pushO, catv, gd, true_and, and_true, Option.some.injEq, Prod.mk.injEq, exists_eq_left', if_true, if_false, reduceCtorEq, Bool.false_eq_true, lcmp_ge, lcmp_lt, lcmp_le, lcmp_gt, lcmp_eq, true_or, or_true, not_true_eq_false, not_false_eq_true, false_implies, true_implies, List.length_cons, List.length_nil, M1, e84']
        repeat (first | refine ⟨in_small (by omega) (by omega), ?_⟩ | (show (_ → _) ∧ (_ → _); first | refine ⟨by omega, fun _ => ?_⟩ | refine ⟨fun _ => ?_, by omega⟩) | refine ⟨by omega, ?_⟩ | refine ⟨⟨_, rfl, by assumption⟩, ?_⟩ | refine ⟨okT_I _, ?_⟩ | refine ⟨okT_S (by omega) (by omega), ?_⟩ | refine ⟨okT_B (by omega) (by omega), ?_⟩ | refine call0 (gd_of rfl) ?_)
        have := third (d - n (m - 1) + 1) D3 (Nat.le_refl _) ⟨fun c i c1 c2 c3 c4 => ?_, fun i h1 h2 => ?_⟩ e84' (fun k hk => (hgg k hk).congr (fun i => i1 _ i (by unfold mcw; omega) (by unfold mcw; omega) (by unfold mcw; omega) (by unfold mcw; omega)) fun i => i1 _ i (by unfold mcw; omega) (by unfold mcw; omega) (by unfold mcw; omega) (by unfold mcw; omega)) (fun j hj => ?_) fun k hk => ?_
        · rwa [show ((d - n (m - 1) + 1 : Nat) : Int) - 1 = (d : Int) - n (m - 1) by omega] at this
        · rw [i1 c i (by omega) (by omega) (by omega) (by omega)]; exact hfr.1 c i c1 c2 c3 c4
        · rw [i1 _ i (by omega) (by omega) (by omega) (by omega)]; exact hfr.2 i h1 h2
        · have e3 : zcv g (low h (d - n (m - 1) + 1)) (n (m - 1) + 1) j = crow f (d + 1) j := by
            rw [crow_brow, z4 j hj]
            congr 1
            funext t
            unfold low
            by_cases w : t < d - n (m - 1) + 1
            · rw [if_pos w]
            · rw [if_neg w, z1 t (by omega)]
          rw [e3]; exact i2 j (by omega)
        · rw [i1 _ _ (by omega) (by omega) (by omega) (by omega), hrow k hk, if_neg (by omega)]
      | succ L ih =>
        intro j D2 hj hfr h84 hgg hrow hdone
        obtain ⟨t1, t2⟩ := k3 j (by omega)
        have t3 := t2.1
        have e1 : D2 (M + 11307) j = f j := by rw [hrow j (by omega), hD2 j (by omega), if_pos (by omega)]
        have hbj := hb j (by omega)
        refine wp_in ?_
        simp only [P_X16_makeSimple, i_kil, i_icon, i_lcon, i_null, i_loadI, i_loadL, i_loadR, i_istore, i_lstore, i_astore, i_iinc, i_dup, i_dup2, i_pop, i_iadd, i_isub, i_imul, i_idiv, i_irem, i_ineg, i_iand, i_ior, i_ishl, i_ishr, i_lxor, i_ladd, i_lsub, i_lmul, i_ldiv, i_lrem, i_lneg, i_lshl, i_lcmp, i_i2l, i_l2i, i_i2b, i_i2s, i_ifeq, i_ifne, i_iflt, i_ifge, i_ifgt, i_ifle, i_cmpeq, i_cmpne, i_cmplt, i_cmpge, i_cmpgt, i_cmple, i_acmpeq, i_acmpne, i_ifnull, i_ifnonnull, i_getI, i_getR, i_putI, i_putZ, i_putR, i_ald, i_ldL, i_ldR, i_ast, i_stL, i_stR, i_alen, i_new, i_newa, i_iret, i_zret, i_lret, i_aret, i_vret, i_raise, i_throw, i_recv, i_objinit, i_tsw3, lget, lset, lput1, lput2, lkil, ltrim, largs, isL, takev, dropv, nthv, pushO, catv, gd, true_and, and_true, Option.some.injEq, Prod.mk.injEq, exists_eq_left', if_true, if_false, reduceCtorEq, Bool.false_eq_true, lcmp_ge, lcmp_lt, lcmp_le, lcmp_gt, lcmp_eq, true_or, or_true, not_true_eq_false, not_false_eq_true, false_implies, true_implies, List.length_cons, List.length_nil, M1, k1, k2, t1, p1, p2, h84, e1]
        repeat (first | refine ⟨in_small (by omega) (by omega), ?_⟩ | (show (_ → _) ∧ (_ → _); first | refine ⟨by omega, fun _ => ?_⟩ | refine ⟨fun _ => ?_, by omega⟩) | refine ⟨by omega, ?_⟩ | refine ⟨⟨_, rfl, by assumption⟩, ?_⟩ | refine ⟨okT_I _, ?_⟩ | refine ⟨okT_S (by omega) (by omega), ?_⟩ | refine ⟨okT_B (by omega) (by omega), ?_⟩ | refine call0 (gd_of rfl) ?_)
        refine sp_X17_set t2 (by omega) (by omega) (by omega) fun D3 i1 i2 => ?_
        simp only [P_X16_makeSimple, i_kil, i_icon, i_lcon, i_null, i_loadI, i_loadL, i_loadR, i_istore, i_lstore, i_astore, i_iinc, i_dup, i_dup2, i_pop, i_iadd, i_isub, i_imul, i_idiv, i_irem, i_ineg, i_iand, i_ior, i_ishl, i_ishr, i_lxor, i_ladd, i_lsub, i_lmul, i_ldiv, i_lrem, i_lneg, i_lshl, i_lcmp, i_i2l, i_l2i, i_i2b, i_i2s, i_ifeq, i_ifne, i_iflt, i_ifge, i_ifgt, i_ifle, i_cmpeq, i_cmpne, i_cmplt, i_cmpge, i_cmpgt, i_cmple, i_acmpeq, i_acmpne, i_ifnull, i_ifnonnull, i_getI, i_getR, i_putI, i_putZ, i_putR, i_ald, i_ldL, i_ldR, i_ast, i_stL, i_stR, i_alen, i_new, i_newa, i_iret, i_zret, i_lret, i_aret, i_vret, i_raise, i_throw, i_recv, i_objinit, i_tsw3, lget, lset, lput1, lput2, lkil, ltrim, largs, isL, takev, dropv, nthv, pushO, catv, gd, true_and, and_true, Option.some.injEq, Prod.mk.injEq, exists_eq_left', if_true, if_false, reduceCtorEq, Bool.false_eq_true, lcmp_ge, lcmp_lt, lcmp_le, lcmp_gt, lcmp_eq, true_or, or_true, not_true_eq_false, not_false_eq_true, false_implies, true_implies, List.length_cons, List.length_nil]
        repeat (first | refine ⟨in_small (by omega) (by omega), ?_⟩ | (show (_ → _) ∧ (_ → _); first | refine ⟨by omega, fun _ => ?_⟩ | refine ⟨fun _ => ?_, by omega⟩) | refine ⟨by omega, ?_⟩ | refine ⟨⟨_, rfl, by assumption⟩, ?_⟩ | refine ⟨okT_I _, ?_⟩ | refine ⟨okT_S (by omega) (by omega), ?_⟩ | refine ⟨okT_B (by omega) (by omega), ?_⟩ | refine call0 (gd_of rfl) ?_)
        refine ih (j + 1) D3 (by omega) ⟨fun c i c1 c2 c3 c4 => ?_, fun i h1 h2 => ?_⟩ ?_ (fun k hk => (hgg k hk).congr (fun i => i1 _ i (by unfold mcw; omega) (by unfold mcw; omega)) fun i => i1 _ i (by unfold mcw; omega) (by unfold mcw; omega)) (fun k hk => ?_) fun k hk => ?_
        · rw [i1 c i (by omega) (by omega)]; exact hfr.1 c i c1 c2 c3 c4
        · rw [i1 _ i (by omega) (by omega)]; exact hfr.2 i h1 h2
        · rw [i1 _ _ (by omega) (by omega)]; exact h84
        · rw [i1 _ _ (by omega) (by omega)]; exact hrow k hk
        · by_cases w : k = j
          · rw [w]; exact i2
          · exact (hdone k (by omega)).congr (fun i => i1 _ i (by omega) (by omega)) fun i => i1 _ i (by omega) (by omega)
    have hmc := g3.2 (m - 1) (by omega)
    repeat (first | refine ⟨in_small (by omega) (by omega), ?_⟩ | (show (_ → _) ∧ (_ → _); first | refine ⟨by omega, fun _ => ?_⟩ | refine ⟨fun _ => ?_, by omega⟩) | refine ⟨by omega, ?_⟩ | refine ⟨⟨_, rfl, by assumption⟩, ?_⟩ | refine ⟨okT_I _, ?_⟩ | refine ⟨okT_S (by omega) (by omega), ?_⟩ | refine ⟨okT_B (by omega) (by omega), ?_⟩ | refine call0 (gd_of rfl) ?_)
    refine sp_X16_small (A := M + 10796 + 37 * (m - 1)) (R := 130) (N := 18) (n := n (m - 1) + 1) (p := 130) (f := F (m - 1)) (x := (n (m - 1) : Int)) hM hWw r2 (by omega) (by omega) (by omega) (fun k hk => d4 k (by omega)) (fun k hk => hmc k (by omega)) (by omega) (by omega) (by omega) (by omega) fun D2 i1 i2 => ?_
    rw [hg] at i2
    simp only [P_X16_makeSimple, i_kil, i_icon, i_lcon, i_null, i_loadI, i_loadL, i_loadR, i_istore, i_lstore, i_astore, i_iinc, i_dup, i_dup2, i_pop, i_iadd, i_isub, i_imul, i_idiv, i_irem, i_ineg, i_iand, i_ior, i_ishl, i_ishr, i_lxor, i_ladd, i_lsub, i_lmul, i_ldiv, i_lrem, i_lneg, i_lshl, i_lcmp, i_i2l, i_l2i, i_i2b, i_i2s, i_ifeq, i_ifne, i_iflt, i_ifge, i_ifgt, i_ifle, i_cmpeq, i_cmpne, i_cmplt, i_cmpge, i_cmpgt, i_cmple, i_acmpeq, i_acmpne, i_ifnull, i_ifnonnull, i_getI, i_getR, i_putI, i_putZ, i_putR, i_ald, i_ldL, i_ldR, i_ast, i_stL, i_stR, i_alen, i_new, i_newa, i_iret, i_zret, i_lret, i_aret, i_vret, i_raise, i_throw, i_recv, i_objinit, i_tsw3, lget, lset, lput1, lput2, lkil, ltrim, largs, isL, takev, dropv, nthv, pushO, catv, gd, true_and, and_true, Option.some.injEq, Prod.mk.injEq, exists_eq_left', if_true, if_false, reduceCtorEq, Bool.false_eq_true, lcmp_ge, lcmp_lt, lcmp_le, lcmp_gt, lcmp_eq, true_or, or_true, not_true_eq_false, not_false_eq_true, false_implies, true_implies, List.length_cons, List.length_nil]
    repeat (first | refine ⟨in_small (by omega) (by omega), ?_⟩ | (show (_ → _) ∧ (_ → _); first | refine ⟨by omega, fun _ => ?_⟩ | refine ⟨fun _ => ?_, by omega⟩) | refine ⟨by omega, ?_⟩ | refine ⟨⟨_, rfl, by assumption⟩, ?_⟩ | refine ⟨okT_I _, ?_⟩ | refine ⟨okT_S (by omega) (by omega), ?_⟩ | refine ⟨okT_B (by omega) (by omega), ?_⟩ | refine call0 (gd_of rfl) ?_)
    refine second (d + 1) 0 D2 (by omega) ⟨fun c i c1 c2 c3 c4 => ?_, fun i h1 h2 => ?_⟩ ?_ (fun k hk => show wD 2 1 D2 (M + 10796 + 37 * (m - 1) + 1 + 2 * k) (g k) from i2 k (by omega)) (fun k hk => ?_) fun k hk => by omega
    · rw [i1 c i (by omega) (by omega) (by omega) (by omega)]; exact g1.1 c i c1 c2 c3
    · rw [i1 _ i (by omega) (by omega) (by omega) (by omega)]; exact g1.2 i h1
    · rw [i1 _ _ (by omega) (by omega) (by omega) (by omega)]; exact e84
    · rw [i1 _ _ (by omega) (by omega) (by omega) (by omega)]; exact g1.1 _ _ (by omega) (by omega) (by omega)
end MKS
