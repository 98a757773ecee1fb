/-! the model's gcd and lowest -/
set_option maxRecDepth 100000
set_option linter.unusedVariables false
/-- the model's reckoning places -/
def mS (S : Stat) (M : Nat) : Prop := S.1 M = some (16, 0) ∧ S.2.1 M 0 = some (M + 1) ∧ S.1 (M + 1) = some (100, 264) ∧ S.2.1 M 1 = some (M + 2) ∧ S.1 (M + 2) = some (100, 266) ∧ S.2.1 M 2 = some (M + 3) ∧ S.1 (M + 3) = some (100, 266) ∧ S.2.1 M 3 = some (M + 4) ∧ S.1 (M + 4) = some (100, 266) ∧
  S.2.1 M 4 = some (M + 5) ∧ wS 17 S (M + 5) 264 ∧ S.2.1 M 5 = some (M + 7) ∧ wS 17 S (M + 7) 264 ∧ S.2.1 M 6 = some (M + 9) ∧ wS 17 S (M + 9) 264 ∧ S.2.1 M 7 = some (M + 11) ∧ wS 17 S (M + 11) 260 ∧ S.2.1 M 8 = some (M + 13) ∧ wS 17 S (M + 13) 260 ∧ S.2.1 M 9 = some (M + 15) ∧ wS 17 S (M + 15) 260
theorem mS.r {S : Stat} {M : Nat} (h : mS S M) : mR S M (M + 2) (M + 3) := ⟨h.1, h.2.2.2.1, h.2.2.2.2.1, h.2.2.2.2.2.1, h.2.2.2.2.2.2.1, by omega⟩
theorem mS.w {S : Stat} {M : Nat} (h : mS S M) : mW S M (M + 2) (M + 3) (M + 4) := ⟨h.2.2.2.2.2.2.2.1, h.2.2.2.2.2.2.2.2.1, by omega, by omega⟩
theorem wO5.toR {D D' : Dat} {M q : Nat} (h : wO5 D D' (M + 2) (M + 3) (M + 4) q) : rO D D' M q := fun c i h1 h2 h3 => h c i (by omega) (by omega) (by omega) h1 h2
theorem sp_J9_abs2 {E : Ex} {B : Nat × Nat} {S : Stat} {D : Dat} {x : Int} (hx : -9223372036854775808 < x ∧ x ≤ 9223372036854775807) (k : E (.inl (some (.inr (.inl (x.natAbs : Int))))) B S D) : Wp P_J9_abs_2 E 0 [some (aL x), none] [] B S D := by
  refine wp_in ?_
  simp only [P_J9_abs_2, i_kil, i_icon, i_lcon, i_null, i_loadI, i_loadL, i_loadR, i_istore, i_lstore, i_astore, i_iinc, i_dup, i_dup2, i_pop, i_iadd, i_isub, i_imul, i_idiv, i_irem, i_ineg, i_iand, i_ior, i_ishl, i_ishr, i_lxor, i_ladd, i_lsub, i_lmul, i_ldiv, i_lrem, i_lneg, i_lshl, i_lcmp, i_i2l, i_l2i, i_i2b, i_i2s, i_ifeq, i_ifne, i_iflt, i_ifge, i_ifgt, i_ifle, i_cmpeq, i_cmpne, i_cmplt, i_cmpge, i_cmpgt, i_cmple, i_acmpeq, i_acmpne, i_ifnull, i_ifnonnull, i_getI, i_getR, i_putI, i_putZ, i_putR, i_ald, i_ldL, i_ldR, i_ast, i_stL, i_stR, i_alen, i_new, i_newa, i_iret, i_zret, i_lret, i_aret, i_vret, i_raise, i_throw, i_recv, i_objinit, i_tsw3, lget, lset, lput1, lput2, lkil, ltrim, largs, isL, takev, dropv, nthv, pushO, catv, gd, true_and, and_true, Option.some.injEq, Prod.mk.injEq, exists_eq_left', if_true, if_false, reduceCtorEq, Bool.false_eq_true, lcmp_ge, lcmp_lt, lcmp_le, lcmp_gt, lcmp_eq, true_or, or_true, not_true_eq_false, not_false_eq_true, false_implies, true_implies, List.length_cons, List.length_nil, lcmp_ge]
  refine ⟨fun h => wp_in ?_, fun h => ⟨by unfold inL; omega, wp_in ?_⟩⟩
  · simp only [P_J9_abs_2, i_kil, i_icon, i_lcon, i_null, i_loadI, i_loadL, i_loadR, i_istore, i_lstore, i_astore, i_iinc, i_dup, i_dup2, i_pop, i_iadd, i_isub, i_imul, i_idiv, i_irem, i_ineg, i_iand, i_ior, i_ishl, i_ishr, i_lxor, i_ladd, i_lsub, i_lmul, i_ldiv, i_lrem, i_lneg, i_lshl, i_lcmp, i_i2l, i_l2i, i_i2b, i_i2s, i_ifeq, i_ifne, i_iflt, i_ifge, i_ifgt, i_ifle, i_cmpeq, i_cmpne, i_cmplt, i_cmpge, i_cmpgt, i_cmple, i_acmpeq, i_acmpne, i_ifnull, i_ifnonnull, i_getI, i_getR, i_putI, i_putZ, i_putR, i_ald, i_ldL, i_ldR, i_ast, i_stL, i_stR, i_alen, i_new, i_newa, i_iret, i_zret, i_lret, i_aret, i_vret, i_raise, i_throw, i_recv, i_objinit, i_tsw3, lget, lset, lput1, lput2, lkil, ltrim, largs, isL, takev, dropv, nthv, pushO, catv, gd, true_and, and_true, Option.some.injEq, Prod.mk.injEq, exists_eq_left', if_true, if_false, reduceCtorEq, Bool.false_eq_true, lcmp_ge, lcmp_lt, lcmp_le, lcmp_gt, lcmp_eq, true_or, or_true, not_true_eq_false, not_false_eq_true, false_implies, true_implies, List.length_cons, List.length_nil]
    rw [show (x.natAbs : Int) = x by omega] at k
    exact k
  · simp only [P_J9_abs_2, i_kil, i_icon, i_lcon, i_null, i_loadI, i_loadL, i_loadR, i_istore, i_lstore, i_astore, i_iinc, i_dup, i_dup2, i_pop, i_iadd, i_isub, i_imul, i_idiv, i_irem, i_ineg, i_iand, i_ior, i_ishl, i_ishr, i_lxor, i_ladd, i_lsub, i_lmul, i_ldiv, i_lrem, i_lneg, i_lshl, i_lcmp, i_i2l, i_l2i, i_i2b, i_i2s, i_ifeq, i_ifne, i_iflt, i_ifge, i_ifgt, i_ifle, i_cmpeq, i_cmpne, i_cmplt, i_cmpge, i_cmpgt, i_cmple, i_acmpeq, i_acmpne, i_ifnull, i_ifnonnull, i_getI, i_getR, i_putI, i_putZ, i_putR, i_ald, i_ldL, i_ldR, i_ast, i_stL, i_stR, i_alen, i_new, i_newa, i_iret, i_zret, i_lret, i_aret, i_vret, i_raise, i_throw, i_recv, i_objinit, i_tsw3, lget, lset, lput1, lput2, lkil, ltrim, largs, isL, takev, dropv, nthv, pushO, catv, gd, true_and, and_true, Option.some.injEq, Prod.mk.injEq, exists_eq_left', if_true, if_false, reduceCtorEq, Bool.false_eq_true, lcmp_ge, lcmp_lt, lcmp_le, lcmp_gt, lcmp_eq, true_or, or_true, not_true_eq_false, not_false_eq_true, false_implies, true_implies, List.length_cons, List.length_nil]
    rw [show (x.natAbs : Int) = -x by omega] at k
    exact k
theorem wp_J9_abs2 {K : Tm} {ls : List (Option PV)} {st : List PV} {B : Nat × Nat} {S : Stat} {D : Dat} {x : Int} (hc : gdb (.inr (.inl x) :: st) 1 2 = true) (hx : -9223372036854775808 < x ∧ x ≤ 9223372036854775807) (h : K ls (.inr (.inl (x.natAbs : Int)) :: st) B S D) : i_call K P_J9_abs_2 1 2 i_none ls (.inr (.inl x) :: st) B S D := by
  refine call0 (gd_of hc) ?_
  simp only [takev, takev0, largs, isL, if_true]
  refine sp_J9_abs2 hx ?_
  show K ls (.inr (.inl _) :: dropv (.inr (.inl x) :: st) 1) B S D
  simp only [dropv, dropv0]
  exact h
theorem gcd_tmod (u v : Int) : Int.gcd v (u.tmod v) = Int.gcd u v := by
  unfold Int.gcd
  rw [Int.natAbs_tmod, Nat.gcd_comm v.natAbs, ← Nat.gcd_rec, Nat.gcd_comm]
set_option maxHeartbeats 2000000 in
theorem sp_X16_gcd {E : Ex} {B : Nat × Nat} {S : Stat} {D : Dat} {M w a b r ra rb : Nat} {x y : Int} (hM : mS S M) (hw : wS 17 S w r) (ha : wS 17 S a ra) (hb : wS 17 S b rb) (nw : wN M w) (na : wN M a) (nb : wN M b) (hx : wD 2 1 D a x) (hy : wD 2 1 D b y) (hp : (x.natAbs : Int) < 1000000000 ^ ra) (hq : (y.natAbs : Int) < 1000000000 ^ rb) (hpr : (x.natAbs : Int) < 1000000000 ^ r) (hqr : (y.natAbs : Int) < 1000000000 ^ r) (m0 : r < 265) (m1 : ra < 265) (m2 : rb < 265)
    (k : ∀ D' : Dat, rO D D' M w → wD 2 1 D' w (Int.gcd x y) → E (.inl none) B S D') : Wp P_X16_gcd E 0 [some (aR M), some (aR w), some (aR a), some (aR b)] [] B S D := by
  have hR := hM.r
  have hW := hM.w
  obtain ⟨o1, o2, o3, o4, o5, o6, o7, o8, o9, o10, o11, o12, o13, o14, o15, -⟩ := hM
  unfold wN at nw na nb
  have top : ∀ {z : Int}, (z.natAbs : Int) < 1000000000 ^ r → (z.natAbs : Int) < 1000000000 ^ 264 := fun h => Int.lt_of_lt_of_le h (pw_mono (by omega))
  -- the end: x is copied, its sign made 1
  have last : ∀ (X : Nat) (u : Int) (D' : Dat), (X = M + 5 ∨ X = M + 7 ∨ X = M + 9) → rO D D' M w → wD 2 1 D' X u → (u.natAbs : Int) < 1000000000 ^ r → (u.natAbs : Int) = Int.gcd x y → Wp P_X16_gcd E 4 [none, some (aR w), none, none, some (aR X)] [] B S D' := by
    intro X u D' hX hO hu pu hg
    have hXS : wS 17 S X 264 := by rcases hX with h | h | h <;> rw [h] <;> assumption
    refine wp_in ?_
    simp only [P_X16_gcd, i_kil, i_icon, i_lcon, i_null, i_loadI, i_loadL, i_loadR, i_istore, i_lstore, i_astore, i_iinc, i_dup, i_dup2, i_pop, i_iadd, i_isub, i_imul, i_idiv, i_irem, i_ineg, i_iand, i_ior, i_ishl, i_ishr, i_lxor, i_ladd, i_lsub, i_lmul, i_ldiv, i_lrem, i_lneg, i_lshl, i_lcmp, i_i2l, i_l2i, i_i2b, i_i2s, i_ifeq, i_ifne, i_iflt, i_ifge, i_ifgt, i_ifle, i_cmpeq, i_cmpne, i_cmplt, i_cmpge, i_cmpgt, i_cmple, i_acmpeq, i_acmpne, i_ifnull, i_ifnonnull, i_getI, i_getR, i_putI, i_putZ, i_putR, i_ald, i_ldL, i_ldR, i_ast, i_stL, i_stR, i_alen, i_new, i_newa, i_iret, i_zret, i_lret, i_aret, i_vret, i_raise, i_throw, i_recv, i_objinit, i_tsw3, lget, lset, lput1, lput2, lkil, ltrim, largs, isL, takev, dropv, nthv, pushO, catv, gd, true_and, and_true, Option.some.injEq, Prod.mk.injEq, exists_eq_left', if_true, if_false, reduceCtorEq, Bool.false_eq_true, lcmp_ge, lcmp_lt, lcmp_le, lcmp_gt, lcmp_eq, true_or, or_true, not_true_eq_false, not_false_eq_true, false_implies, true_implies, List.length_cons, List.length_nil, hw.1]
    refine ⟨⟨w, rfl, hw.1⟩, call0 (gd_of rfl) ?_⟩
    refine sp_X17_copy hw hXS hu pu (top pu) (by omega) fun D1 g1 g2 => ?_
    have hO1 : rO D D1 M w := hO.tr g1.toR
    obtain ⟨nu, e1, e2, e3, e4⟩ := g2
    have hend : ∀ s : Int, ((nu = 0 ∧ s = 0) ∨ (0 < nu ∧ (s = 1 ∨ s = -1))) → (nu = 0 ∨ s = 1) → Wp P_X16_gcd E 5 [] [aI s, aR w] B S D1 := fun s hs hs2 => by
      refine wp_in ?_
      simp only [P_X16_gcd, i_kil, i_icon, i_lcon, i_null, i_loadI, i_loadL, i_loadR, i_istore, i_lstore, i_astore, i_iinc, i_dup, i_dup2, i_pop, i_iadd, i_isub, i_imul, i_idiv, i_irem, i_ineg, i_iand, i_ior, i_ishl, i_ishr, i_lxor, i_ladd, i_lsub, i_lmul, i_ldiv, i_lrem, i_lneg, i_lshl, i_lcmp, i_i2l, i_l2i, i_i2b, i_i2s, i_ifeq, i_ifne, i_iflt, i_ifge, i_ifgt, i_ifle, i_cmpeq, i_cmpne, i_cmplt, i_cmpge, i_cmpgt, i_cmple, i_acmpeq, i_acmpne, i_ifnull, i_ifnonnull, i_getI, i_getR, i_putI, i_putZ, i_putR, i_ald, i_ldL, i_ldR, i_ast, i_stL, i_stR, i_alen, i_new, i_newa, i_iret, i_zret, i_lret, i_aret, i_vret, i_raise, i_throw, i_recv, i_objinit, i_tsw3, lget, lset, lput1, lput2, lkil, ltrim, largs, isL, takev, dropv, nthv, pushO, catv, gd, true_and, and_true, Option.some.injEq, Prod.mk.injEq, exists_eq_left', if_true, if_false, reduceCtorEq, Bool.false_eq_true, lcmp_ge, lcmp_lt, lcmp_le, lcmp_gt, lcmp_eq, true_or, or_true, not_true_eq_false, not_false_eq_true, false_implies, true_implies, List.length_cons, List.length_nil, hw.1]
      have en : pmu D1 w 1 s (w + 1) = D1 (w + 1) := by funext i; simp [pmu]
      have hR := wD.mk (kn := 2) (ks := 1) (D := pmu D1 w 1 s) (w := w) (n := nu) (s := s) (by simp [pmu, e1]) (by rw [en]; exact e2) (by simp [pmu]) hs
      rw [en, ← e4, hg] at hR
      refine k _ (fun c i c1 c2 c3 => ?_) ?_
      · simp only [pmu]; rw [if_neg (fun h => c1 h.1)]; exact hO1 c i c1 c2 c3
      · rcases hs2 with h | h
        · have h0 : (Int.gcd x y : Int) = 0 := by rw [← hg, e4, h]; rfl
          rw [h0, Int.mul_zero] at hR
          rw [h0]; exact hR
        · rw [h, Int.one_mul] at hR
          rw [h]; exact hR
    simp only [P_X16_gcd, i_kil, i_icon, i_lcon, i_null, i_loadI, i_loadL, i_loadR, i_istore, i_lstore, i_astore, i_iinc, i_dup, i_dup2, i_pop, i_iadd, i_isub, i_imul, i_idiv, i_irem, i_ineg, i_iand, i_ior, i_ishl, i_ishr, i_lxor, i_ladd, i_lsub, i_lmul, i_ldiv, i_lrem, i_lneg, i_lshl, i_lcmp, i_i2l, i_l2i, i_i2b, i_i2s, i_ifeq, i_ifne, i_iflt, i_ifge, i_ifgt, i_ifle, i_cmpeq, i_cmpne, i_cmplt, i_cmpge, i_cmpgt, i_cmple, i_acmpeq, i_acmpne, i_ifnull, i_ifnonnull, i_getI, i_getR, i_putI, i_putZ, i_putR, i_ald, i_ldL, i_ldR, i_ast, i_stL, i_stR, i_alen, i_new, i_newa, i_iret, i_zret, i_lret, i_aret, i_vret, i_raise, i_throw, i_recv, i_objinit, i_tsw3, lget, lset, lput1, lput2, lkil, ltrim, largs, isL, takev, dropv, nthv, pushO, catv, gd, true_and, and_true, Option.some.injEq, Prod.mk.injEq, exists_eq_left', if_true, if_false, reduceCtorEq, Bool.false_eq_true, lcmp_ge, lcmp_lt, lcmp_le, lcmp_gt, lcmp_eq, true_or, or_true, not_true_eq_false, not_false_eq_true, false_implies, true_implies, List.length_cons, List.length_nil, hw.1, e1]
    refine ⟨fun h => hend 1 (.inr ⟨by omega, .inl rfl⟩) (.inr rfl), fun h => hend 0 (.inl ⟨by omega, rfl⟩) (.inl (by omega))⟩
  -- the short way
  have short : ∀ (n : Nat) (u v : Int) (X : Nat) (D' : Dat) (l5 : Option PV), v.natAbs ≤ n → 0 ≤ u → 0 ≤ v → u < 1000000000000000000 → v < 1000000000000000000 → u < 1000000000 ^ r → v < 1000000000 ^ r → (X = M + 5 ∨ X = M + 7 ∨ X = M + 9) → rO D D' M w → Int.gcd u v = Int.gcd x y → Wp P_X16_gcd E 2 [none, some (aR w), none, none, some (aR X), none, none, some (aL u), none, some (aL v)] [] B S D' := by
    intro n
    induction n with
    | zero =>
      intro u v X D' l5 hn hu hv bu bv pu pv hX hO hg
      have hv0 : v = 0 := by omega
      have hXS : wS 17 S X 264 := by rcases hX with h | h | h <;> rw [h] <;> assumption
      refine wp_in ?_
      simp only [P_X16_gcd, i_kil, i_icon, i_lcon, i_null, i_loadI, i_loadL, i_loadR, i_istore, i_lstore, i_astore, i_iinc, i_dup, i_dup2, i_pop, i_iadd, i_isub, i_imul, i_idiv, i_irem, i_ineg, i_iand, i_ior, i_ishl, i_ishr, i_lxor, i_ladd, i_lsub, i_lmul, i_ldiv, i_lrem, i_lneg, i_lshl, i_lcmp, i_i2l, i_l2i, i_i2b, i_i2s, i_ifeq, i_ifne, i_iflt, i_ifge, i_ifgt, i_ifle, i_cmpeq, i_cmpne, i_cmplt, i_cmpge, i_cmpgt, i_cmple, i_acmpeq, i_acmpne, i_ifnull, i_ifnonnull, i_getI, i_getR, i_putI, i_putZ, i_putR, i_ald, i_ldL, i_ldR, i_ast, i_stL, i_stR, i_alen, i_new, i_newa, i_iret, i_zret, i_lret, i_aret, i_vret, i_raise, i_throw, i_recv, i_objinit, i_tsw3, lget, lset, lput1, lput2, lkil, ltrim, largs, isL, takev, dropv, nthv, pushO, catv, gd, true_and, and_true, Option.some.injEq, Prod.mk.injEq, exists_eq_left', if_true, if_false, reduceCtorEq, Bool.false_eq_true, lcmp_ge, lcmp_lt, lcmp_le, lcmp_gt, lcmp_eq, true_or, or_true, not_true_eq_false, not_false_eq_true, false_implies, true_implies, List.length_cons, List.length_nil, hXS.1, lcmp_eq]
      refine ⟨fun _ => ?_, fun h => absurd hv0 h⟩
      refine ⟨⟨X, rfl, hXS.1⟩, call0 (gd_of rfl) ?_⟩
      refine sp_X17_set hXS (by omega) (by omega) (by omega) fun D1 g1 g2 => ?_
      simp only [P_X16_gcd, i_kil, i_icon, i_lcon, i_null, i_loadI, i_loadL, i_loadR, i_istore, i_lstore, i_astore, i_iinc, i_dup, i_dup2, i_pop, i_iadd, i_isub, i_imul, i_idiv, i_irem, i_ineg, i_iand, i_ior, i_ishl, i_ishr, i_lxor, i_ladd, i_lsub, i_lmul, i_ldiv, i_lrem, i_lneg, i_lshl, i_lcmp, i_i2l, i_l2i, i_i2b, i_i2s, i_ifeq, i_ifne, i_iflt, i_ifge, i_ifgt, i_ifle, i_cmpeq, i_cmpne, i_cmplt, i_cmpge, i_cmpgt, i_cmple, i_acmpeq, i_acmpne, i_ifnull, i_ifnonnull, i_getI, i_getR, i_putI, i_putZ, i_putR, i_ald, i_ldL, i_ldR, i_ast, i_stL, i_stR, i_alen, i_new, i_newa, i_iret, i_zret, i_lret, i_aret, i_vret, i_raise, i_throw, i_recv, i_objinit, i_tsw3, lget, lset, lput1, lput2, lkil, ltrim, largs, isL, takev, dropv, nthv, pushO, catv, gd, true_and, and_true, Option.some.injEq, Prod.mk.injEq, exists_eq_left', if_true, if_false, reduceCtorEq, Bool.false_eq_true, lcmp_ge, lcmp_lt, lcmp_le, lcmp_gt, lcmp_eq, true_or, or_true, not_true_eq_false, not_false_eq_true, false_implies, true_implies, List.length_cons, List.length_nil]
      refine last X u D1 hX (hO.tr (g1.toR' (by omega))) g2 (by omega) ?_
      rw [← hg, hv0, Int.gcd_zero_right]
    | succ n ih =>
      intro u v X D' l5 hn hu hv bu bv pu pv hX hO hg
      by_cases hv0 : v = 0
      · exact ih u v X D' l5 (by omega) hu hv bu bv pu pv hX hO hg
      refine wp_in ?_
      simp only [P_X16_gcd, i_kil, i_icon, i_lcon, i_null, i_loadI, i_loadL, i_loadR, i_istore, i_lstore, i_astore, i_iinc, i_dup, i_dup2, i_pop, i_iadd, i_isub, i_imul, i_idiv, i_irem, i_ineg, i_iand, i_ior, i_ishl, i_ishr, i_lxor, i_ladd, i_lsub, i_lmul, i_ldiv, i_lrem, i_lneg, i_lshl, i_lcmp, i_i2l, i_l2i, i_i2b, i_i2s, i_ifeq, i_ifne, i_iflt, i_ifge, i_ifgt, i_ifle, i_cmpeq, i_cmpne, i_cmplt, i_cmpge, i_cmpgt, i_cmple, i_acmpeq, i_acmpne, i_ifnull, i_ifnonnull, i_getI, i_getR, i_putI, i_putZ, i_putR, i_ald, i_ldL, i_ldR, i_ast, i_stL, i_stR, i_alen, i_new, i_newa, i_iret, i_zret, i_lret, i_aret, i_vret, i_raise, i_throw, i_recv, i_objinit, i_tsw3, lget, lset, lput1, lput2, lkil, ltrim, largs, isL, takev, dropv, nthv, pushO, catv, gd, true_and, and_true, Option.some.injEq, Prod.mk.injEq, exists_eq_left', if_true, if_false, reduceCtorEq, Bool.false_eq_true, lcmp_ge, lcmp_lt, lcmp_le, lcmp_gt, lcmp_eq, true_or, or_true, not_true_eq_false, not_false_eq_true, false_implies, true_implies, List.length_cons, List.length_nil, lcmp_eq]
      refine ⟨fun h => absurd h hv0, fun _ => ?_⟩
      have t1 := Int.emod_nonneg u hv0
      have t2 := Int.emod_lt_of_pos u (show 0 < v by omega)
      have t3 : u.tmod v = u % v := Int.tmod_eq_emod_of_nonneg hu
      refine ⟨hv0, by rw [t3]; unfold inL; omega, ?_⟩
      refine ih v (u.tmod v) X D' l5 (by omega) (by omega) (by omega) (by omega) (by omega) (by omega) (by omega) hX hO ?_
      rw [gcd_tmod, hg]
  have loop : ∀ (n : Nat) (u v : Int) (X Y Z : Nat) (D' : Dat), v.natAbs ≤ n → (X = M + 5 ∨ X = M + 7 ∨ X = M + 9) → (Y = M + 5 ∨ Y = M + 7 ∨ Y = M + 9) → (Z = M + 5 ∨ Z = M + 7 ∨ Z = M + 9) → X ≠ Y → X ≠ Z → Y ≠ Z → rO D D' M w → wD 2 1 D' X u → wD 2 1 D' Y v → (u.natAbs : Int) < 1000000000 ^ r → (v.natAbs : Int) < 1000000000 ^ r → Int.gcd u v = Int.gcd x y → Wp P_X16_gcd E 1 [some (aR M), some (aR w), none, none, some (aR X), some (aR Y), some (aR Z)] [] B S D' := by
    intro n
    induction n with
    | zero =>
      intro u v X Y Z D' hn hX hY hZ n1 n2 n3 hO hu hv pu pv hg
      have hYS : wS 17 S Y 264 := by rcases hY with h | h | h <;> rw [h] <;> assumption
      have hv0 : v = 0 := by omega
      subst hv0
      have d3 := wD_nn hv
      refine wp_in ?_
      simp only [P_X16_gcd, i_kil, i_icon, i_lcon, i_null, i_loadI, i_loadL, i_loadR, i_istore, i_lstore, i_astore, i_iinc, i_dup, i_dup2, i_pop, i_iadd, i_isub, i_imul, i_idiv, i_irem, i_ineg, i_iand, i_ior, i_ishl, i_ishr, i_lxor, i_ladd, i_lsub, i_lmul, i_ldiv, i_lrem, i_lneg, i_lshl, i_lcmp, i_i2l, i_l2i, i_i2b, i_i2s, i_ifeq, i_ifne, i_iflt, i_ifge, i_ifgt, i_ifle, i_cmpeq, i_cmpne, i_cmplt, i_cmpge, i_cmpgt, i_cmple, i_acmpeq, i_acmpne, i_ifnull, i_ifnonnull, i_getI, i_getR, i_putI, i_putZ, i_putR, i_ald, i_ldL, i_ldR, i_ast, i_stL, i_stR, i_alen, i_new, i_newa, i_iret, i_zret, i_lret, i_aret, i_vret, i_raise, i_throw, i_recv, i_objinit, i_tsw3, lget, lset, lput1, lput2, lkil, ltrim, largs, isL, takev, dropv, nthv, pushO, catv, gd, true_and, and_true, Option.some.injEq, Prod.mk.injEq, exists_eq_left', if_true, if_false, reduceCtorEq, Bool.false_eq_true, lcmp_ge, lcmp_lt, lcmp_le, lcmp_gt, lcmp_eq, true_or, or_true, not_true_eq_false, not_false_eq_true, false_implies, true_implies, List.length_cons, List.length_nil, o1, hYS.1, d3]
      refine ⟨fun _ => ?_, fun h => absurd rfl h⟩
      refine last X u D' hX hO hu pu ?_
      rw [← hg, Int.gcd_zero_right]
    | succ n ih =>
      intro u v X Y Z D' hn hX hY hZ n1 n2 n3 hO hu hv pu pv hg
      by_cases hv0 : v = 0
      · exact ih u v X Y Z D' (by omega) hX hY hZ n1 n2 n3 hO hu hv pu pv hg
      have hXS : wS 17 S X 264 := by rcases hX with h | h | h <;> rw [h] <;> assumption
      have hYS : wS 17 S Y 264 := by rcases hY with h | h | h <;> rw [h] <;> assumption
      have hZS : wS 17 S Z 264 := by rcases hZ with h | h | h <;> rw [h] <;> assumption
      have d3 := wD_nn hv
      obtain ⟨nu, hnu, c1, c2, c3, c4⟩ := hu.nat pu
      obtain ⟨nv, hnv, e1, e2, e3, e4⟩ := hv.nat pv
      have long : Wp P_X16_gcd E 3 [some (aR M), some (aR w), none, none, some (aR X), some (aR Y), some (aR Z)] [] B S D' := by
        refine wp_in ?_
        simp only [P_X16_gcd, i_kil, i_icon, i_lcon, i_null, i_loadI, i_loadL, i_loadR, i_istore, i_lstore, i_astore, i_iinc, i_dup, i_dup2, i_pop, i_iadd, i_isub, i_imul, i_idiv, i_irem, i_ineg, i_iand, i_ior, i_ishl, i_ishr, i_lxor, i_ladd, i_lsub, i_lmul, i_ldiv, i_lrem, i_lneg, i_lshl, i_lcmp, i_i2l, i_l2i, i_i2b, i_i2s, i_ifeq, i_ifne, i_iflt, i_ifge, i_ifgt, i_ifle, i_cmpeq, i_cmpne, i_cmplt, i_cmpge, i_cmpgt, i_cmple, i_acmpeq, i_acmpne, i_ifnull, i_ifnonnull, i_getI, i_getR, i_putI, i_putZ, i_putR, i_ald, i_ldL, i_ldR, i_ast, i_stL, i_stR, i_alen, i_new, i_newa, i_iret, i_zret, i_lret, i_aret, i_vret, i_raise, i_throw, i_recv, i_objinit, i_tsw3, lget, lset, lput1, lput2, lkil, ltrim, largs, isL, takev, dropv, nthv, pushO, catv, gd, true_and, and_true, Option.some.injEq, Prod.mk.injEq, exists_eq_left', if_true, if_false, reduceCtorEq, Bool.false_eq_true, lcmp_ge, lcmp_lt, lcmp_le, lcmp_gt, lcmp_eq, true_or, or_true, not_true_eq_false, not_false_eq_true, false_implies, true_implies, List.length_cons, List.length_nil, o1]
        refine ⟨⟨M, rfl, o1⟩, call0 (gd_of rfl) ?_⟩
        refine sp_X16_divide_r hR hW hZS hXS hYS hu hv hv0 (top pu) (top pv) (top pu) (by omega) (by omega) (by omega) fun D1 g1 g2 => ?_
        simp only [P_X16_gcd, i_kil, i_icon, i_lcon, i_null, i_loadI, i_loadL, i_loadR, i_istore, i_lstore, i_astore, i_iinc, i_dup, i_dup2, i_pop, i_iadd, i_isub, i_imul, i_idiv, i_irem, i_ineg, i_iand, i_ior, i_ishl, i_ishr, i_lxor, i_ladd, i_lsub, i_lmul, i_ldiv, i_lrem, i_lneg, i_lshl, i_lcmp, i_i2l, i_l2i, i_i2b, i_i2s, i_ifeq, i_ifne, i_iflt, i_ifge, i_ifgt, i_ifle, i_cmpeq, i_cmpne, i_cmplt, i_cmpge, i_cmpgt, i_cmple, i_acmpeq, i_acmpne, i_ifnull, i_ifnonnull, i_getI, i_getR, i_putI, i_putZ, i_putR, i_ald, i_ldL, i_ldR, i_ast, i_stL, i_stR, i_alen, i_new, i_newa, i_iret, i_zret, i_lret, i_aret, i_vret, i_raise, i_throw, i_recv, i_objinit, i_tsw3, lget, lset, lput1, lput2, lkil, ltrim, largs, isL, takev, dropv, nthv, pushO, catv, gd, true_and, and_true, Option.some.injEq, Prod.mk.injEq, exists_eq_left', if_true, if_false, reduceCtorEq, Bool.false_eq_true, lcmp_ge, lcmp_lt, lcmp_le, lcmp_gt, lcmp_eq, true_or, or_true, not_true_eq_false, not_false_eq_true, false_implies, true_implies, List.length_cons, List.length_nil]
        have hlt : (u.tmod v).natAbs < v.natAbs := by rw [Int.natAbs_tmod]; exact Nat.mod_lt _ (by omega)
        refine ih v (u.tmod v) Y Z X D1 (by omega) hY hZ hX n3 (Ne.symm n1) (Ne.symm n2) (fun c i h1 h2 h3 => ?_) (hv.congr (fun i => g1 _ i (by omega) (by omega) (by omega) (by omega) (by omega)) (fun i => g1 _ i (by omega) (by omega) (by omega) (by omega) (by omega))) g2 pv (tmod_le pu) (by rw [gcd_tmod, hg])
        rw [g1 c i (by omega) (by omega) (by omega) (by omega) (by omega)]
        exact hO c i h1 h2 h3
      refine wp_in ?_
      simp only [P_X16_gcd, i_kil, i_icon, i_lcon, i_null, i_loadI, i_loadL, i_loadR, i_istore, i_lstore, i_astore, i_iinc, i_dup, i_dup2, i_pop, i_iadd, i_isub, i_imul, i_idiv, i_irem, i_ineg, i_iand, i_ior, i_ishl, i_ishr, i_lxor, i_ladd, i_lsub, i_lmul, i_ldiv, i_lrem, i_lneg, i_lshl, i_lcmp, i_i2l, i_l2i, i_i2b, i_i2s, i_ifeq, i_ifne, i_iflt, i_ifge, i_ifgt, i_ifle, i_cmpeq, i_cmpne, i_cmplt, i_cmpge, i_cmpgt, i_cmple, i_acmpeq, i_acmpne, i_ifnull, i_ifnonnull, i_getI, i_getR, i_putI, i_putZ, i_putR, i_ald, i_ldL, i_ldR, i_ast, i_stL, i_stR, i_alen, i_new, i_newa, i_iret, i_zret, i_lret, i_aret, i_vret, i_raise, i_throw, i_recv, i_objinit, i_tsw3, lget, lset, lput1, lput2, lkil, ltrim, largs, isL, takev, dropv, nthv, pushO, catv, gd, true_and, and_true, Option.some.injEq, Prod.mk.injEq, exists_eq_left', if_true, if_false, reduceCtorEq, Bool.false_eq_true, lcmp_ge, lcmp_lt, lcmp_le, lcmp_gt, lcmp_eq, true_or, or_true, not_true_eq_false, not_false_eq_true, false_implies, true_implies, List.length_cons, List.length_nil, o1, hXS.1, hYS.1, d3, c1, e1]
      refine ⟨fun hs => absurd (Int.sign_eq_zero_iff_zero.mp hs) hv0, fun hs => ?_⟩
      refine ⟨fun _ => long, fun h1 => ⟨fun _ => long, fun h2 => ?_⟩⟩
      have bu : (u.natAbs : Int) < 1000000000000000000 := by
        have h3 := (dv_nn c2.1).2
        have h4 := pw_mono (show nu ≤ 2 by omega)
        omega
      have bv : (v.natAbs : Int) < 1000000000000000000 := by
        have h3 := (dv_nn e2.1).2
        have h4 := pw_mono (show nv ≤ 2 by omega)
        omega
      refine ⟨⟨X, rfl, hXS.1⟩, call0 (gd_of rfl) ?_⟩
      refine sp_X17_plain hXS hu (by omega) (by omega) bu (top pu) ?_
      simp only [P_X16_gcd, i_kil, i_icon, i_lcon, i_null, i_loadI, i_loadL, i_loadR, i_istore, i_lstore, i_astore, i_iinc, i_dup, i_dup2, i_pop, i_iadd, i_isub, i_imul, i_idiv, i_irem, i_ineg, i_iand, i_ior, i_ishl, i_ishr, i_lxor, i_ladd, i_lsub, i_lmul, i_ldiv, i_lrem, i_lneg, i_lshl, i_lcmp, i_i2l, i_l2i, i_i2b, i_i2s, i_ifeq, i_ifne, i_iflt, i_ifge, i_ifgt, i_ifle, i_cmpeq, i_cmpne, i_cmplt, i_cmpge, i_cmpgt, i_cmple, i_acmpeq, i_acmpne, i_ifnull, i_ifnonnull, i_getI, i_getR, i_putI, i_putZ, i_putR, i_ald, i_ldL, i_ldR, i_ast, i_stL, i_stR, i_alen, i_new, i_newa, i_iret, i_zret, i_lret, i_aret, i_vret, i_raise, i_throw, i_recv, i_objinit, i_tsw3, lget, lset, lput1, lput2, lkil, ltrim, largs, isL, takev, dropv, nthv, pushO, catv, gd, true_and, and_true, Option.some.injEq, Prod.mk.injEq, exists_eq_left', if_true, if_false, reduceCtorEq, Bool.false_eq_true, lcmp_ge, lcmp_lt, lcmp_le, lcmp_gt, lcmp_eq, true_or, or_true, not_true_eq_false, not_false_eq_true, false_implies, true_implies, List.length_cons, List.length_nil, o1, hXS.1, hYS.1]
      refine wp_J9_abs2 rfl (by omega) ?_
      simp only [P_X16_gcd, i_kil, i_icon, i_lcon, i_null, i_loadI, i_loadL, i_loadR, i_istore, i_lstore, i_astore, i_iinc, i_dup, i_dup2, i_pop, i_iadd, i_isub, i_imul, i_idiv, i_irem, i_ineg, i_iand, i_ior, i_ishl, i_ishr, i_lxor, i_ladd, i_lsub, i_lmul, i_ldiv, i_lrem, i_lneg, i_lshl, i_lcmp, i_i2l, i_l2i, i_i2b, i_i2s, i_ifeq, i_ifne, i_iflt, i_ifge, i_ifgt, i_ifle, i_cmpeq, i_cmpne, i_cmplt, i_cmpge, i_cmpgt, i_cmple, i_acmpeq, i_acmpne, i_ifnull, i_ifnonnull, i_getI, i_getR, i_putI, i_putZ, i_putR, i_ald, i_ldL, i_ldR, i_ast, i_stL, i_stR, i_alen, i_new, i_newa, i_iret, i_zret, i_lret, i_aret, i_vret, i_raise, i_throw, i_recv, i_objinit, i_tsw3, lget, lset, lput1, lput2, lkil, ltrim, largs, isL, takev, dropv, nthv, pushO, catv, gd, true_and, and_true, Option.some.injEq, Prod.mk.injEq, exists_eq_left', if_true, if_false, reduceCtorEq, Bool.false_eq_true, lcmp_ge, lcmp_lt, lcmp_le, lcmp_gt, lcmp_eq, true_or, or_true, not_true_eq_false, not_false_eq_true, false_implies, true_implies, List.length_cons, List.length_nil, o1, hXS.1, hYS.1]
      refine ⟨⟨Y, rfl, hYS.1⟩, call0 (gd_of rfl) ?_⟩
      refine sp_X17_plain hYS hv (by omega) (by omega) bv (top pv) ?_
      simp only [P_X16_gcd, i_kil, i_icon, i_lcon, i_null, i_loadI, i_loadL, i_loadR, i_istore, i_lstore, i_astore, i_iinc, i_dup, i_dup2, i_pop, i_iadd, i_isub, i_imul, i_idiv, i_irem, i_ineg, i_iand, i_ior, i_ishl, i_ishr, i_lxor, i_ladd, i_lsub, i_lmul, i_ldiv, i_lrem, i_lneg, i_lshl, i_lcmp, i_i2l, i_l2i, i_i2b, i_i2s, i_ifeq, i_ifne, i_iflt, i_ifge, i_ifgt, i_ifle, i_cmpeq, i_cmpne, i_cmplt, i_cmpge, i_cmpgt, i_cmple, i_acmpeq, i_acmpne, i_ifnull, i_ifnonnull, i_getI, i_getR, i_putI, i_putZ, i_putR, i_ald, i_ldL, i_ldR, i_ast, i_stL, i_stR, i_alen, i_new, i_newa, i_iret, i_zret, i_lret, i_aret, i_vret, i_raise, i_throw, i_recv, i_objinit, i_tsw3, lget, lset, lput1, lput2, lkil, ltrim, largs, isL, takev, dropv, nthv, pushO, catv, gd, true_and, and_true, Option.some.injEq, Prod.mk.injEq, exists_eq_left', if_true, if_false, reduceCtorEq, Bool.false_eq_true, lcmp_ge, lcmp_lt, lcmp_le, lcmp_gt, lcmp_eq, true_or, or_true, not_true_eq_false, not_false_eq_true, false_implies, true_implies, List.length_cons, List.length_nil, o1, hXS.1, hYS.1]
      refine wp_J9_abs2 rfl (by omega) ?_
      simp only [P_X16_gcd, i_kil, i_icon, i_lcon, i_null, i_loadI, i_loadL, i_loadR, i_istore, i_lstore, i_astore, i_iinc, i_dup, i_dup2, i_pop, i_iadd, i_isub, i_imul, i_idiv, i_irem, i_ineg, i_iand, i_ior, i_ishl, i_ishr, i_lxor, i_ladd, i_lsub, i_lmul, i_ldiv, i_lrem, i_lneg, i_lshl, i_lcmp, i_i2l, i_l2i, i_i2b, i_i2s, i_ifeq, i_ifne, i_iflt, i_ifge, i_ifgt, i_ifle, i_cmpeq, i_cmpne, i_cmplt, i_cmpge, i_cmpgt, i_cmple, i_acmpeq, i_acmpne, i_ifnull, i_ifnonnull, i_getI, i_getR, i_putI, i_putZ, i_putR, i_ald, i_ldL, i_ldR, i_ast, i_stL, i_stR, i_alen, i_new, i_newa, i_iret, i_zret, i_lret, i_aret, i_vret, i_raise, i_throw, i_recv, i_objinit, i_tsw3, lget, lset, lput1, lput2, lkil, ltrim, largs, isL, takev, dropv, nthv, pushO, catv, gd, true_and, and_true, Option.some.injEq, Prod.mk.injEq, exists_eq_left', if_true, if_false, reduceCtorEq, Bool.false_eq_true, lcmp_ge, lcmp_lt, lcmp_le, lcmp_gt, lcmp_eq, true_or, or_true, not_true_eq_false, not_false_eq_true, false_implies, true_implies, List.length_cons, List.length_nil]
      exact short v.natAbs u.natAbs v.natAbs X D' none (by omega) (by omega) (by omega) bu bv pu pv hX hO (by rw [← hg]; simp [Int.gcd])
  refine wp_in ?_
  simp only [P_X16_gcd, i_kil, i_icon, i_lcon, i_null, i_loadI, i_loadL, i_loadR, i_istore, i_lstore, i_astore, i_iinc, i_dup, i_dup2, i_pop, i_iadd, i_isub, i_imul, i_idiv, i_irem, i_ineg, i_iand, i_ior, i_ishl, i_ishr, i_lxor, i_ladd, i_lsub, i_lmul, i_ldiv, i_lrem, i_lneg, i_lshl, i_lcmp, i_i2l, i_l2i, i_i2b, i_i2s, i_ifeq, i_ifne, i_iflt, i_ifge, i_ifgt, i_ifle, i_cmpeq, i_cmpne, i_cmplt, i_cmpge, i_cmpgt, i_cmple, i_acmpeq, i_acmpne, i_ifnull, i_ifnonnull, i_getI, i_getR, i_putI, i_putZ, i_putR, i_ald, i_ldL, i_ldR, i_ast, i_stL, i_stR, i_alen, i_new, i_newa, i_iret, i_zret, i_lret, i_aret, i_vret, i_raise, i_throw, i_recv, i_objinit, i_tsw3, lget, lset, lput1, lput2, lkil, ltrim, largs, isL, takev, dropv, nthv, pushO, catv, gd, true_and, and_true, Option.some.injEq, Prod.mk.injEq, exists_eq_left', if_true, if_false, reduceCtorEq, Bool.false_eq_true, lcmp_ge, lcmp_lt, lcmp_le, lcmp_gt, lcmp_eq, true_or, or_true, not_true_eq_false, not_false_eq_true, false_implies, true_implies, List.length_cons, List.length_nil, o1, o10, o12, o14, o11.1, o13.1]
  refine ⟨⟨M + 5, rfl, o11.1⟩, call0 (gd_of rfl) ?_⟩
  refine sp_X17_copy o11 ha hx (top hpr) hp (by omega) fun D1 g1 g2 => ?_
  simp only [P_X16_gcd, i_kil, i_icon, i_lcon, i_null, i_loadI, i_loadL, i_loadR, i_istore, i_lstore, i_astore, i_iinc, i_dup, i_dup2, i_pop, i_iadd, i_isub, i_imul, i_idiv, i_irem, i_ineg, i_iand, i_ior, i_ishl, i_ishr, i_lxor, i_ladd, i_lsub, i_lmul, i_ldiv, i_lrem, i_lneg, i_lshl, i_lcmp, i_i2l, i_l2i, i_i2b, i_i2s, i_ifeq, i_ifne, i_iflt, i_ifge, i_ifgt, i_ifle, i_cmpeq, i_cmpne, i_cmplt, i_cmpge, i_cmpgt, i_cmple, i_acmpeq, i_acmpne, i_ifnull, i_ifnonnull, i_getI, i_getR, i_putI, i_putZ, i_putR, i_ald, i_ldL, i_ldR, i_ast, i_stL, i_stR, i_alen, i_new, i_newa, i_iret, i_zret, i_lret, i_aret, i_vret, i_raise, i_throw, i_recv, i_objinit, i_tsw3, lget, lset, lput1, lput2, lkil, ltrim, largs, isL, takev, dropv, nthv, pushO, catv, gd, true_and, and_true, Option.some.injEq, Prod.mk.injEq, exists_eq_left', if_true, if_false, reduceCtorEq, Bool.false_eq_true, lcmp_ge, lcmp_lt, lcmp_le, lcmp_gt, lcmp_eq, true_or, or_true, not_true_eq_false, not_false_eq_true, false_implies, true_implies, List.length_cons, List.length_nil, o1, o10, o12, o14, o11.1, o13.1]
  refine ⟨⟨M + 7, rfl, o13.1⟩, call0 (gd_of rfl) ?_⟩
  refine sp_X17_copy o13 hb (hy.congr (fun i => g1 _ i (by omega) (by omega)) (fun i => g1 _ i (by omega) (by omega))) (top hqr) hq (by omega) fun D2 h1 h2 => ?_
  simp only [P_X16_gcd, i_kil, i_icon, i_lcon, i_null, i_loadI, i_loadL, i_loadR, i_istore, i_lstore, i_astore, i_iinc, i_dup, i_dup2, i_pop, i_iadd, i_isub, i_imul, i_idiv, i_irem, i_ineg, i_iand, i_ior, i_ishl, i_ishr, i_lxor, i_ladd, i_lsub, i_lmul, i_ldiv, i_lrem, i_lneg, i_lshl, i_lcmp, i_i2l, i_l2i, i_i2b, i_i2s, i_ifeq, i_ifne, i_iflt, i_ifge, i_ifgt, i_ifle, i_cmpeq, i_cmpne, i_cmplt, i_cmpge, i_cmpgt, i_cmple, i_acmpeq, i_acmpne, i_ifnull, i_ifnonnull, i_getI, i_getR, i_putI, i_putZ, i_putR, i_ald, i_ldL, i_ldR, i_ast, i_stL, i_stR, i_alen, i_new, i_newa, i_iret, i_zret, i_lret, i_aret, i_vret, i_raise, i_throw, i_recv, i_objinit, i_tsw3, lget, lset, lput1, lput2, lkil, ltrim, largs, isL, takev, dropv, nthv, pushO, catv, gd, true_and, and_true, Option.some.injEq, Prod.mk.injEq, exists_eq_left', if_true, if_false, reduceCtorEq, Bool.false_eq_true, lcmp_ge, lcmp_lt, lcmp_le, lcmp_gt, lcmp_eq, true_or, or_true, not_true_eq_false, not_false_eq_true, false_implies, true_implies, List.length_cons, List.length_nil]
  exact loop y.natAbs x y (M + 5) (M + 7) (M + 9) D2 (Nat.le_refl _) (by omega) (by omega) (by omega) (by omega) (by omega) (by omega) (fun c i c1 c2 c3 => by rw [h1 c i (by omega) (by omega), g1 c i (by omega) (by omega)]) (g2.congr (fun i => h1 _ i (by omega) (by omega)) (fun i => h1 _ i (by omega) (by omega))) h2 hpr hqr rfl
