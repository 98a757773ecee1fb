/-! the model's whole numbers: compare, trim -/
set_option maxRecDepth 100000
set_option linter.unusedVariables false
theorem sp_X16_trim {E : Ex} {B : Nat × Nat} {S : Stat} {w r : Nat} (hw : wS 17 S w r) : ∀ (n : Nat) (D : Dat), D w 2 = n → n ≤ r → r < 1000 → dok (D (w + 1)) n →
    (∀ (D' : Dat) (m : Nat), (∀ a i, a ≠ w → D' a i = D a i) → m ≤ n → D' w 2 = m → dcan (D (w + 1)) m → dv (D (w + 1)) m = dv (D (w + 1)) n → D' w 1 = D w 1 → E (.inl none) B S D') →
    Wp P_X16_trim E 1 [some (aR w)] [] B S D := by
  obtain ⟨w1, w2, w3⟩ := hw
  intro n
  induction n with
  | zero =>
    intro D hn hr hr2 hd k
    have hn : D w 2 = 0 := hn
    refine wp_in ?_
    simp only [P_X16_trim, i_kil, i_icon, i_lcon, i_null, i_loadI, i_loadL, i_loadR, i_istore, i_lstore, i_astore, i_iinc, i_dup, i_dup2, i_pop, i_iadd, i_isub, i_imul, i_idiv, i_irem, i_ineg, i_iand, i_ior, i_ishl, i_ishr, i_lxor, i_ladd, i_lsub, i_lmul, i_ldiv, i_lrem, i_lneg, i_lshl, i_lcmp, i_i2l, i_l2i, i_i2b, i_i2s, i_ifeq, i_ifne, i_iflt, i_ifge, i_ifgt, i_ifle, i_cmpeq, i_cmpne, i_cmplt, i_cmpge, i_cmpgt, i_cmple, i_acmpeq, i_acmpne, i_ifnull, i_ifnonnull, i_getI, i_getR, i_putI, i_putZ, i_putR, i_ald, i_ldL, i_ldR, i_ast, i_stL, i_stR, i_alen, i_new, i_newa, i_iret, i_zret, i_lret, i_aret, i_vret, i_raise, i_throw, i_recv, i_objinit, i_tsw3, lget, lset, lput1, lput2, lkil, ltrim, largs, isL, takev, dropv, nthv, pushO, catv, gd, true_and, and_true, Option.some.injEq, Prod.mk.injEq, exists_eq_left', if_true, if_false, reduceCtorEq, Bool.false_eq_true, lcmp_ge, lcmp_lt, lcmp_le, lcmp_gt, lcmp_eq, true_or, or_true, not_true_eq_false, not_false_eq_true, false_implies, true_implies, List.length_cons, List.length_nil, w1, w2, w3, hn]
    refine ⟨fun _ => wp_in ?_, fun h => by omega⟩
    simp only [P_X16_trim, i_kil, i_icon, i_lcon, i_null, i_loadI, i_loadL, i_loadR, i_istore, i_lstore, i_astore, i_iinc, i_dup, i_dup2, i_pop, i_iadd, i_isub, i_imul, i_idiv, i_irem, i_ineg, i_iand, i_ior, i_ishl, i_ishr, i_lxor, i_ladd, i_lsub, i_lmul, i_ldiv, i_lrem, i_lneg, i_lshl, i_lcmp, i_i2l, i_l2i, i_i2b, i_i2s, i_ifeq, i_ifne, i_iflt, i_ifge, i_ifgt, i_ifle, i_cmpeq, i_cmpne, i_cmplt, i_cmpge, i_cmpgt, i_cmple, i_acmpeq, i_acmpne, i_ifnull, i_ifnonnull, i_getI, i_getR, i_putI, i_putZ, i_putR, i_ald, i_ldL, i_ldR, i_ast, i_stL, i_stR, i_alen, i_new, i_newa, i_iret, i_zret, i_lret, i_aret, i_vret, i_raise, i_throw, i_recv, i_objinit, i_tsw3, lget, lset, lput1, lput2, lkil, ltrim, largs, isL, takev, dropv, nthv, pushO, catv, gd, true_and, and_true, Option.some.injEq, Prod.mk.injEq, exists_eq_left', if_true, if_false, reduceCtorEq, Bool.false_eq_true, lcmp_ge, lcmp_lt, lcmp_le, lcmp_gt, lcmp_eq, true_or, or_true, not_true_eq_false, not_false_eq_true, false_implies, true_implies, List.length_cons, List.length_nil, w1, w2, w3, hn]
    exact k D 0 (fun _ _ _ => rfl) (Nat.le_refl _) hn ⟨hd, fun h => absurd h (by omega)⟩ rfl rfl
  | succ n ih =>
    intro D hn hr hr2 hd k
    have e1 : ((n + 1 : Nat) : Int) - 1 = n := by omega
    refine wp_in ?_
    simp only [P_X16_trim, i_kil, i_icon, i_lcon, i_null, i_loadI, i_loadL, i_loadR, i_istore, i_lstore, i_astore, i_iinc, i_dup, i_dup2, i_pop, i_iadd, i_isub, i_imul, i_idiv, i_irem, i_ineg, i_iand, i_ior, i_ishl, i_ishr, i_lxor, i_ladd, i_lsub, i_lmul, i_ldiv, i_lrem, i_lneg, i_lshl, i_lcmp, i_i2l, i_l2i, i_i2b, i_i2s, i_ifeq, i_ifne, i_iflt, i_ifge, i_ifgt, i_ifle, i_cmpeq, i_cmpne, i_cmplt, i_cmpge, i_cmpgt, i_cmple, i_acmpeq, i_acmpne, i_ifnull, i_ifnonnull, i_getI, i_getR, i_putI, i_putZ, i_putR, i_ald, i_ldL, i_ldR, i_ast, i_stL, i_stR, i_alen, i_new, i_newa, i_iret, i_zret, i_lret, i_aret, i_vret, i_raise, i_throw, i_recv, i_objinit, i_tsw3, lget, lset, lput1, lput2, lkil, ltrim, largs, isL, takev, dropv, nthv, pushO, catv, gd, true_and, and_true, Option.some.injEq, Prod.mk.injEq, exists_eq_left', if_true, if_false, reduceCtorEq, Bool.false_eq_true, lcmp_ge, lcmp_lt, lcmp_le, lcmp_gt, lcmp_eq, true_or, or_true, not_true_eq_false, not_false_eq_true, false_implies, true_implies, List.length_cons, List.length_nil, w1, w2, w3, hn, e1]
    have e2 : ∀ v : Int, pmu D w 2 v (w + 1) = D (w + 1) := fun v => by funext i; simp [pmu]
    refine ⟨fun h => by omega, fun _ => ⟨in_small (by omega) (by omega), by omega, by omega, fun h => wp_in ?_, fun h => ⟨in_small (by omega) (by omega), ?_⟩⟩⟩
    · simp only [P_X16_trim, i_kil, i_icon, i_lcon, i_null, i_loadI, i_loadL, i_loadR, i_istore, i_lstore, i_astore, i_iinc, i_dup, i_dup2, i_pop, i_iadd, i_isub, i_imul, i_idiv, i_irem, i_ineg, i_iand, i_ior, i_ishl, i_ishr, i_lxor, i_ladd, i_lsub, i_lmul, i_ldiv, i_lrem, i_lneg, i_lshl, i_lcmp, i_i2l, i_l2i, i_i2b, i_i2s, i_ifeq, i_ifne, i_iflt, i_ifge, i_ifgt, i_ifle, i_cmpeq, i_cmpne, i_cmplt, i_cmpge, i_cmpgt, i_cmple, i_acmpeq, i_acmpne, i_ifnull, i_ifnonnull, i_getI, i_getR, i_putI, i_putZ, i_putR, i_ald, i_ldL, i_ldR, i_ast, i_stL, i_stR, i_alen, i_new, i_newa, i_iret, i_zret, i_lret, i_aret, i_vret, i_raise, i_throw, i_recv, i_objinit, i_tsw3, lget, lset, lput1, lput2, lkil, ltrim, largs, isL, takev, dropv, nthv, pushO, catv, gd, true_and, and_true, Option.some.injEq, Prod.mk.injEq, exists_eq_left', if_true, if_false, reduceCtorEq, Bool.false_eq_true, lcmp_ge, lcmp_lt, lcmp_le, lcmp_gt, lcmp_eq, true_or, or_true, not_true_eq_false, not_false_eq_true, false_implies, true_implies, List.length_cons, List.length_nil, w1, w2, w3]
      exact k D (n + 1) (fun _ _ _ => rfl) (Nat.le_refl _) hn ⟨hd, fun _ => by rw [show ((n + 1 : Nat) : Int) - 1 = n by omega]; exact h⟩ rfl rfl
    · refine ih _ (by simp [pmu]) (by omega) hr2 (by rw [e2]; exact hd.mono (Nat.le_succ n)) ?_
      intro D' m g1 g2 g3 g4 g5 g6
      rw [e2] at g4 g5
      exact k D' m (fun a i ha => by rw [g1 a i ha]; simp [pmu, ha]) (by omega) g3 g4 (by rw [g5, dv_trim _ _ h]) (by rw [g6]; simp [pmu])
/-- trim from a given length -/
theorem sp_X16_trim0 {E : Ex} {B : Nat × Nat} {S : Stat} {D : Dat} {w r n : Nat} (hw : wS 17 S w r) (hn : n ≤ r) (hr : r < 1000) (hd : dok (D (w + 1)) n)
    (k : ∀ (D' : Dat) (m : Nat), (∀ a i, a ≠ w → D' a i = D a i) → m ≤ n → D' w 2 = m → dcan (D (w + 1)) m → dv (D (w + 1)) m = dv (D (w + 1)) n → D' w 1 = D w 1 → E (.inl none) B S D') :
    Wp P_X16_trim E 0 [some (aR w), some (aI n)] [] B S D := by
  have e2 : ∀ v : Int, pmu D w 2 v (w + 1) = D (w + 1) := fun v => by funext i; simp [pmu]
  refine wp_in ?_
  simp only [P_X16_trim, i_kil, i_icon, i_lcon, i_null, i_loadI, i_loadL, i_loadR, i_istore, i_lstore, i_astore, i_iinc, i_dup, i_dup2, i_pop, i_iadd, i_isub, i_imul, i_idiv, i_irem, i_ineg, i_iand, i_ior, i_ishl, i_ishr, i_lxor, i_ladd, i_lsub, i_lmul, i_ldiv, i_lrem, i_lneg, i_lshl, i_lcmp, i_i2l, i_l2i, i_i2b, i_i2s, i_ifeq, i_ifne, i_iflt, i_ifge, i_ifgt, i_ifle, i_cmpeq, i_cmpne, i_cmplt, i_cmpge, i_cmpgt, i_cmple, i_acmpeq, i_acmpne, i_ifnull, i_ifnonnull, i_getI, i_getR, i_putI, i_putZ, i_putR, i_ald, i_ldL, i_ldR, i_ast, i_stL, i_stR, i_alen, i_new, i_newa, i_iret, i_zret, i_lret, i_aret, i_vret, i_raise, i_throw, i_recv, i_objinit, i_tsw3, lget, lset, lput1, lput2, lkil, ltrim, largs, isL, takev, dropv, nthv, pushO, catv, gd, true_and, and_true, Option.some.injEq, Prod.mk.injEq, exists_eq_left', if_true, if_false, reduceCtorEq, Bool.false_eq_true, lcmp_ge, lcmp_lt, lcmp_le, lcmp_gt, lcmp_eq, true_or, or_true, not_true_eq_false, not_false_eq_true, false_implies, true_implies, List.length_cons, List.length_nil, hw.1]
  refine sp_X16_trim hw n _ (by simp [pmu]) hn hr (by rw [e2]; exact hd) ?_
  intro D' m g1 g2 g3 g4 g5 g6
  rw [e2] at g4 g5
  exact k D' m (fun a i ha => by rw [g1 a i ha]; simp [pmu, ha]) g2 g3 g4 g5 (by rw [g6]; simp [pmu])
theorem sp_X16_compare {E : Ex} {B : Nat × Nat} {S : Stat} {D : Dat} {a b ra rb : Nat} {x y : Int} (ha : wS 17 S a ra) (hb : wS 17 S b rb) (hx : wD 2 1 D a x) (hy : wD 2 1 D b y) (hla : (x.natAbs : Int) < 1000000000 ^ ra) (hlb : (y.natAbs : Int) < 1000000000 ^ rb) (h1 : ra < 1000) (h2 : rb < 1000)
    (k : ∀ c : Int, (c < 0 ↔ (x.natAbs : Int) < y.natAbs) → (c = 0 ↔ (x.natAbs : Int) = y.natAbs) → E (.inl (some (.inl c))) B S D) : Wp P_X16_compare E 0 [some (aR a), some (aR b)] [] B S D := by
  obtain ⟨u1, u2, u3⟩ := ha
  obtain ⟨v1, v2, v3⟩ := hb
  obtain ⟨n, hnr, a1, a2, a3, a4⟩ := hx.nat hla
  obtain ⟨m, hmr, b1, b2, b3, b4⟩ := hy.nat hlb
  have fin1 : ∀ c : Int, (c < 0 ↔ (x.natAbs : Int) < y.natAbs) → (c = 0 ↔ (x.natAbs : Int) = y.natAbs) → Wp P_X16_compare E 1 [] [aI c] B S D := fun c g1 g2 => by
    refine wp_in ?_
    simp only [P_X16_compare, i_kil, i_icon, i_lcon, i_null, i_loadI, i_loadL, i_loadR, i_istore, i_lstore, i_astore, i_iinc, i_dup, i_dup2, i_pop, i_iadd, i_isub, i_imul, i_idiv, i_irem, i_ineg, i_iand, i_ior, i_ishl, i_ishr, i_lxor, i_ladd, i_lsub, i_lmul, i_ldiv, i_lrem, i_lneg, i_lshl, i_lcmp, i_i2l, i_l2i, i_i2b, i_i2s, i_ifeq, i_ifne, i_iflt, i_ifge, i_ifgt, i_ifle, i_cmpeq, i_cmpne, i_cmplt, i_cmpge, i_cmpgt, i_cmple, i_acmpeq, i_acmpne, i_ifnull, i_ifnonnull, i_getI, i_getR, i_putI, i_putZ, i_putR, i_ald, i_ldL, i_ldR, i_ast, i_stL, i_stR, i_alen, i_new, i_newa, i_iret, i_zret, i_lret, i_aret, i_vret, i_raise, i_throw, i_recv, i_objinit, i_tsw3, lget, lset, lput1, lput2, lkil, ltrim, largs, isL, takev, dropv, nthv, pushO, catv, gd, true_and, and_true, Option.some.injEq, Prod.mk.injEq, exists_eq_left', if_true, if_false, reduceCtorEq, Bool.false_eq_true, lcmp_ge, lcmp_lt, lcmp_le, lcmp_gt, lcmp_eq, true_or, or_true, not_true_eq_false, not_false_eq_true, false_implies, true_implies, List.length_cons, List.length_nil]
    exact k c g1 g2
  have fin : ∀ c : Int, (c < 0 ↔ (x.natAbs : Int) < y.natAbs) → (c = 0 ↔ (x.natAbs : Int) = y.natAbs) → Wp P_X16_compare E 3 [] [aI c] B S D := fun c g1 g2 => by
    refine wp_in ?_
    simp only [P_X16_compare, i_kil, i_icon, i_lcon, i_null, i_loadI, i_loadL, i_loadR, i_istore, i_lstore, i_astore, i_iinc, i_dup, i_dup2, i_pop, i_iadd, i_isub, i_imul, i_idiv, i_irem, i_ineg, i_iand, i_ior, i_ishl, i_ishr, i_lxor, i_ladd, i_lsub, i_lmul, i_ldiv, i_lrem, i_lneg, i_lshl, i_lcmp, i_i2l, i_l2i, i_i2b, i_i2s, i_ifeq, i_ifne, i_iflt, i_ifge, i_ifgt, i_ifle, i_cmpeq, i_cmpne, i_cmplt, i_cmpge, i_cmpgt, i_cmple, i_acmpeq, i_acmpne, i_ifnull, i_ifnonnull, i_getI, i_getR, i_putI, i_putZ, i_putR, i_ald, i_ldL, i_ldR, i_ast, i_stL, i_stR, i_alen, i_new, i_newa, i_iret, i_zret, i_lret, i_aret, i_vret, i_raise, i_throw, i_recv, i_objinit, i_tsw3, lget, lset, lput1, lput2, lkil, ltrim, largs, isL, takev, dropv, nthv, pushO, catv, gd, true_and, and_true, Option.some.injEq, Prod.mk.injEq, exists_eq_left', if_true, if_false, reduceCtorEq, Bool.false_eq_true, lcmp_ge, lcmp_lt, lcmp_le, lcmp_gt, lcmp_eq, true_or, or_true, not_true_eq_false, not_false_eq_true, false_implies, true_implies, List.length_cons, List.length_nil]
    exact k c g1 g2
  rw [a4, b4] at fin fin1 k
  have loop : n = m → ∀ N : Nat, N ≤ n → (∀ i : Int, (N : Int) ≤ i → i < n → D (a + 1) i = D (b + 1) i) → Wp P_X16_compare E 2 [some (aR a), some (aR b), some (aI ((N : Int) - 1))] [] B S D := by
    intro hnm N
    subst hnm
    induction N with
    | zero =>
      intro hN he
      have ev : dv (D (a + 1)) n = dv (D (b + 1)) n := dv_congr fun i g1 g2 => he i (by omega) g2
      refine wp_in ?_
      simp only [P_X16_compare, i_kil, i_icon, i_lcon, i_null, i_loadI, i_loadL, i_loadR, i_istore, i_lstore, i_astore, i_iinc, i_dup, i_dup2, i_pop, i_iadd, i_isub, i_imul, i_idiv, i_irem, i_ineg, i_iand, i_ior, i_ishl, i_ishr, i_lxor, i_ladd, i_lsub, i_lmul, i_ldiv, i_lrem, i_lneg, i_lshl, i_lcmp, i_i2l, i_l2i, i_i2b, i_i2s, i_ifeq, i_ifne, i_iflt, i_ifge, i_ifgt, i_ifle, i_cmpeq, i_cmpne, i_cmplt, i_cmpge, i_cmpgt, i_cmple, i_acmpeq, i_acmpne, i_ifnull, i_ifnonnull, i_getI, i_getR, i_putI, i_putZ, i_putR, i_ald, i_ldL, i_ldR, i_ast, i_stL, i_stR, i_alen, i_new, i_newa, i_iret, i_zret, i_lret, i_aret, i_vret, i_raise, i_throw, i_recv, i_objinit, i_tsw3, lget, lset, lput1, lput2, lkil, ltrim, largs, isL, takev, dropv, nthv, pushO, catv, gd, true_and, and_true, Option.some.injEq, Prod.mk.injEq, exists_eq_left', if_true, if_false, reduceCtorEq, Bool.false_eq_true, lcmp_ge, lcmp_lt, lcmp_le, lcmp_gt, lcmp_eq, true_or, or_true, not_true_eq_false, not_false_eq_true, false_implies, true_implies, List.length_cons, List.length_nil, u1, u2, u3, v1, v2, v3]
      refine ⟨fun _ => k 0 ?_ ?_, fun h => by omega⟩
      · rw [ev]; omega
      · rw [ev]; simp
    | succ N ih =>
      intro hN he
      rw [show ((N + 1 : Nat) : Int) - 1 = N by omega]
      refine wp_in ?_
      simp only [P_X16_compare, i_kil, i_icon, i_lcon, i_null, i_loadI, i_loadL, i_loadR, i_istore, i_lstore, i_astore, i_iinc, i_dup, i_dup2, i_pop, i_iadd, i_isub, i_imul, i_idiv, i_irem, i_ineg, i_iand, i_ior, i_ishl, i_ishr, i_lxor, i_ladd, i_lsub, i_lmul, i_ldiv, i_lrem, i_lneg, i_lshl, i_lcmp, i_i2l, i_l2i, i_i2b, i_i2s, i_ifeq, i_ifne, i_iflt, i_ifge, i_ifgt, i_ifle, i_cmpeq, i_cmpne, i_cmplt, i_cmpge, i_cmpgt, i_cmple, i_acmpeq, i_acmpne, i_ifnull, i_ifnonnull, i_getI, i_getR, i_putI, i_putZ, i_putR, i_ald, i_ldL, i_ldR, i_ast, i_stL, i_stR, i_alen, i_new, i_newa, i_iret, i_zret, i_lret, i_aret, i_vret, i_raise, i_throw, i_recv, i_objinit, i_tsw3, lget, lset, lput1, lput2, lkil, ltrim, largs, isL, takev, dropv, nthv, pushO, catv, gd, true_and, and_true, Option.some.injEq, Prod.mk.injEq, exists_eq_left', if_true, if_false, reduceCtorEq, Bool.false_eq_true, lcmp_ge, lcmp_lt, lcmp_le, lcmp_gt, lcmp_eq, true_or, or_true, not_true_eq_false, not_false_eq_true, false_implies, true_implies, List.length_cons, List.length_nil, u1, u2, u3, v1, v2, v3]
      refine ⟨fun h => by omega, fun _ => ⟨by omega, by omega, by omega, by omega, fun h => ⟨in_small (by omega) (by omega), ih (by omega) fun i g1 g2 => ?_⟩, fun h => ⟨by omega, by omega, by omega, by omega, fun hg => fin 1 ?_ ?_, fun hl => fin (-1) ?_ ?_⟩⟩⟩
      · by_cases hi : i = N
        · rw [hi]; exact h
        · exact he i (by omega) g2
      · have := dv_lt_of_top b2.1 a2.1 (j := N) (by omega) (fun i g1 g2 => (he i (by omega) g2).symm) (by omega)
        omega
      · have := dv_lt_of_top b2.1 a2.1 (j := N) (by omega) (fun i g1 g2 => (he i (by omega) g2).symm) (by omega)
        omega
      · have := dv_lt_of_top a2.1 b2.1 (j := N) (by omega) (fun i g1 g2 => he i (by omega) g2) (by omega)
        omega
      · have := dv_lt_of_top a2.1 b2.1 (j := N) (by omega) (fun i g1 g2 => he i (by omega) g2) (by omega)
        omega
  refine wp_in ?_
  simp only [P_X16_compare, i_kil, i_icon, i_lcon, i_null, i_loadI, i_loadL, i_loadR, i_istore, i_lstore, i_astore, i_iinc, i_dup, i_dup2, i_pop, i_iadd, i_isub, i_imul, i_idiv, i_irem, i_ineg, i_iand, i_ior, i_ishl, i_ishr, i_lxor, i_ladd, i_lsub, i_lmul, i_ldiv, i_lrem, i_lneg, i_lshl, i_lcmp, i_i2l, i_l2i, i_i2b, i_i2s, i_ifeq, i_ifne, i_iflt, i_ifge, i_ifgt, i_ifle, i_cmpeq, i_cmpne, i_cmplt, i_cmpge, i_cmpgt, i_cmple, i_acmpeq, i_acmpne, i_ifnull, i_ifnonnull, i_getI, i_getR, i_putI, i_putZ, i_putR, i_ald, i_ldL, i_ldR, i_ast, i_stL, i_stR, i_alen, i_new, i_newa, i_iret, i_zret, i_lret, i_aret, i_vret, i_raise, i_throw, i_recv, i_objinit, i_tsw3, lget, lset, lput1, lput2, lkil, ltrim, largs, isL, takev, dropv, nthv, pushO, catv, gd, true_and, and_true, Option.some.injEq, Prod.mk.injEq, exists_eq_left', if_true, if_false, reduceCtorEq, Bool.false_eq_true, lcmp_ge, lcmp_lt, lcmp_le, lcmp_gt, lcmp_eq, true_or, or_true, not_true_eq_false, not_false_eq_true, false_implies, true_implies, List.length_cons, List.length_nil, u1, v1, a1, b1]
  refine ⟨fun h => ⟨in_small (by omega) (by omega), loop (by omega) n (Nat.le_refl _) fun i g1 g2 => by omega⟩, fun h => ⟨fun hg => fin1 1 ?_ ?_, fun hl => fin1 (-1) ?_ ?_⟩⟩
  · have := dv_lt_of_size b2 a2 (by omega); omega
  · have := dv_lt_of_size b2 a2 (by omega); omega
  · have := dv_lt_of_size a2 b2 (by omega); omega
  · have := dv_lt_of_size a2 b2 (by omega); omega
