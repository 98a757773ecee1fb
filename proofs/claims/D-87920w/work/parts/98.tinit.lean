/-! the table of terms is made -/
set_option maxRecDepth 100000
set_option linter.unusedVariables false
def tR (S : Stat) (T m : Nat) : Prop := S.1 T = some (1, 0) ∧ S.2.1 T 0 = some (T + 1) ∧ S.1 (T + 1) = some (112, 3) ∧ S.2.1 (T + 1) 0 = some (T + 2) ∧ S.1 (T + 2) = some (101, 455) ∧ S.2.1 (T + 1) 1 = some (T + 3) ∧ S.1 (T + 3) = some (101, 455) ∧ S.2.1 (T + 1) 2 = some (T + 4) ∧ S.1 (T + 4) = some (101, 455) ∧ S.2.1 T 1 = some (T + 5) ∧ S.1 (T + 5) = some (113, 13) ∧
  ∀ a : Nat, a < m → S.2.1 (T + 5) a = some (T + 6 + a) ∧ S.1 (T + 6 + a) = some (102, (13 - a) * (13 - a))
def tI (D : Dat) (T n : Nat) : Prop := (∀ t : Nat, t < n → D (T + 2) t = tx0 t ∧ D (T + 3) t = tx1 t ∧ D (T + 4) t = tx2 t) ∧ ∀ a b c : Nat, a + b + c ≤ 12 → tn a b c < n → D (T + 6 + a) ((b : Int) * (12 - (a : Int) + 1) + (c : Int)) = tn a b c
/-- nothing below is touched -/
def lowD (D D' : Dat) (T : Nat) : Prop := ∀ c i, c ≤ T → D' c i = D c i
theorem tpa_next : ∀ a : Fin 13, tpa a + tpb a (13 - a) = tpa (a + 1) := by decide +kernel
theorem idx_inj {w b c b' c' : Int} (hc : 0 ≤ c ∧ c < w) (hc' : 0 ≤ c' ∧ c' < w) (h : b * w + c = b' * w + c') : b = b' ∧ c = c' := by
  have h1 : (b * w + c) / w = b := by rw [Int.add_comm, Int.add_mul_ediv_right _ _ (by omega), Int.ediv_eq_zero_of_lt hc.1 hc.2]; omega
  have h2 : (b' * w + c') / w = b' := by rw [Int.add_comm, Int.add_mul_ediv_right _ _ (by omega), Int.ediv_eq_zero_of_lt hc'.1 hc'.2]; omega
  have h3 : b = b' := by rw [← h1, ← h2, h]
  subst h3
  exact ⟨rfl, by omega⟩
set_option maxHeartbeats 2000000 in
theorem sp_X1_init3 {E : Ex} {B : Nat × Nat} {S : Stat} {D : Dat} {T a b m : Nat} (hS : tR S T m) (ha : a < m) (ham : a ≤ 12) (hab : a + b ≤ 12)
    (K : ∀ D' : Dat, tI D' T (tn a (b + 1) 0) → lowD D D' T → Wp P_X1_init E 2 [some (aR T), some (aI (tn a (b + 1) 0 : Nat)), some (aI a), some (aI ((b + 1 : Nat) : Int))] [] B S D') :
    ∀ (L c : Nat) (D' : Dat), c + L = 13 - a - b → tI D' T (tn a b c) → lowD D D' T → Wp P_X1_init E 3 [some (aR T), some (aI (tn a b c : Nat)), some (aI a), some (aI b), some (aI c)] [] B S D' := by
  obtain ⟨t1, t2, t3, t4, t5, t6, t7, t8, t9, t10, t11, t12⟩ := hS
  obtain ⟨s1, s2⟩ := t12 a ha
  intro L
  induction L with
  | zero =>
    intro c D' hc hI hf
    have e : tn a b c = tn a (b + 1) 0 := by simp only [tn, tpb]; omega
    rw [e] at hI ⊢
    refine wp_in ?_
    simp only [P_X1_init, i_kil, i_icon, i_lcon, i_null, i_loadI, i_loadL, i_loadR, i_istore, i_lstore, i_astore, i_iinc, i_dup, i_dup2, i_pop, i_iadd, i_isub, i_imul, i_idiv, i_irem, i_ineg, i_iand, i_ior, i_ishl, i_ishr, i_lxor, i_ladd, i_lsub, i_lmul, i_ldiv, i_lrem, i_lneg, i_lshl, i_lcmp, i_i2l, i_l2i, i_i2b, i_i2s, i_ifeq, i_ifne, i_iflt, i_ifge, i_ifgt, i_ifle, i_cmpeq, i_cmpne, i_cmplt, i_cmpge, i_cmpgt, i_cmple, i_acmpeq, i_acmpne, i_ifnull, i_ifnonnull, i_getI, i_getR, i_putI, i_putZ, i_putR, i_ald, i_ldL, i_ldR, i_ast, i_stL, i_stR, i_alen, i_new, i_newa, i_iret, i_zret, i_lret, i_aret, i_vret, i_raise, i_throw, i_recv, i_objinit, i_tsw3, lget, lset, lput1, lput2, lkil, ltrim, largs, isL, takev, dropv, nthv, pushO, catv, gd, true_and, and_true, Option.some.injEq, Prod.mk.injEq, exists_eq_left', if_true, if_false, reduceCtorEq, Bool.false_eq_true, lcmp_ge, lcmp_lt, lcmp_le, lcmp_gt, lcmp_eq, true_or, or_true, not_true_eq_false, not_false_eq_true, false_implies, true_implies, List.length_cons, List.length_nil]
    refine ⟨in_small (by omega) (by omega), in_small (by omega) (by omega), fun _ => ⟨in_small (by omega) (by omega), ?_⟩, fun h => by omega⟩
    exact K D' hI hf
  | succ L ih =>
    intro c D' hc hI hf
    have hlt := tn_lt (a := a) (b := b) (c := c) (by omega)
    obtain ⟨x0, x1, x2⟩ := tn_tx (a := a) (b := b) (c := c) (by omega)
    have en : tn a b (c + 1) = tn a b c + 1 := rfl
    have h1 : 0 ≤ (b : Int) * (12 - (a : Int) + 1) := Int.mul_nonneg (by omega) (by omega)
    have h2 : (b : Int) * (12 - (a : Int) + 1) ≤ (12 - (a : Int)) * (12 - (a : Int) + 1) := Int.mul_le_mul_of_nonneg_right (by omega) (by omega)
    have h3 : (12 - (a : Int)) * (12 - (a : Int) + 1) ≤ 12 * 13 := Int.mul_le_mul (by omega) (by omega) (by omega) (by omega)
    have h4 : (12 - (a : Int)) * (12 - (a : Int) + 1) + (12 - (a : Int) + 1) = (12 - (a : Int) + 1) * (12 - (a : Int) + 1) := by grind
    have h5 : (((13 - a) * (13 - a) : Nat) : Int) = (12 - (a : Int) + 1) * (12 - (a : Int) + 1) := by
      rw [Int.natCast_mul, show ((13 - a : Nat) : Int) = 12 - (a : Int) + 1 by omega]
    obtain ⟨N, hN⟩ : ∃ N, N = tn a b c := ⟨_, rfl⟩
    rw [← hN] at hI hlt x0 x1 x2 ⊢
    rw [← hN] at en
    refine wp_in ?_
    simp only [P_X1_init, i_kil, i_icon, i_lcon, i_null, i_loadI, i_loadL, i_loadR, i_istore, i_lstore, i_astore, i_iinc, i_dup, i_dup2, i_pop, i_iadd, i_isub, i_imul, i_idiv, i_irem, i_ineg, i_iand, i_ior, i_ishl, i_ishr, i_lxor, i_ladd, i_lsub, i_lmul, i_ldiv, i_lrem, i_lneg, i_lshl, i_lcmp, i_i2l, i_l2i, i_i2b, i_i2s, i_ifeq, i_ifne, i_iflt, i_ifge, i_ifgt, i_ifle, i_cmpeq, i_cmpne, i_cmplt, i_cmpge, i_cmpgt, i_cmple, i_acmpeq, i_acmpne, i_ifnull, i_ifnonnull, i_getI, i_getR, i_putI, i_putZ, i_putR, i_ald, i_ldL, i_ldR, i_ast, i_stL, i_stR, i_alen, i_new, i_newa, i_iret, i_zret, i_lret, i_aret, i_vret, i_raise, i_throw, i_recv, i_objinit, i_tsw3, lget, lset, lput1, lput2, lkil, ltrim, largs, isL, takev, dropv, nthv, pushO, catv, gd, true_and, and_true, Option.some.injEq, Prod.mk.injEq, exists_eq_left', if_true, if_false, reduceCtorEq, Bool.false_eq_true, lcmp_ge, lcmp_lt, lcmp_le, lcmp_gt, lcmp_eq, true_or, or_true, not_true_eq_false, not_false_eq_true, false_implies, true_implies, List.length_cons, List.length_nil, t1, t2, t3, t4, t5, t6, t7, t8, t9, t10, t11, s1, s2]
    have g1 : (b : Int) * (12 - (a : Int) + 1) + (c : Int) < ((13 - a) * (13 - a) : Nat) := by rw [h5]; omega
    refine ⟨in_small (by omega) (by omega), in_small (by omega) (by omega), fun h => by omega, fun _ => ⟨by omega, by omega, by omega, by omega, by omega, by omega, by simp [okT]; omega, by omega, by omega, by omega, by omega, by omega, by omega, by simp [okT]; omega, by omega, by omega, by omega, by omega, by omega, by omega, by simp [okT]; omega, by omega, by omega, in_small (by omega) (by omega), in_small (by omega) (by omega), in_small (by omega) (by omega), in_small (by omega) (by omega), by omega, by omega, by omega, g1, by simp [okT]; omega, in_small (by omega) (by omega), in_small (by omega) (by omega), ?_⟩⟩
    generalize hidx : (b : Int) * (12 - (a : Int) + 1) + (c : Int) = idx
    have hR := ih (c + 1) (pmu (pmu (pmu (pmu D' (T + 2) N a) (T + 3) N b) (T + 4) N c) (T + 6 + a) idx N) (by omega) ?_ ?_
    · rw [en] at hR
      exact hR
    · rw [en]
      refine ⟨fun t ht => ?_, fun a' b' c' h' hn' => ?_⟩
      · have q2 : ∀ i : Int, pmu (pmu (pmu (pmu D' (T + 2) N a) (T + 3) N b) (T + 4) N c) (T + 6 + a) idx N (T + 2) i = if i = N then (a : Int) else D' (T + 2) i := fun i => by
          simp only [pmu]
          rw [if_neg (fun h => by omega), if_neg (fun h => by omega), if_neg (fun h => by omega)]
          simp
        have q3 : ∀ i : Int, pmu (pmu (pmu (pmu D' (T + 2) N a) (T + 3) N b) (T + 4) N c) (T + 6 + a) idx N (T + 3) i = if i = N then (b : Int) else D' (T + 3) i := fun i => by
          simp only [pmu]
          rw [if_neg (fun h => by omega), if_neg (fun h => by omega)]
          simp
        have q4 : ∀ i : Int, pmu (pmu (pmu (pmu D' (T + 2) N a) (T + 3) N b) (T + 4) N c) (T + 6 + a) idx N (T + 4) i = if i = N then (c : Int) else D' (T + 4) i := fun i => by
          simp only [pmu]
          rw [if_neg (fun h => by omega)]
          simp
        rw [q2, q3, q4]
        by_cases h : t = N
        · subst h
          rw [if_pos rfl, if_pos rfl, if_pos rfl, x0, x1, x2]
          exact ⟨rfl, rfl, rfl⟩
        · rw [if_neg (by omega), if_neg (by omega), if_neg (by omega)]
          exact hI.1 t (by omega)
      · by_cases hp : T + 6 + a' = T + 6 + a ∧ (b' : Int) * (12 - (a' : Int) + 1) + (c' : Int) = idx
        · have ha' : a' = a := by omega
          subst ha'
          obtain ⟨i1, i2⟩ := idx_inj (w := 12 - (a' : Int) + 1) ⟨by omega, by omega⟩ ⟨by omega, by omega⟩ (hp.2.trans hidx.symm)
          have hb' : b' = b := by omega
          have hc' : c' = c := by omega
          subst hb'
          subst hc'
          simp only [pmu]
          rw [if_pos ⟨trivial, hp.2⟩, hN]
        · have hne : tn a' b' c' ≠ N := fun h => by
            obtain ⟨y0, y1, y2⟩ := tn_tx h'
            rw [h] at y0 y1 y2
            have e0 : a' = a := by omega
            have e1 : b' = b := by omega
            have e2 : c' = c := by omega
            subst e0
            subst e1
            subst e2
            exact hp ⟨rfl, hidx⟩
          simp only [pmu]
          rw [if_neg hp, if_neg (fun h => by omega), if_neg (fun h => by omega), if_neg (fun h => by omega)]
          exact hI.2 a' b' c' h' (by omega)
    · intro z i hz
      simp only [pmu]
      rw [if_neg (fun h => by omega), if_neg (fun h => by omega), if_neg (fun h => by omega), if_neg (fun h => by omega)]
      exact hf z i hz
set_option maxHeartbeats 2000000 in
theorem sp_X1_init2 {E : Ex} {B : Nat × Nat} {S : Stat} {D : Dat} {T a m : Nat} (hS : tR S T m) (ha : a < m) (ham : a ≤ 12)
    (K : ∀ D' : Dat, tI D' T (tn (a + 1) 0 0) → lowD D D' T → Wp P_X1_init E 1 [some (aR T), some (aI (tn (a + 1) 0 0 : Nat)), some (aI ((a + 1 : Nat) : Int))] [] B S D') :
    ∀ (L b : Nat) (D' : Dat), b + L = 13 - a → tI D' T (tn a b 0) → lowD D D' T → Wp P_X1_init E 2 [some (aR T), some (aI (tn a b 0 : Nat)), some (aI a), some (aI b)] [] B S D' := by
  intro L
  induction L with
  | zero =>
    intro b D' hb hI hf
    have hb' : b = 13 - a := by omega
    have e : tn a b 0 = tn (a + 1) 0 0 := by
      have h := tpa_next ⟨a, by omega⟩
      simp only at h
      rw [hb']
      simp only [tn, tpb]
      omega
    rw [e] at hI ⊢
    refine wp_in ?_
    simp only [P_X1_init, i_kil, i_icon, i_lcon, i_null, i_loadI, i_loadL, i_loadR, i_istore, i_lstore, i_astore, i_iinc, i_dup, i_dup2, i_pop, i_iadd, i_isub, i_imul, i_idiv, i_irem, i_ineg, i_iand, i_ior, i_ishl, i_ishr, i_lxor, i_ladd, i_lsub, i_lmul, i_ldiv, i_lrem, i_lneg, i_lshl, i_lcmp, i_i2l, i_l2i, i_i2b, i_i2s, i_ifeq, i_ifne, i_iflt, i_ifge, i_ifgt, i_ifle, i_cmpeq, i_cmpne, i_cmplt, i_cmpge, i_cmpgt, i_cmple, i_acmpeq, i_acmpne, i_ifnull, i_ifnonnull, i_getI, i_getR, i_putI, i_putZ, i_putR, i_ald, i_ldL, i_ldR, i_ast, i_stL, i_stR, i_alen, i_new, i_newa, i_iret, i_zret, i_lret, i_aret, i_vret, i_raise, i_throw, i_recv, i_objinit, i_tsw3, lget, lset, lput1, lput2, lkil, ltrim, largs, isL, takev, dropv, nthv, pushO, catv, gd, true_and, and_true, Option.some.injEq, Prod.mk.injEq, exists_eq_left', if_true, if_false, reduceCtorEq, Bool.false_eq_true, lcmp_ge, lcmp_lt, lcmp_le, lcmp_gt, lcmp_eq, true_or, or_true, not_true_eq_false, not_false_eq_true, false_implies, true_implies, List.length_cons, List.length_nil]
    refine ⟨in_small (by omega) (by omega), fun _ => ⟨in_small (by omega) (by omega), ?_⟩, fun h => by omega⟩
    exact K D' hI hf
  | succ L ih =>
    intro b D' hb hI hf
    refine wp_in ?_
    simp only [P_X1_init, i_kil, i_icon, i_lcon, i_null, i_loadI, i_loadL, i_loadR, i_istore, i_lstore, i_astore, i_iinc, i_dup, i_dup2, i_pop, i_iadd, i_isub, i_imul, i_idiv, i_irem, i_ineg, i_iand, i_ior, i_ishl, i_ishr, i_lxor, i_ladd, i_lsub, i_lmul, i_ldiv, i_lrem, i_lneg, i_lshl, i_lcmp, i_i2l, i_l2i, i_i2b, i_i2s, i_ifeq, i_ifne, i_iflt, i_ifge, i_ifgt, i_ifle, i_cmpeq, i_cmpne, i_cmplt, i_cmpge, i_cmpgt, i_cmple, i_acmpeq, i_acmpne, i_ifnull, i_ifnonnull, i_getI, i_getR, i_putI, i_putZ, i_putR, i_ald, i_ldL, i_ldR, i_ast, i_stL, i_stR, i_alen, i_new, i_newa, i_iret, i_zret, i_lret, i_aret, i_vret, i_raise, i_throw, i_recv, i_objinit, i_tsw3, lget, lset, lput1, lput2, lkil, ltrim, largs, isL, takev, dropv, nthv, pushO, catv, gd, true_and, and_true, Option.some.injEq, Prod.mk.injEq, exists_eq_left', if_true, if_false, reduceCtorEq, Bool.false_eq_true, lcmp_ge, lcmp_lt, lcmp_le, lcmp_gt, lcmp_eq, true_or, or_true, not_true_eq_false, not_false_eq_true, false_implies, true_implies, List.length_cons, List.length_nil]
    refine ⟨in_small (by omega) (by omega), fun h => by omega, fun _ => ?_⟩
    exact sp_X1_init3 hS ha ham (by omega) (fun D'' h1 h2 => ih (b + 1) D'' (by omega) h1 h2) (13 - a - b) 0 D' (by omega) hI hf
