/-! the table of terms is made: the rows -/
set_option maxRecDepth 100000
set_option linter.unusedVariables false
def lowS (S S' : Stat) (T : Nat) : Prop := ∀ c, c < T → S'.1 c = S.1 c ∧ ∀ i, S'.2.1 c i = S.2.1 c i
def wnd : Nat → Nat
  | 0 => 0
  | L + 1 => wnd L + (L + 1) * (L + 1)
set_option maxHeartbeats 2000000 in
theorem sp_X1_init1 {E : Ex} {S : Stat} {D : Dat} {T : Nat}
    (K : ∀ (S' : Stat) (D' : Dat), tR S' T 13 → S'.2.2 = T + 19 → lowS S S' T → tI D' T 455 → lowD D D' T → E (.inl none) (0, 0) S' D') :
    ∀ (L a : Nat) (S' : Stat) (D' : Dat), a + L = 13 → tR S' T a → S'.2.2 = T + 6 + a → lowS S S' T → tI D' T (tn a 0 0) → lowD D D' T → Wp P_X1_init E 1 [some (aR T), some (aI (tn a 0 0 : Nat)), some (aI a)] [] (L, wnd L) S' D' := by
  intro L
  induction L with
  | zero =>
    intro a S' D' ha hS hn hl hI hf
    have ha' : a = 13 := by omega
    subst ha'
    have e : tn 13 0 0 = 455 := by decide +kernel
    rw [e] at hI ⊢
    refine wp_in ?_
    simp only [P_X1_init, i_kil, i_icon, i_lcon, i_null, i_loadI, i_loadL, i_loadR, i_istore, i_lstore, i_astore, i_iinc, i_dup, i_dup2, i_pop, i_iadd, i_isub, i_imul, i_idiv, i_irem, i_ineg, i_iand, i_ior, i_ishl, i_ishr, i_lxor, i_ladd, i_lsub, i_lmul, i_ldiv, i_lrem, i_lneg, i_lshl, i_lcmp, i_i2l, i_l2i, i_i2b, i_i2s, i_ifeq, i_ifne, i_iflt, i_ifge, i_ifgt, i_ifle, i_cmpeq, i_cmpne, i_cmplt, i_cmpge, i_cmpgt, i_cmple, i_acmpeq, i_acmpne, i_ifnull, i_ifnonnull, i_getI, i_getR, i_putI, i_putZ, i_putR, i_ald, i_ldL, i_ldR, i_ast, i_stL, i_stR, i_alen, i_new, i_newa, i_iret, i_zret, i_lret, i_aret, i_vret, i_raise, i_throw, i_recv, i_objinit, i_tsw3, lget, lset, lput1, lput2, lkil, ltrim, largs, isL, takev, dropv, nthv, pushO, catv, gd, true_and, and_true, Option.some.injEq, Prod.mk.injEq, exists_eq_left', if_true, if_false, reduceCtorEq, Bool.false_eq_true, lcmp_ge, lcmp_lt, lcmp_le, lcmp_gt, lcmp_eq, true_or, or_true, not_true_eq_false, not_false_eq_true, false_implies, true_implies, List.length_cons, List.length_nil]
    exact ⟨fun _ => K S' D' hS (by omega) hl hI hf, fun h => by omega⟩
  | succ L ih =>
    intro a S' D' ha hS hn hl hI hf
    obtain ⟨t1, t2, t3, t4, t5, t6, t7, t8, t9, t10, t11, t12⟩ := hS
    obtain ⟨n, hnn⟩ : ∃ n, n = (L + 1) * (L + 1) := ⟨_, rfl⟩
    have e13 : 13 - a = L + 1 := by omega
    have eI : (12 - (a : Int) + 1) = ((L + 1 : Nat) : Int) := by omega
    have eM : (12 - (a : Int) + 1) * (12 - (a : Int) + 1) = (n : Int) := by rw [eI, hnn, Int.natCast_mul]
    have hn0 : n ≤ 13 * 13 := by rw [hnn]; exact Nat.mul_le_mul (by omega) (by omega)
    have k5 : (mkS S' 102 n).1 (T + 5) = some (113, 13) := by simp only [mkS]; rw [if_neg (by omega)]; exact t11
    have kv : (mkS S' 102 n).1 (T + 6 + a) = some (102, n) := by simp only [mkS]; rw [if_pos hn.symm]
    refine wp_in ?_
    simp only [P_X1_init, i_kil, i_icon, i_lcon, i_null, i_loadI, i_loadL, i_loadR, i_istore, i_lstore, i_astore, i_iinc, i_dup, i_dup2, i_pop, i_iadd, i_isub, i_imul, i_idiv, i_irem, i_ineg, i_iand, i_ior, i_ishl, i_ishr, i_lxor, i_ladd, i_lsub, i_lmul, i_ldiv, i_lrem, i_lneg, i_lshl, i_lcmp, i_i2l, i_l2i, i_i2b, i_i2s, i_ifeq, i_ifne, i_iflt, i_ifge, i_ifgt, i_ifle, i_cmpeq, i_cmpne, i_cmplt, i_cmpge, i_cmpgt, i_cmple, i_acmpeq, i_acmpne, i_ifnull, i_ifnonnull, i_getI, i_getR, i_putI, i_putZ, i_putR, i_ald, i_ldL, i_ldR, i_ast, i_stL, i_stR, i_alen, i_new, i_newa, i_iret, i_zret, i_lret, i_aret, i_vret, i_raise, i_throw, i_recv, i_objinit, i_tsw3, lget, lset, lput1, lput2, lkil, ltrim, largs, isL, takev, dropv, nthv, pushO, catv, gd, true_and, and_true, Option.some.injEq, Prod.mk.injEq, exists_eq_left', if_true, if_false, reduceCtorEq, Bool.false_eq_true, lcmp_ge, lcmp_lt, lcmp_le, lcmp_gt, lcmp_eq, true_or, or_true, not_true_eq_false, not_false_eq_true, false_implies, true_implies, List.length_cons, List.length_nil, t1, t10, t11, hn, eM]
    refine ⟨fun h => by omega, fun _ => ⟨in_small (by omega) (by omega), in_small (by omega) (by omega), in_small (by omega) (by omega), in_small (by omega) (by omega), in_small (by omega) (by omega), L, wnd L, n, rfl, by omega, by rw [hnn]; exact ⟨rfl, rfl⟩, 13, 102, n, k5, kv, .head _, by omega, by omega, ?_⟩⟩
    have hl2 : lowS S (setR (mkS S' 102 n) (T + 5) a (some (T + 6 + a))) T := fun c hc => by
      obtain ⟨q1, q2⟩ := hl c hc
      refine ⟨?_, fun i => ?_⟩
      · simp only [setR, mkS]; rw [if_neg (by omega)]; exact q1
      · simp only [setR, mkS, pmur]; rw [if_neg (fun h => by omega), if_neg (by omega)]; exact q2 i
    have hS2 : tR (setR (mkS S' 102 n) (T + 5) a (some (T + 6 + a))) T (a + 1) := by
      refine ⟨?_, ?_, ?_, ?_, ?_, ?_, ?_, ?_, ?_, ?_, k5, fun a' ha' => ?_⟩
      · simp only [setR, mkS]; rw [if_neg (by omega)]; exact t1
      · simp only [setR, mkS, pmur]; rw [if_neg (fun h => by omega), if_neg (by omega)]; exact t2
      · simp only [setR, mkS]; rw [if_neg (by omega)]; exact t3
      · simp only [setR, mkS, pmur]; rw [if_neg (fun h => by omega), if_neg (by omega)]; exact t4
      · simp only [setR, mkS]; rw [if_neg (by omega)]; exact t5
      · simp only [setR, mkS, pmur]; rw [if_neg (fun h => by omega), if_neg (by omega)]; exact t6
      · simp only [setR, mkS]; rw [if_neg (by omega)]; exact t7
      · simp only [setR, mkS, pmur]; rw [if_neg (fun h => by omega), if_neg (by omega)]; exact t8
      · simp only [setR, mkS]; rw [if_neg (by omega)]; exact t9
      · simp only [setR, mkS, pmur]; rw [if_neg (fun h => by omega), if_neg (by omega)]; exact t10
      · by_cases h : a' = a
        · subst h
          refine ⟨?_, ?_⟩
          · simp only [setR, pmur]; rw [if_pos ⟨trivial, trivial⟩]
          · rw [e13, ← hnn]; exact kv
        · obtain ⟨q1, q2⟩ := t12 a' (by omega)
          refine ⟨?_, ?_⟩
          · simp only [setR, mkS, pmur]; rw [if_neg (fun h => by omega), if_neg (by omega)]; exact q1
          · simp only [setR, mkS]; rw [if_neg (by omega)]; exact q2
    have hDc : ∀ c i, c ≠ T + 6 + a → mkD S' D' c i = D' c i := fun c i h => by simp only [mkD]; rw [if_neg (by omega)]
    have hI2 : tI (mkD S' D') T (tn a 0 0) := by
      refine ⟨fun t ht => ?_, fun a' b' c' h' hlt => ?_⟩
      · rw [hDc _ _ (by omega), hDc _ _ (by omega), hDc _ _ (by omega)]; exact hI.1 t ht
      · have hne : a' ≠ a := fun h => by
          subst h
          simp only [tn, tpb] at hlt
          omega
        rw [hDc _ _ (by omega)]; exact hI.2 a' b' c' h' hlt
    refine sp_X1_init2 (D := D) hS2 (Nat.lt_succ_self a) (by omega) (fun D'' h1 h2 => ?_) (13 - a) 0 _ (by omega) hI2 (fun c i hc => by rw [hDc _ _ (by omega)]; exact hf c i hc)
    exact ih (a + 1) _ D'' (by omega) hS2 (by simp only [setR, mkS]; omega) hl2 h1 h2
theorem tR.tS {S : Stat} {T : Nat} (h : tR S T 13) : tS S T := by
  obtain ⟨t1, t2, t3, t4, t5, t6, t7, t8, t9, t10, t11, t12⟩ := h
  exact ⟨t1, t2, t3, t4, t5, t6, t7, t8, t9, t10, t11, fun a ha => t12 a (by omega)⟩
theorem tI.tD {D : Dat} {T : Nat} (h : tI D T 455) : tD D T := ⟨h.1, fun a b c h' => h.2 a b c h' (tn_lt h')⟩
set_option maxHeartbeats 2000000 in
theorem sp_X1_init {E : Ex} {S : Stat} {D : Dat} {T : Nat} (h1 : S.1 T = some (1, 0)) (hn : S.2.2 = T + 1)
    (K : ∀ (S' : Stat) (D' : Dat), tS S' T → S'.2.2 = T + 19 → lowS S S' T → tD D' T → lowD D D' T → E (.inl none) (0, 0) S' D') : Wp P_X1_init E 0 [some (aR T)] [] (18, 2200) S D := by
  refine wp_in ?_
  simp only [P_X1_init, i_kil, i_icon, i_lcon, i_null, i_loadI, i_loadL, i_loadR, i_istore, i_lstore, i_astore, i_iinc, i_dup, i_dup2, i_pop, i_iadd, i_isub, i_imul, i_idiv, i_irem, i_ineg, i_iand, i_ior, i_ishl, i_ishr, i_lxor, i_ladd, i_lsub, i_lmul, i_ldiv, i_lrem, i_lneg, i_lshl, i_lcmp, i_i2l, i_l2i, i_i2b, i_i2s, i_ifeq, i_ifne, i_iflt, i_ifge, i_ifgt, i_ifle, i_cmpeq, i_cmpne, i_cmplt, i_cmpge, i_cmpgt, i_cmple, i_acmpeq, i_acmpne, i_ifnull, i_ifnonnull, i_getI, i_getR, i_putI, i_putZ, i_putR, i_ald, i_ldL, i_ldR, i_ast, i_stL, i_stR, i_alen, i_new, i_newa, i_iret, i_zret, i_lret, i_aret, i_vret, i_raise, i_throw, i_recv, i_objinit, i_tsw3, lget, lset, lput1, lput2, lkil, ltrim, largs, isL, takev, dropv, nthv, pushO, catv, gd, true_and, and_true, Option.some.injEq, Prod.mk.injEq, exists_eq_left', if_true, if_false, reduceCtorEq, Bool.false_eq_true, lcmp_ge, lcmp_lt, lcmp_le, lcmp_gt, lcmp_eq, true_or, or_true, not_true_eq_false, not_false_eq_true, false_implies, true_implies, List.length_cons, List.length_nil, i_multi, h1, hn]
  have nx : (setR (mkM S 112 101 3 455) T 0 (some (T + 1))).2.2 = T + 5 := by simp only [setR, mkM]; omega
  have kk : ∀ c, (setR (mkS (setR (mkM S 112 101 3 455) T 0 (some (T + 1))) 113 13) T 1 (some (T + 5))).1 c = if c = T + 5 then some (113, 13) else if c = T + 1 then some (112, 3) else if T + 1 < c ∧ c ≤ T + 4 then some (101, 455) else S.1 c := fun c => by
    show (if c = (setR (mkM S 112 101 3 455) T 0 (some (T + 1))).2.2 then some (113, 13) else (setR (mkM S 112 101 3 455) T 0 (some (T + 1))).1 c) = _
    rw [nx]
    simp only [setR, mkM, hn]
  have rr : ∀ c i, (setR (mkS (setR (mkM S 112 101 3 455) T 0 (some (T + 1))) 113 13) T 1 (some (T + 5))).2.1 c i = if c = T ∧ i = 1 then some (T + 5) else if c = T + 5 then none else if c = T ∧ i = 0 then some (T + 1) else if c = T + 1 then (if 0 ≤ i ∧ i < 3 then some (T + 2 + i.toNat) else none) else if T + 1 < c ∧ c ≤ T + 4 then none else S.2.1 c i := fun c i => by
    show (if c = T ∧ i = 1 then some (T + 5) else if c = (setR (mkM S 112 101 3 455) T 0 (some (T + 1))).2.2 then none else (setR (mkM S 112 101 3 455) T 0 (some (T + 1))).2.1 c i) = _
    rw [nx]
    simp only [setR, mkM, pmur, hn]
    rfl
  have row : ∀ l : Nat, l < 3 → (setR (mkS (setR (mkM S 112 101 3 455) T 0 (some (T + 1))) 113 13) T 1 (some (T + 5))).2.1 (T + 1) l = some (T + 2 + l) := fun l hl => by
    rw [rr, if_neg (fun h => by omega), if_neg (by omega), if_neg (fun h => by omega), if_pos rfl, if_pos ⟨by omega, by omega⟩]
    rfl
  have kro : ∀ c, T + 1 < c → c ≤ T + 4 → (setR (mkS (setR (mkM S 112 101 3 455) T 0 (some (T + 1))) 113 13) T 1 (some (T + 5))).1 c = some (101, 455) := fun c g1 g2 => by
    rw [kk, if_neg (by omega), if_neg (by omega), if_pos ⟨g1, g2⟩]
  refine ⟨by omega, 14, 832, 3, 455, rfl, rfl, by omega, by omega, ⟨rfl, rfl⟩, ?_, 13, 819, 13, rfl, by omega, ⟨rfl, rfl⟩, ?_, ?_⟩
  · simp only [mkM]; rw [if_neg (by omega), if_neg (by omega)]; exact h1
  · simp only [mkS]; rw [nx, if_neg (by omega)]; simp only [setR, mkM]; rw [if_neg (by omega), if_neg (by omega)]; exact h1
  · rw [nx]
    refine sp_X1_init1 (S := S) (D := D) (fun S' D' g1 g2 g3 g4 g5 => K S' D' g1.tS g2 g3 g4.tD g5) 13 0 _ _ rfl ?_ ?_ ?_ ?_ ?_
    · refine ⟨?_, ?_, ?_, row 0 (by omega), kro _ (by omega) (by omega), row 1 (by omega), kro _ (by omega) (by omega), row 2 (by omega), kro _ (by omega) (by omega), ?_, ?_, fun a ha => by omega⟩
      · rw [kk, if_neg (by omega), if_neg (by omega), if_neg (by omega)]; exact h1
      · rw [rr, if_neg (fun h => absurd h.2 (by decide)), if_neg (by omega), if_pos ⟨rfl, rfl⟩]
      · rw [kk, if_neg (by omega), if_pos rfl]
      · rw [rr, if_pos ⟨rfl, rfl⟩]
      · rw [kk, if_pos rfl]
    · show (setR (mkM S 112 101 3 455) T 0 (some (T + 1))).2.2 + 1 = _
      rw [nx]
    · intro c hc
      refine ⟨?_, fun i => ?_⟩
      · rw [kk, if_neg (by omega), if_neg (by omega), if_neg (by omega)]
      · rw [rr, if_neg (fun h => by omega), if_neg (by omega), if_neg (fun h => by omega), if_neg (by omega), if_neg (by omega)]
    · exact ⟨fun t ht => absurd ht (Nat.not_lt_zero t), fun a b c h' hlt => absurd hlt (Nat.not_lt_zero _)⟩
    · intro c i hc
      simp only [mkD, mkMD]
      rw [nx, if_neg (by omega), if_neg (by omega)]
