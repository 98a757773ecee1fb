/-! constructors of polynomials and wholes -/
set_option maxRecDepth 100000
set_option linter.unusedVariables false
/-- an object whose only array is made: what the state is then -/
theorem one_row {S : Stat} {p k n c : Nat} (h1 : S.1 p = some (c, 0)) (hn : S.2.2 = p + 1) : (setR (mkS S k n) p 0 (some (p + 1))).1 p = some (c, 0) ∧ (setR (mkS S k n) p 0 (some (p + 1))).2.1 p 0 = some (p + 1) ∧ (setR (mkS S k n) p 0 (some (p + 1))).1 (p + 1) = some (k, n) ∧ (setR (mkS S k n) p 0 (some (p + 1))).2.2 = p + 2 ∧ lowS S (setR (mkS S k n) p 0 (some (p + 1))) p := by
  refine ⟨?_, ?_, ?_, ?_, fun a ha => ⟨?_, fun i => ?_⟩⟩
  · simp only [setR, mkS]; rw [if_neg (by omega)]; exact h1
  · simp only [setR, pmur, and_self, if_true]
  · simp only [setR, mkS]; rw [if_pos hn.symm]
  · simp only [setR, mkS]; omega
  · simp only [setR, mkS]; rw [if_neg (by omega)]
  · simp only [setR, mkS, pmur]; rw [if_neg (fun h => by omega), if_neg (by omega)]
theorem sp_X5_init {E : Ex} {S : Stat} {D : Dat} {p : Nat} (h1 : S.1 p = some (5, 0)) (hn : S.2.2 = p + 1) (hm : D p 1 = 0)
    (k : ∀ (S' : Stat) (D' : Dat), pS S' p → S'.2.2 = p + 2 → lowS S S' p → pD D' p (fun _ => 0) → lowD D D' p → E (.inl none) (0, 0) S' D') : Wp P_X5_init E 0 [some (aR p)] [] (1, 13650) S D := by
  obtain ⟨q1, q2, q3, q4, q5⟩ := one_row (k := 100) (n := 13650) h1 hn
  have hk : (mkS S 100 13650).1 p = some (5, 0) := by simp only [mkS]; rw [if_neg (by omega)]; exact h1
  have z0 : ∀ n, pcnt (fun _ => (0 : Rat)) n = 0 := fun n => by
    induction n with
    | zero => rfl
    | succ n ih => simp only [pcnt, if_true]; omega
  have hd : ∀ i, mkD S D (p + 1) i = 0 := fun i => by simp only [mkD]; rw [if_pos hn.symm]
  refine wp_in ?_
  simp only [P_X5_init, i_kil, i_icon, i_lcon, i_null, i_loadI, i_loadL, i_loadR, i_istore, i_lstore, i_astore, i_iinc, i_dup, i_dup2, i_pop, i_iadd, i_isub, i_imul, i_idiv, i_irem, i_ineg, i_iand, i_ior, i_ishl, i_ishr, i_lxor, i_ladd, i_lsub, i_lmul, i_ldiv, i_lrem, i_lneg, i_lshl, i_lcmp, i_i2l, i_l2i, i_i2b, i_i2s, i_ifeq, i_ifne, i_iflt, i_ifge, i_ifgt, i_ifle, i_cmpeq, i_cmpne, i_cmplt, i_cmpge, i_cmpgt, i_cmple, i_acmpeq, i_acmpne, i_ifnull, i_ifnonnull, i_getI, i_getR, i_putI, i_putZ, i_putR, i_ald, i_ldL, i_ldR, i_ast, i_stL, i_stR, i_alen, i_new, i_newa, i_iret, i_zret, i_lret, i_aret, i_vret, i_raise, i_throw, i_recv, i_objinit, i_tsw3, lget, lset, lput1, lput2, lkil, ltrim, largs, isL, takev, dropv, nthv, pushO, catv, gd, true_and, and_true, Option.some.injEq, Prod.mk.injEq, exists_eq_left', if_true, if_false, reduceCtorEq, Bool.false_eq_true, lcmp_ge, lcmp_lt, lcmp_le, lcmp_gt, lcmp_eq, true_or, or_true, not_true_eq_false, not_false_eq_true, false_implies, true_implies, List.length_cons, List.length_nil, h1, hn]
  refine ⟨by omega, 0, 0, 13650, rfl, by omega, ⟨rfl, rfl⟩, hk, ?_⟩
  refine k _ _ ⟨q1, q2, q3⟩ q4 q5 ⟨fun t ht => ⟨⟨0, by omega, ?_, ⟨fun i g1 g2 => by omega, fun g => by omega⟩, rfl⟩, fun g => absurd rfl g⟩, ?_⟩ (fun c i hc => ?_)
  · rw [hd]; rfl
  · simp only [mkD]; rw [if_neg (by omega), hm, z0]; rfl
  · simp only [mkD]; rw [if_neg (by omega)]
