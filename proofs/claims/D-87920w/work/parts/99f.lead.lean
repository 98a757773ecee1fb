/-! the component's polynomials: the greatest term by an order -/
set_option maxRecDepth 100000
set_option linter.unusedVariables false
/-- an order's object -/
def oS (S : Stat) (D : Dat) (ob T c g : Nat) : Prop := S.1 ob = some (c, 0) ∧ S.2.1 ob 0 = some T ∧ ordOK c g ∧ (c = 12 → D ob 1 = g)
theorem wp_rank {K : Tm} {ls : List (Option PV)} {st : List PV} {B : Nat × Nat} {S : Stat} {D : Dat} {ob T c g t u : Nat} {x y : Int} (hc : gdb (.inl y :: .inl x :: .inr (.inr (some ob)) :: st) 3 3 = true) (ho : oS S D ob T c g) (hT : tS S T) (hD : tD D T) (ht : t < 455) (hu : u < 455) (hx : x = t) (hy : y = u) (h : K ls (.inl (rankI c g t u) :: st) B S D) : i_vcall K [(9, P_X9_rank), (10, P_X10_rank), (11, P_X11_rank), (12, P_X12_rank)] 2 3 i_none ls (.inl y :: .inl x :: .inr (.inr (some ob)) :: st) B S D := by
  subst hx
  subst hy
  obtain ⟨o1, o2, o3, o4⟩ := ho
  have kk : (fun o (_ : Nat × Nat) S' D' => match o with
    | .inl v => K ls (pushO v (dropv (.inl (u : Int) :: .inl (t : Int) :: .inr (.inr (some ob)) :: st) 3)) B S' D'
    | .inr a => i_none ls [.inr (.inr (some a))] B S' D' : Ex) (.inl (some (.inl (rankI c g t u)))) (0, 0) S D := by
    show K ls (.inl (rankI c g t u) :: dropv (.inl (u : Int) :: .inl (t : Int) :: .inr (.inr (some ob)) :: st) 3) B S D
    simp only [dropv, dropv0]
    exact h
  rcases o3 with rfl | rfl | rfl | ⟨rfl, hg⟩
  · refine ⟨(9, P_X9_rank), .head _, ⟨ob, rfl, o1⟩, call0 (gd_of hc) ?_⟩
    simp only [takev, takev0, largs, isL]
    exact sp_X9_rank o1 (by decide) o2 hT hD ht hu kk
  · refine ⟨(10, P_X10_rank), .tail _ (.head _), ⟨ob, rfl, o1⟩, call0 (gd_of hc) ?_⟩
    simp only [takev, takev0, largs, isL]
    exact sp_X10_rank o1 o2 hT hD ht hu kk
  · refine ⟨(11, P_X11_rank), .tail _ (.tail _ (.head _)), ⟨ob, rfl, o1⟩, call0 (gd_of hc) ?_⟩
    simp only [takev, takev0, largs, isL]
    exact sp_X11_rank o1 o2 hT hD ht hu kk
  · refine ⟨(12, P_X12_rank), .tail _ (.tail _ (.tail _ (.head _))), ⟨ob, rfl, o1⟩, call0 (gd_of hc) ?_⟩
    simp only [takev, takev0, largs, isL]
    exact sp_X12_rank o1 o2 (o4 rfl) hg hT hD ht hu kk
/-- the greatest term below n; -7 where there is none -/
def leadI (c g : Nat) (φ : Nat → Rat) : Nat → Int
  | 0 => -7
  | t + 1 => if φ t = 0 then leadI c g φ t else if leadI c g φ t = -7 then (t : Int) else if 0 < rankI c g t (leadI c g φ t).toNat then (t : Int) else leadI c g φ t
theorem leadI_lim (c g : Nat) (φ : Nat → Rat) (n : Nat) : leadI c g φ n = -7 ∨ (0 ≤ leadI c g φ n ∧ leadI c g φ n < n ∧ φ (leadI c g φ n).toNat ≠ 0) := by
  induction n with
  | zero => exact .inl rfl
  | succ t ih =>
    simp only [leadI]
    split
    · rcases ih with h | ⟨h1, h2, h3⟩
      · exact .inl h
      · exact .inr ⟨h1, by omega, h3⟩
    · rename_i h0
      split
      · exact .inr ⟨by omega, by omega, by simpa using h0⟩
      · split
        · exact .inr ⟨by omega, by omega, by simpa using h0⟩
        · rcases ih with h | ⟨h1, h2, h3⟩
          · exact .inl h
          · exact .inr ⟨h1, by omega, h3⟩
set_option maxHeartbeats 1000000 in
theorem sp_X5_lead {E : Ex} {B : Nat × Nat} {S : Stat} {D : Dat} {p ob T c g : Nat} {φ : Nat → Rat} (hp : pS S p) (hD : pD D p φ) (ho : oS S D ob T c g) (hT : tS S T) (hTD : tD D T) (k : E (.inl (some (.inl (leadI c g φ 455)))) B S D) : Wp P_X5_lead E 0 [some (aR p), some (aR ob)] [] B S D := by
  have p1 := hp.1
  have loop : ∀ (L t : Nat), t + L = 455 → Wp P_X5_lead E 1 [some (aR p), some (aR ob), some (aI (leadI c g φ t)), some (aI t)] [] B S D := by
    intro L
    induction L with
    | zero =>
      intro t ht
      have h : t = 455 := by omega
      subst h
      refine wp_in ?_
      simp only [P_X5_lead, i_kil, i_icon, i_lcon, i_null, i_loadI, i_loadL, i_loadR, i_istore, i_lstore, i_astore, i_iinc, i_dup, i_dup2, i_pop, i_iadd, i_isub, i_imul, i_idiv, i_irem, i_ineg, i_iand, i_ior, i_ishl, i_ishr, i_lxor, i_ladd, i_lsub, i_lmul, i_ldiv, i_lrem, i_lneg, i_lshl, i_lcmp, i_i2l, i_l2i, i_i2b, i_i2s, i_ifeq, i_ifne, i_iflt, i_ifge, i_ifgt, i_ifle, i_cmpeq, i_cmpne, i_cmplt, i_cmpge, i_cmpgt, i_cmple, i_acmpeq, i_acmpne, i_ifnull, i_ifnonnull, i_getI, i_getR, i_putI, i_putZ, i_putR, i_ald, i_ldL, i_ldR, i_ast, i_stL, i_stR, i_alen, i_new, i_newa, i_iret, i_zret, i_lret, i_aret, i_vret, i_raise, i_throw, i_recv, i_objinit, i_tsw3, lget, lset, lput1, lput2, lkil, ltrim, largs, isL, takev, dropv, nthv, pushO, catv, gd, true_and, and_true, Option.some.injEq, Prod.mk.injEq, exists_eq_left', if_true, if_false, reduceCtorEq, Bool.false_eq_true, lcmp_ge, lcmp_lt, lcmp_le, lcmp_gt, lcmp_eq, true_or, or_true, not_true_eq_false, not_false_eq_true, false_implies, true_implies, List.length_cons, List.length_nil]
      exact ⟨fun _ => k, fun h => by omega⟩
    | succ L ih =>
      intro t ht
      have next : ∀ b : Int, b = leadI c g φ (t + 1) → Wp P_X5_lead E 3 [some (aR p), some (aR ob), some (aI b), some (aI t)] [] B S D := fun b hb => by
        subst hb
        refine wp_in ?_
        simp only [P_X5_lead, i_kil, i_icon, i_lcon, i_null, i_loadI, i_loadL, i_loadR, i_istore, i_lstore, i_astore, i_iinc, i_dup, i_dup2, i_pop, i_iadd, i_isub, i_imul, i_idiv, i_irem, i_ineg, i_iand, i_ior, i_ishl, i_ishr, i_lxor, i_ladd, i_lsub, i_lmul, i_ldiv, i_lrem, i_lneg, i_lshl, i_lcmp, i_i2l, i_l2i, i_i2b, i_i2s, i_ifeq, i_ifne, i_iflt, i_ifge, i_ifgt, i_ifle, i_cmpeq, i_cmpne, i_cmplt, i_cmpge, i_cmpgt, i_cmple, i_acmpeq, i_acmpne, i_ifnull, i_ifnonnull, i_getI, i_getR, i_putI, i_putZ, i_putR, i_ald, i_ldL, i_ldR, i_ast, i_stL, i_stR, i_alen, i_new, i_newa, i_iret, i_zret, i_lret, i_aret, i_vret, i_raise, i_throw, i_recv, i_objinit, i_tsw3, lget, lset, lput1, lput2, lkil, ltrim, largs, isL, takev, dropv, nthv, pushO, catv, gd, true_and, and_true, Option.some.injEq, Prod.mk.injEq, exists_eq_left', if_true, if_false, reduceCtorEq, Bool.false_eq_true, lcmp_ge, lcmp_lt, lcmp_le, lcmp_gt, lcmp_eq, true_or, or_true, not_true_eq_false, not_false_eq_true, false_implies, true_implies, List.length_cons, List.length_nil]
        exact ⟨in_small (by omega) (by omega), ih (t + 1) (by omega)⟩
      have take : (t : Int) = leadI c g φ (t + 1) → Wp P_X5_lead E 2 [some (aR p), some (aR ob), none, some (aI t)] [] B S D := fun hb => by
        refine wp_in ?_
        simp only [P_X5_lead, i_kil, i_icon, i_lcon, i_null, i_loadI, i_loadL, i_loadR, i_istore, i_lstore, i_astore, i_iinc, i_dup, i_dup2, i_pop, i_iadd, i_isub, i_imul, i_idiv, i_irem, i_ineg, i_iand, i_ior, i_ishl, i_ishr, i_lxor, i_ladd, i_lsub, i_lmul, i_ldiv, i_lrem, i_lneg, i_lshl, i_lcmp, i_i2l, i_l2i, i_i2b, i_i2s, i_ifeq, i_ifne, i_iflt, i_ifge, i_ifgt, i_ifle, i_cmpeq, i_cmpne, i_cmplt, i_cmpge, i_cmpgt, i_cmple, i_acmpeq, i_acmpne, i_ifnull, i_ifnonnull, i_getI, i_getR, i_putI, i_putZ, i_putR, i_ald, i_ldL, i_ldR, i_ast, i_stL, i_stR, i_alen, i_new, i_newa, i_iret, i_zret, i_lret, i_aret, i_vret, i_raise, i_throw, i_recv, i_objinit, i_tsw3, lget, lset, lput1, lput2, lkil, ltrim, largs, isL, takev, dropv, nthv, pushO, catv, gd, true_and, and_true, Option.some.injEq, Prod.mk.injEq, exists_eq_left', if_true, if_false, reduceCtorEq, Bool.false_eq_true, lcmp_ge, lcmp_lt, lcmp_le, lcmp_gt, lcmp_eq, true_or, or_true, not_true_eq_false, not_false_eq_true, false_implies, true_implies, List.length_cons, List.length_nil]
        exact next _ hb
      have hl := leadI_lim c g φ t
      refine wp_in ?_
      simp only [P_X5_lead, i_kil, i_icon, i_lcon, i_null, i_loadI, i_loadL, i_loadR, i_istore, i_lstore, i_astore, i_iinc, i_dup, i_dup2, i_pop, i_iadd, i_isub, i_imul, i_idiv, i_irem, i_ineg, i_iand, i_ior, i_ishl, i_ishr, i_lxor, i_ladd, i_lsub, i_lmul, i_ldiv, i_lrem, i_lneg, i_lshl, i_lcmp, i_i2l, i_l2i, i_i2b, i_i2s, i_ifeq, i_ifne, i_iflt, i_ifge, i_ifgt, i_ifle, i_cmpeq, i_cmpne, i_cmplt, i_cmpge, i_cmpgt, i_cmple, i_acmpeq, i_acmpne, i_ifnull, i_ifnonnull, i_getI, i_getR, i_putI, i_putZ, i_putR, i_ald, i_ldL, i_ldR, i_ast, i_stL, i_stR, i_alen, i_new, i_newa, i_iret, i_zret, i_lret, i_aret, i_vret, i_raise, i_throw, i_recv, i_objinit, i_tsw3, lget, lset, lput1, lput2, lkil, ltrim, largs, isL, takev, dropv, nthv, pushO, catv, gd, true_and, and_true, Option.some.injEq, Prod.mk.injEq, exists_eq_left', if_true, if_false, reduceCtorEq, Bool.false_eq_true, lcmp_ge, lcmp_lt, lcmp_le, lcmp_gt, lcmp_eq, true_or, or_true, not_true_eq_false, not_false_eq_true, false_implies, true_implies, List.length_cons, List.length_nil, p1]
      refine ⟨fun h => by omega, fun _ => ⟨⟨p, rfl, p1⟩, call0 (gd_of rfl) ?_⟩⟩
      refine sp_X5_has hp hD (by omega) ?_
      simp only [P_X5_lead, i_kil, i_icon, i_lcon, i_null, i_loadI, i_loadL, i_loadR, i_istore, i_lstore, i_astore, i_iinc, i_dup, i_dup2, i_pop, i_iadd, i_isub, i_imul, i_idiv, i_irem, i_ineg, i_iand, i_ior, i_ishl, i_ishr, i_lxor, i_ladd, i_lsub, i_lmul, i_ldiv, i_lrem, i_lneg, i_lshl, i_lcmp, i_i2l, i_l2i, i_i2b, i_i2s, i_ifeq, i_ifne, i_iflt, i_ifge, i_ifgt, i_ifle, i_cmpeq, i_cmpne, i_cmplt, i_cmpge, i_cmpgt, i_cmple, i_acmpeq, i_acmpne, i_ifnull, i_ifnonnull, i_getI, i_getR, i_putI, i_putZ, i_putR, i_ald, i_ldL, i_ldR, i_ast, i_stL, i_stR, i_alen, i_new, i_newa, i_iret, i_zret, i_lret, i_aret, i_vret, i_raise, i_throw, i_recv, i_objinit, i_tsw3, lget, lset, lput1, lput2, lkil, ltrim, largs, isL, takev, dropv, nthv, pushO, catv, gd, true_and, and_true, Option.some.injEq, Prod.mk.injEq, exists_eq_left', if_true, if_false, reduceCtorEq, Bool.false_eq_true, lcmp_ge, lcmp_lt, lcmp_le, lcmp_gt, lcmp_eq, true_or, or_true, not_true_eq_false, not_false_eq_true, false_implies, true_implies, List.length_cons, List.length_nil, p1]
      refine ⟨fun h => ?_, fun h => ?_⟩
      · have h0 : φ t = 0 := by
          rcases Classical.em (φ t = 0) with q | q
          · exact q
          · rw [if_neg q] at h; exact absurd h (by decide)
        exact next _ (by simp only [leadI]; rw [if_pos h0])
      · have h0 : ¬ φ t = 0 := fun q => by rw [if_pos q] at h; exact h rfl
        refine ⟨fun h7 => take (by simp only [leadI]; rw [if_neg h0, if_pos h7]), fun h7 => ?_⟩
        refine wp_rank (t := t) (u := (leadI c g φ t).toNat) rfl ho hT hTD (by omega) (by omega) rfl (by omega) ?_
        simp only [P_X5_lead, i_kil, i_icon, i_lcon, i_null, i_loadI, i_loadL, i_loadR, i_istore, i_lstore, i_astore, i_iinc, i_dup, i_dup2, i_pop, i_iadd, i_isub, i_imul, i_idiv, i_irem, i_ineg, i_iand, i_ior, i_ishl, i_ishr, i_lxor, i_ladd, i_lsub, i_lmul, i_ldiv, i_lrem, i_lneg, i_lshl, i_lcmp, i_i2l, i_l2i, i_i2b, i_i2s, i_ifeq, i_ifne, i_iflt, i_ifge, i_ifgt, i_ifle, i_cmpeq, i_cmpne, i_cmplt, i_cmpge, i_cmpgt, i_cmple, i_acmpeq, i_acmpne, i_ifnull, i_ifnonnull, i_getI, i_getR, i_putI, i_putZ, i_putR, i_ald, i_ldL, i_ldR, i_ast, i_stL, i_stR, i_alen, i_new, i_newa, i_iret, i_zret, i_lret, i_aret, i_vret, i_raise, i_throw, i_recv, i_objinit, i_tsw3, lget, lset, lput1, lput2, lkil, ltrim, largs, isL, takev, dropv, nthv, pushO, catv, gd, true_and, and_true, Option.some.injEq, Prod.mk.injEq, exists_eq_left', if_true, if_false, reduceCtorEq, Bool.false_eq_true, lcmp_ge, lcmp_lt, lcmp_le, lcmp_gt, lcmp_eq, true_or, or_true, not_true_eq_false, not_false_eq_true, false_implies, true_implies, List.length_cons, List.length_nil]
        refine ⟨fun h => next _ ?_, fun h => take ?_⟩
        · simp only [leadI]; rw [if_neg h0, if_neg h7, if_neg (by omega)]
        · simp only [leadI]; rw [if_neg h0, if_neg h7, if_pos (by omega)]
  refine wp_in ?_
  simp only [P_X5_lead, i_kil, i_icon, i_lcon, i_null, i_loadI, i_loadL, i_loadR, i_istore, i_lstore, i_astore, i_iinc, i_dup, i_dup2, i_pop, i_iadd, i_isub, i_imul, i_idiv, i_irem, i_ineg, i_iand, i_ior, i_ishl, i_ishr, i_lxor, i_ladd, i_lsub, i_lmul, i_ldiv, i_lrem, i_lneg, i_lshl, i_lcmp, i_i2l, i_l2i, i_i2b, i_i2s, i_ifeq, i_ifne, i_iflt, i_ifge, i_ifgt, i_ifle, i_cmpeq, i_cmpne, i_cmplt, i_cmpge, i_cmpgt, i_cmple, i_acmpeq, i_acmpne, i_ifnull, i_ifnonnull, i_getI, i_getR, i_putI, i_putZ, i_putR, i_ald, i_ldL, i_ldR, i_ast, i_stL, i_stR, i_alen, i_new, i_newa, i_iret, i_zret, i_lret, i_aret, i_vret, i_raise, i_throw, i_recv, i_objinit, i_tsw3, lget, lset, lput1, lput2, lkil, ltrim, largs, isL, takev, dropv, nthv, pushO, catv, gd, true_and, and_true, Option.some.injEq, Prod.mk.injEq, exists_eq_left', if_true, if_false, reduceCtorEq, Bool.false_eq_true, lcmp_ge, lcmp_lt, lcmp_le, lcmp_gt, lcmp_eq, true_or, or_true, not_true_eq_false, not_false_eq_true, false_implies, true_implies, List.length_cons, List.length_nil]
  exact loop 455 0 rfl
