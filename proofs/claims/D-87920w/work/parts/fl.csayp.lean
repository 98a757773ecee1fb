/-! the component's text: sayPoly -/
-- needs: fk.csayt
set_option maxRecDepth 100000
set_option linter.unusedVariables false
/-- the last taken term, as the program holds it -/
def lasI (l : List Nat) : Int := match l.getLast? with
  | none => -7
  | some t => (t : Nat)
theorem pcnt_z1 {φ : Nat → Rat} : ∀ n, pcnt φ n = 0 ↔ ∀ t, t < n → φ t = 0
  | 0 => ⟨fun _ t ht => by omega, fun _ => rfl⟩
  | n + 1 => by
    have e2 : pcnt φ (n + 1) = pcnt φ n + if φ n = 0 then 0 else 1 := rfl
    have ih := pcnt_z1 (φ := φ) n
    rw [e2]
    constructor
    · intro h t ht
      have h1 : φ n = 0 := Classical.byContradiction fun c => by rw [if_neg c] at h; omega
      by_cases q : t = n
      · rw [q]; exact h1
      · exact ih.mp (by omega) t (by omega)
    · intro h
      rw [if_pos (h n (by omega)), ih.mpr fun t ht => h t (by omega)]
section CSP
variable {E : Ex} {B : Nat × Nat} {S : Stat} {D : Dat} {C : Nat} {L : List Int}
theorem sp_X0_sayPoly {p ob c g : Nat} {φ : Nat → Rat} (hS : cxtS S C) (h3 : S.2.1 C 3 = some (C + 3) ∧ tS S (C + 3)) (h9 : S.2.1 C 9 = some (C + 665) ∧ qS S (C + 22) (C + 665)) (hp : pS S p) (lp : p + 1 < C ∨ C + 723 < p) (hφ : pP D p φ) (h60 : pcnt φ 455 ≤ 60) (hT : tD D (C + 3)) (ho : oS S D ob (C + 3) c g) (lo : (C < ob ∧ ob < C + 666) ∨ (C + 669 < ob ∧ ob < C + 723)) (h : txD 36 D C (C + 723) [])
    (K : ∀ D' l, cytO D D' C → ldsT c g φ l → l.length = pcnt φ 455 → txD 36 D' C (C + 723) (pyT φ l) → (pyT φ l).length ≤ 20000 → E (.inl none) B S D') : Wp P_X0_sayPoly E 0 [some (aR C), some (aR p), some (aR ob)] [] B S D := by
  have o := hS.1
  have T2 := h3.2
  have p1 := hp.1
  have hoc : ordOK c g := ho.2.2.1
  have hmn : D p 1 = pcnt φ 455 := hφ.1.2
  have hP : ∀ {D1 : Dat}, cytO D D1 C → pD D1 p φ := fun f => hφ.1.congr (fun i => f _ i (Or.inl (by omega)) (by omega) (by omega)) fun i => f _ i (Or.inl (by omega)) (by omega) (by omega)
  have hTD : ∀ {D1 : Dat}, cytO D D1 C → tD D1 (C + 3) := fun f => hT.congr fun c i c1 c2 => f _ i (Or.inl (by omega)) (by omega) (by omega)
  have hO : ∀ {D1 : Dat}, cytO D D1 C → oS S D1 ob (C + 3) c g := fun f => ⟨ho.1, ho.2.1, hoc, fun q => by rw [f _ _ (Or.inl (by omega)) (by omega) (by omega)]; exact ho.2.2.2 q⟩
  have inn : ∀ (l : List Nat) (D1 : Dat) (t0 : Nat) (m k : Nat), cytO D D1 C → isLead c g (remT φ l) t0 → (∀ u, u < 455 → (remT φ l u ≠ 0 ↔ φ u ≠ 0 ∧ (∀ s, l.getLast? = some s → rankI c g u s < 0))) → (∀ s, l.getLast? = some s → s < 455) → k + m = 455 →
      Wp P_X0_sayPoly E 3 [some (aR C), some (aR p), some (aR ob), some (aI (lasI l)), some (aI (l.length : Int)), some (aI (t0 : Int)), some (aI 455)] [] B S D1 →
      Wp P_X0_sayPoly E 3 [some (aR C), some (aR p), some (aR ob), some (aI (lasI l)), some (aI (l.length : Int)), some (aI (leadI c g (remT φ l) k)), some (aI (k : Int))] [] B S D1 := by
    intro l D1 t0 m
    induction m with
    | zero =>
      intro k f1 g1 g2 g3 hk KK
      have : k = 455 := by omega
      subst this
      rw [leadI_is hoc g1]
      exact KK
    | succ m ih =>
      intro k f1 g1 g2 g3 hk KK
      have hlt : k < 455 := by omega
      have e0 : leadI c g (remT φ l) (k + 1) = if remT φ l k = 0 then leadI c g (remT φ l) k else if leadI c g (remT φ l) k = -7 then (k : Int) else if 0 < rankI c g k (leadI c g (remT φ l) k).toNat then (k : Int) else leadI c g (remT φ l) k := rfl
      have six : ∀ b, b = leadI c g (remT φ l) (k + 1) → Wp P_X0_sayPoly E 6 [some (aR C), some (aR p), some (aR ob), some (aI (lasI l)), some (aI (l.length : Int)), some (aI b), some (aI (k : Int))] [] B S D1 := fun b hb => by
        refine wp_in ?_
        simp only [P_X0_sayPoly, i_kil, i_icon, i_lcon, i_null, i_loadI, i_loadL, i_loadR, i_istore, i_lstore, i_astore, i_iinc, i_dup, i_dup2, i_pop, i_iadd, i_isub, i_imul, i_idiv, i_irem, i_ineg, i_iand, i_ior, i_ishl, i_ishr, i_lxor, i_ladd, i_lsub, i_lmul, i_ldiv, i_lrem, i_lneg, i_lshl, i_lcmp, i_i2l, i_l2i, i_i2b, i_i2s, i_ifeq, i_ifne, i_iflt, i_ifge, i_ifgt, i_ifle, i_cmpeq, i_cmpne, i_cmplt, i_cmpge, i_cmpgt, i_cmple, i_acmpeq, i_acmpne, i_ifnull, i_ifnonnull, i_getI, i_getR, i_putI, i_putZ, i_putR, i_ald, i_ldL, i_ldR, i_ast, i_stL, i_stR, i_alen, i_new, i_newa, i_iret, i_zret, i_lret, i_aret, i_vret, i_raise, i_throw, i_recv, i_objinit, i_tsw3, lget, lset, lput1, lput2, lkil, ltrim, largs, isL, takev, dropv, nthv, pushO, catv, gd, true_and, and_true, Option.some.injEq, Prod.mk.injEq, exists_eq_left', if_true, if_false, reduceCtorEq, Bool.false_eq_true, lcmp_ge, lcmp_lt, lcmp_le, lcmp_gt, lcmp_eq, true_or, or_true, not_true_eq_false, not_false_eq_true, false_implies, true_implies, List.length_cons, List.length_nil]
        repeat (first | refine ⟨in_small (by omega) (by omega), ?_⟩ | (show (_ → _) ∧ (_ → _); first | refine ⟨by omega, fun _ => ?_⟩ | refine ⟨fun _ => ?_, by omega⟩) | refine ⟨by omega, ?_⟩ | refine ⟨⟨_, rfl, by assumption⟩, ?_⟩ | refine ⟨okT_I _, ?_⟩ | refine call0 (gd_of rfl) ?_)
        have := ih (k + 1) f1 g1 g2 g3 (by omega) KK
        rw [← hb] at this
        exact this
      have five : remT φ l k ≠ 0 → (leadI c g (remT φ l) k = -7 ∨ 0 < rankI c g k (leadI c g (remT φ l) k).toNat) → Wp P_X0_sayPoly E 5 [some (aR C), some (aR p), some (aR ob), some (aI (lasI l)), some (aI (l.length : Int)), none, some (aI (k : Int))] [] B S D1 := fun h1 h2 => by
        refine wp_in ?_
        simp only [P_X0_sayPoly, i_kil, i_icon, i_lcon, i_null, i_loadI, i_loadL, i_loadR, i_istore, i_lstore, i_astore, i_iinc, i_dup, i_dup2, i_pop, i_iadd, i_isub, i_imul, i_idiv, i_irem, i_ineg, i_iand, i_ior, i_ishl, i_ishr, i_lxor, i_ladd, i_lsub, i_lmul, i_ldiv, i_lrem, i_lneg, i_lshl, i_lcmp, i_i2l, i_l2i, i_i2b, i_i2s, i_ifeq, i_ifne, i_iflt, i_ifge, i_ifgt, i_ifle, i_cmpeq, i_cmpne, i_cmplt, i_cmpge, i_cmpgt, i_cmple, i_acmpeq, i_acmpne, i_ifnull, i_ifnonnull, i_getI, i_getR, i_putI, i_putZ, i_putR, i_ald, i_ldL, i_ldR, i_ast, i_stL, i_stR, i_alen, i_new, i_newa, i_iret, i_zret, i_lret, i_aret, i_vret, i_raise, i_throw, i_recv, i_objinit, i_tsw3, lget, lset, lput1, lput2, lkil, ltrim, largs, isL, takev, dropv, nthv, pushO, catv, gd, true_and, and_true, Option.some.injEq, Prod.mk.injEq, exists_eq_left', if_true, if_false, reduceCtorEq, Bool.false_eq_true, lcmp_ge, lcmp_lt, lcmp_le, lcmp_gt, lcmp_eq, true_or, or_true, not_true_eq_false, not_false_eq_true, false_implies, true_implies, List.length_cons, List.length_nil]
        refine six k ?_
        rw [e0, if_neg h1]
        rcases h2 with h2 | h2
        · rw [if_pos h2]
        · by_cases q : leadI c g (remT φ l) k = -7
          · rw [if_pos q]
          · rw [if_neg q, if_pos h2]
      have four : remT φ l k ≠ 0 → Wp P_X0_sayPoly E 4 [some (aR C), some (aR p), some (aR ob), some (aI (lasI l)), some (aI (l.length : Int)), some (aI (leadI c g (remT φ l) k)), some (aI (k : Int))] [] B S D1 := fun h1 => by
        refine wp_in ?_
        simp only [P_X0_sayPoly, i_kil, i_icon, i_lcon, i_null, i_loadI, i_loadL, i_loadR, i_istore, i_lstore, i_astore, i_iinc, i_dup, i_dup2, i_pop, i_iadd, i_isub, i_imul, i_idiv, i_irem, i_ineg, i_iand, i_ior, i_ishl, i_ishr, i_lxor, i_ladd, i_lsub, i_lmul, i_ldiv, i_lrem, i_lneg, i_lshl, i_lcmp, i_i2l, i_l2i, i_i2b, i_i2s, i_ifeq, i_ifne, i_iflt, i_ifge, i_ifgt, i_ifle, i_cmpeq, i_cmpne, i_cmplt, i_cmpge, i_cmpgt, i_cmple, i_acmpeq, i_acmpne, i_ifnull, i_ifnonnull, i_getI, i_getR, i_putI, i_putZ, i_putR, i_ald, i_ldL, i_ldR, i_ast, i_stL, i_stR, i_alen, i_new, i_newa, i_iret, i_zret, i_lret, i_aret, i_vret, i_raise, i_throw, i_recv, i_objinit, i_tsw3, lget, lset, lput1, lput2, lkil, ltrim, largs, isL, takev, dropv, nthv, pushO, catv, gd, true_and, and_true, Option.some.injEq, Prod.mk.injEq, exists_eq_left', if_true, if_false, reduceCtorEq, Bool.false_eq_true, lcmp_ge, lcmp_lt, lcmp_le, lcmp_gt, lcmp_eq, true_or, or_true, not_true_eq_false, not_false_eq_true, false_implies, true_implies, List.length_cons, List.length_nil, ho.1]
        refine ⟨fun q => five h1 (Or.inl q), fun q => ?_⟩
        rcases leadI_law hoc (φ := remT φ l) k (by omega) with ⟨w1, w2⟩ | ⟨u, w1, w2, w3, w4⟩
        · exact absurd w1 q
        · rw [w1]
          refine wp_rank (t := k) (u := u) (by rfl) (hO f1) T2 (hTD f1) hlt (by omega) rfl rfl ?_
          simp only [P_X0_sayPoly, i_kil, i_icon, i_lcon, i_null, i_loadI, i_loadL, i_loadR, i_istore, i_lstore, i_astore, i_iinc, i_dup, i_dup2, i_pop, i_iadd, i_isub, i_imul, i_idiv, i_irem, i_ineg, i_iand, i_ior, i_ishl, i_ishr, i_lxor, i_ladd, i_lsub, i_lmul, i_ldiv, i_lrem, i_lneg, i_lshl, i_lcmp, i_i2l, i_l2i, i_i2b, i_i2s, i_ifeq, i_ifne, i_iflt, i_ifge, i_ifgt, i_ifle, i_cmpeq, i_cmpne, i_cmplt, i_cmpge, i_cmpgt, i_cmple, i_acmpeq, i_acmpne, i_ifnull, i_ifnonnull, i_getI, i_getR, i_putI, i_putZ, i_putR, i_ald, i_ldL, i_ldR, i_ast, i_stL, i_stR, i_alen, i_new, i_newa, i_iret, i_zret, i_lret, i_aret, i_vret, i_raise, i_throw, i_recv, i_objinit, i_tsw3, lget, lset, lput1, lput2, lkil, ltrim, largs, isL, takev, dropv, nthv, pushO, catv, gd, true_and, and_true, Option.some.injEq, Prod.mk.injEq, exists_eq_left', if_true, if_false, reduceCtorEq, Bool.false_eq_true, lcmp_ge, lcmp_lt, lcmp_le, lcmp_gt, lcmp_eq, true_or, or_true, not_true_eq_false, not_false_eq_true, false_implies, true_implies, List.length_cons, List.length_nil]
          refine ⟨fun q2 => six _ ?_, fun q2 => five h1 (Or.inr ?_)⟩
          · rw [e0, if_neg h1, w1, if_neg (by omega), if_neg]
            rw [show ((u : Nat) : Int).toNat = u by omega]; omega
          · rw [w1, show ((u : Nat) : Int).toNat = u by omega]; omega
      refine wp_in ?_
      simp only [P_X0_sayPoly, i_kil, i_icon, i_lcon, i_null, i_loadI, i_loadL, i_loadR, i_istore, i_lstore, i_astore, i_iinc, i_dup, i_dup2, i_pop, i_iadd, i_isub, i_imul, i_idiv, i_irem, i_ineg, i_iand, i_ior, i_ishl, i_ishr, i_lxor, i_ladd, i_lsub, i_lmul, i_ldiv, i_lrem, i_lneg, i_lshl, i_lcmp, i_i2l, i_l2i, i_i2b, i_i2s, i_ifeq, i_ifne, i_iflt, i_ifge, i_ifgt, i_ifle, i_cmpeq, i_cmpne, i_cmplt, i_cmpge, i_cmpgt, i_cmple, i_acmpeq, i_acmpne, i_ifnull, i_ifnonnull, i_getI, i_getR, i_putI, i_putZ, i_putR, i_ald, i_ldL, i_ldR, i_ast, i_stL, i_stR, i_alen, i_new, i_newa, i_iret, i_zret, i_lret, i_aret, i_vret, i_raise, i_throw, i_recv, i_objinit, i_tsw3, lget, lset, lput1, lput2, lkil, ltrim, largs, isL, takev, dropv, nthv, pushO, catv, gd, true_and, and_true, Option.some.injEq, Prod.mk.injEq, exists_eq_left', if_true, if_false, reduceCtorEq, Bool.false_eq_true, lcmp_ge, lcmp_lt, lcmp_le, lcmp_gt, lcmp_eq, true_or, or_true, not_true_eq_false, not_false_eq_true, false_implies, true_implies, List.length_cons, List.length_nil, p1]
      refine ⟨fun q => by omega, fun _ => ?_⟩
      repeat (first | refine ⟨in_small (by omega) (by omega), ?_⟩ | (show (_ → _) ∧ (_ → _); first | refine ⟨by omega, fun _ => ?_⟩ | refine ⟨fun _ => ?_, by omega⟩) | refine ⟨by omega, ?_⟩ | refine ⟨⟨_, rfl, by assumption⟩, ?_⟩ | refine ⟨okT_I _, ?_⟩ | refine call0 (gd_of rfl) ?_)
      refine sp_X5_has hp (hP f1) hlt ?_
      simp only [P_X0_sayPoly, i_kil, i_icon, i_lcon, i_null, i_loadI, i_loadL, i_loadR, i_istore, i_lstore, i_astore, i_iinc, i_dup, i_dup2, i_pop, i_iadd, i_isub, i_imul, i_idiv, i_irem, i_ineg, i_iand, i_ior, i_ishl, i_ishr, i_lxor, i_ladd, i_lsub, i_lmul, i_ldiv, i_lrem, i_lneg, i_lshl, i_lcmp, i_i2l, i_l2i, i_i2b, i_i2s, i_ifeq, i_ifne, i_iflt, i_ifge, i_ifgt, i_ifle, i_cmpeq, i_cmpne, i_cmplt, i_cmpge, i_cmpgt, i_cmple, i_acmpeq, i_acmpne, i_ifnull, i_ifnonnull, i_getI, i_getR, i_putI, i_putZ, i_putR, i_ald, i_ldL, i_ldR, i_ast, i_stL, i_stR, i_alen, i_new, i_newa, i_iret, i_zret, i_lret, i_aret, i_vret, i_raise, i_throw, i_recv, i_objinit, i_tsw3, lget, lset, lput1, lput2, lkil, ltrim, largs, isL, takev, dropv, nthv, pushO, catv, gd, true_and, and_true, Option.some.injEq, Prod.mk.injEq, exists_eq_left', if_true, if_false, reduceCtorEq, Bool.false_eq_true, lcmp_ge, lcmp_lt, lcmp_le, lcmp_gt, lcmp_eq, true_or, or_true, not_true_eq_false, not_false_eq_true, false_implies, true_implies, List.length_cons, List.length_nil, ho.1]
      have hz : φ k = 0 → remT φ l k = 0 := remT_out
      refine ⟨fun q => six _ ?_, fun q => ⟨fun q2 => four ?_, fun q2 => ?_⟩⟩
      · have : φ k = 0 := Classical.byContradiction fun c => by rw [if_neg c] at q; exact absurd q (by decide)
        rw [e0, if_pos (hz this)]
      · have h0 : φ k ≠ 0 := fun c => q (if_pos c)
        refine (g2 k hlt).mpr ⟨h0, fun s hs => ?_⟩
        unfold lasI at q2
        rw [hs] at q2
        have q2 : ((s : Nat) : Int) = -7 := q2
        omega
      · have h0 : φ k ≠ 0 := fun c => q (if_pos c)
        obtain ⟨s, hs⟩ : ∃ s, l.getLast? = some s := by
          rcases hl : l.getLast? with _ | s
          · unfold lasI at q2; rw [hl] at q2; exact absurd rfl q2
          · exact ⟨s, rfl⟩
        have e1 : lasI l = (s : Nat) := by unfold lasI; rw [hs]
        have six' := six
        rw [e1] at six' four ⊢
        refine wp_rank (t := k) (u := s) (by rfl) (hO f1) T2 (hTD f1) hlt (g3 s hs) rfl rfl ?_
        simp only [P_X0_sayPoly, i_kil, i_icon, i_lcon, i_null, i_loadI, i_loadL, i_loadR, i_istore, i_lstore, i_astore, i_iinc, i_dup, i_dup2, i_pop, i_iadd, i_isub, i_imul, i_idiv, i_irem, i_ineg, i_iand, i_ior, i_ishl, i_ishr, i_lxor, i_ladd, i_lsub, i_lmul, i_ldiv, i_lrem, i_lneg, i_lshl, i_lcmp, i_i2l, i_l2i, i_i2b, i_i2s, i_ifeq, i_ifne, i_iflt, i_ifge, i_ifgt, i_ifle, i_cmpeq, i_cmpne, i_cmplt, i_cmpge, i_cmpgt, i_cmple, i_acmpeq, i_acmpne, i_ifnull, i_ifnonnull, i_getI, i_getR, i_putI, i_putZ, i_putR, i_ald, i_ldL, i_ldR, i_ast, i_stL, i_stR, i_alen, i_new, i_newa, i_iret, i_zret, i_lret, i_aret, i_vret, i_raise, i_throw, i_recv, i_objinit, i_tsw3, lget, lset, lput1, lput2, lkil, ltrim, largs, isL, takev, dropv, nthv, pushO, catv, gd, true_and, and_true, Option.some.injEq, Prod.mk.injEq, exists_eq_left', if_true, if_false, reduceCtorEq, Bool.false_eq_true, lcmp_ge, lcmp_lt, lcmp_le, lcmp_gt, lcmp_eq, true_or, or_true, not_true_eq_false, not_false_eq_true, false_implies, true_implies, List.length_cons, List.length_nil]
        refine ⟨fun q3 => six' _ ?_, fun q3 => four ?_⟩
        · rw [e0, if_pos]
          refine Classical.byContradiction fun c => ?_
          have := ((g2 k hlt).mp c).2 s hs
          omega
        · refine (g2 k hlt).mpr ⟨h0, fun s' hs' => ?_⟩
          rw [hs] at hs'
          have := Option.some.inj hs'
          subst this
          omega
  have main : ∀ (m : Nat) (l : List Nat) (D1 : Dat), l.length + m = pcnt φ 455 → cytO D D1 C → ldsT c g φ l → (∀ u, u < 455 → (remT φ l u ≠ 0 ↔ φ u ≠ 0 ∧ (∀ s, l.getLast? = some s → rankI c g u s < 0))) → (∀ s, l.getLast? = some s → s < 455) → txD 36 D1 C (C + 723) (if pcnt φ 455 = 0 then [48] else lsT φ l true) → (lsT φ l true).length ≤ 300 * l.length → Wp P_X0_sayPoly E 2 [some (aR C), some (aR p), some (aR ob), some (aI (lasI l)), some (aI (l.length : Int))] [] B S D1 := by
    intro m
    induction m with
    | zero =>
      intro l D1 hl f1 g1 g2 g3 t1 g4
      have e1 : D1 p 1 = pcnt φ 455 := (hP f1).2
      refine wp_in ?_
      simp only [P_X0_sayPoly, i_kil, i_icon, i_lcon, i_null, i_loadI, i_loadL, i_loadR, i_istore, i_lstore, i_astore, i_iinc, i_dup, i_dup2, i_pop, i_iadd, i_isub, i_imul, i_idiv, i_irem, i_ineg, i_iand, i_ior, i_ishl, i_ishr, i_lxor, i_ladd, i_lsub, i_lmul, i_ldiv, i_lrem, i_lneg, i_lshl, i_lcmp, i_i2l, i_l2i, i_i2b, i_i2s, i_ifeq, i_ifne, i_iflt, i_ifge, i_ifgt, i_ifle, i_cmpeq, i_cmpne, i_cmplt, i_cmpge, i_cmpgt, i_cmple, i_acmpeq, i_acmpne, i_ifnull, i_ifnonnull, i_getI, i_getR, i_putI, i_putZ, i_putR, i_ald, i_ldL, i_ldR, i_ast, i_stL, i_stR, i_alen, i_new, i_newa, i_iret, i_zret, i_lret, i_aret, i_vret, i_raise, i_throw, i_recv, i_objinit, i_tsw3, lget, lset, lput1, lput2, lkil, ltrim, largs, isL, takev, dropv, nthv, pushO, catv, gd, true_and, and_true, Option.some.injEq, Prod.mk.injEq, exists_eq_left', if_true, if_false, reduceCtorEq, Bool.false_eq_true, lcmp_ge, lcmp_lt, lcmp_le, lcmp_gt, lcmp_eq, true_or, or_true, not_true_eq_false, not_false_eq_true, false_implies, true_implies, List.length_cons, List.length_nil, p1, e1]
      refine ⟨fun _ => ?_, fun q => by omega⟩
      have hp0 : pyT φ l = if pcnt φ 455 = 0 then [48] else lsT φ l true := by
        unfold pyT
        by_cases q : l = []
        · rw [if_pos q, if_pos (by rw [q] at hl; simp at hl; omega)]
        · rw [if_neg q, if_neg]
          intro w
          exact q (List.length_eq_zero_iff.mp (by omega))
      refine K D1 l f1 g1 (by omega) (by rw [hp0]; exact t1) ?_
      rw [hp0]
      split
      · simp
      · omega
    | succ m ih =>
      intro l D1 hl f1 g1 g2 g3 t1 g4
      have e1 : D1 p 1 = pcnt φ 455 := (hP f1).2
      have hcnt := g1.cnt
      obtain ⟨t0, ht0⟩ : ∃ t0, isLead c g (remT φ l) t0 := by
        rcases lead_or hoc (remT φ l) with w | w
        · have := (pcnt_z1 455).mpr w
          omega
        · exact w
      rw [if_neg (by omega)] at t1
      refine wp_in ?_
      simp only [P_X0_sayPoly, i_kil, i_icon, i_lcon, i_null, i_loadI, i_loadL, i_loadR, i_istore, i_lstore, i_astore, i_iinc, i_dup, i_dup2, i_pop, i_iadd, i_isub, i_imul, i_idiv, i_irem, i_ineg, i_iand, i_ior, i_ishl, i_ishr, i_lxor, i_ladd, i_lsub, i_lmul, i_ldiv, i_lrem, i_lneg, i_lshl, i_lcmp, i_i2l, i_l2i, i_i2b, i_i2s, i_ifeq, i_ifne, i_iflt, i_ifge, i_ifgt, i_ifle, i_cmpeq, i_cmpne, i_cmplt, i_cmpge, i_cmpgt, i_cmple, i_acmpeq, i_acmpne, i_ifnull, i_ifnonnull, i_getI, i_getR, i_putI, i_putZ, i_putR, i_ald, i_ldL, i_ldR, i_ast, i_stL, i_stR, i_alen, i_new, i_newa, i_iret, i_zret, i_lret, i_aret, i_vret, i_raise, i_throw, i_recv, i_objinit, i_tsw3, lget, lset, lput1, lput2, lkil, ltrim, largs, isL, takev, dropv, nthv, pushO, catv, gd, true_and, and_true, Option.some.injEq, Prod.mk.injEq, exists_eq_left', if_true, if_false, reduceCtorEq, Bool.false_eq_true, lcmp_ge, lcmp_lt, lcmp_le, lcmp_gt, lcmp_eq, true_or, or_true, not_true_eq_false, not_false_eq_true, false_implies, true_implies, List.length_cons, List.length_nil, p1, e1]
      refine ⟨fun q => by omega, fun _ => ?_⟩
      refine inn l D1 t0 455 0 f1 ht0 g2 g3 (by omega) ?_
      have seven : ∀ f : Int, f = (if (if l = [] then true else false) = true then 1 else 0) → Wp P_X0_sayPoly E 7 [some (aR C), some (aR p), some (aR ob), none, some (aI (l.length : Int)), some (aI (t0 : Int))] [.inl f, .inl (t0 : Int), .inr (.inr (some p)), .inr (.inr (some C))] B S D1 := fun f hf => by
        refine wp_in ?_
        simp only [P_X0_sayPoly, i_kil, i_icon, i_lcon, i_null, i_loadI, i_loadL, i_loadR, i_istore, i_lstore, i_astore, i_iinc, i_dup, i_dup2, i_pop, i_iadd, i_isub, i_imul, i_idiv, i_irem, i_ineg, i_iand, i_ior, i_ishl, i_ishr, i_lxor, i_ladd, i_lsub, i_lmul, i_ldiv, i_lrem, i_lneg, i_lshl, i_lcmp, i_i2l, i_l2i, i_i2b, i_i2s, i_ifeq, i_ifne, i_iflt, i_ifge, i_ifgt, i_ifle, i_cmpeq, i_cmpne, i_cmplt, i_cmpge, i_cmpgt, i_cmple, i_acmpeq, i_acmpne, i_ifnull, i_ifnonnull, i_getI, i_getR, i_putI, i_putZ, i_putR, i_ald, i_ldL, i_ldR, i_ast, i_stL, i_stR, i_alen, i_new, i_newa, i_iret, i_zret, i_lret, i_aret, i_vret, i_raise, i_throw, i_recv, i_objinit, i_tsw3, lget, lset, lput1, lput2, lkil, ltrim, largs, isL, takev, dropv, nthv, pushO, catv, gd, true_and, and_true, Option.some.injEq, Prod.mk.injEq, exists_eq_left', if_true, if_false, reduceCtorEq, Bool.false_eq_true, lcmp_ge, lcmp_lt, lcmp_le, lcmp_gt, lcmp_eq, true_or, or_true, not_true_eq_false, not_false_eq_true, false_implies, true_implies, List.length_cons, List.length_nil, o]
        repeat (first | refine ⟨in_small (by omega) (by omega), ?_⟩ | (show (_ → _) ∧ (_ → _); first | refine ⟨by omega, fun _ => ?_⟩ | refine ⟨fun _ => ?_, by omega⟩) | refine ⟨by omega, ?_⟩ | refine ⟨⟨_, rfl, by assumption⟩, ?_⟩ | refine ⟨okT_I _, ?_⟩ | refine call0 (gd_of rfl) ?_)
        refine sp_X0_sayTerm (φ := φ) (b := if l = [] then true else false) hS h3 h9 hp (by omega) (hP f1) (hTD f1) ht0.1 (hφ.2.1 t0 ht0.1) hf t1 (by omega) fun D2 f2 t2 l2 n2 => ?_
        simp only [P_X0_sayPoly, i_kil, i_icon, i_lcon, i_null, i_loadI, i_loadL, i_loadR, i_istore, i_lstore, i_astore, i_iinc, i_dup, i_dup2, i_pop, i_iadd, i_isub, i_imul, i_idiv, i_irem, i_ineg, i_iand, i_ior, i_ishl, i_ishr, i_lxor, i_ladd, i_lsub, i_lmul, i_ldiv, i_lrem, i_lneg, i_lshl, i_lcmp, i_i2l, i_l2i, i_i2b, i_i2s, i_ifeq, i_ifne, i_iflt, i_ifge, i_ifgt, i_ifle, i_cmpeq, i_cmpne, i_cmplt, i_cmpge, i_cmpgt, i_cmple, i_acmpeq, i_acmpne, i_ifnull, i_ifnonnull, i_getI, i_getR, i_putI, i_putZ, i_putR, i_ald, i_ldL, i_ldR, i_ast, i_stL, i_stR, i_alen, i_new, i_newa, i_iret, i_zret, i_lret, i_aret, i_vret, i_raise, i_throw, i_recv, i_objinit, i_tsw3, lget, lset, lput1, lput2, lkil, ltrim, largs, isL, takev, dropv, nthv, pushO, catv, gd, true_and, and_true, Option.some.injEq, Prod.mk.injEq, exists_eq_left', if_true, if_false, reduceCtorEq, Bool.false_eq_true, lcmp_ge, lcmp_lt, lcmp_le, lcmp_gt, lcmp_eq, true_or, or_true, not_true_eq_false, not_false_eq_true, false_implies, true_implies, List.length_cons, List.length_nil]
        repeat (first | refine ⟨in_small (by omega) (by omega), ?_⟩ | (show (_ → _) ∧ (_ → _); first | refine ⟨by omega, fun _ => ?_⟩ | refine ⟨fun _ => ?_, by omega⟩) | refine ⟨by omega, ?_⟩ | refine ⟨⟨_, rfl, by assumption⟩, ?_⟩ | refine ⟨okT_I _, ?_⟩ | refine call0 (gd_of rfl) ?_)
        rw [← lsT_snoc] at t2
        have hlen : ((l.length : Nat) : Int) + 1 = ((l ++ [t0]).length : Nat) := by simp
        have hlas : lasI (l ++ [t0]) = t0 := by unfold lasI; simp
        rw [hlen, ← hlas]
        refine ih (l ++ [t0]) D2 (by simp; omega) (fun a i a1 a2 a3 => by rw [f2 a i a1 a2 a3]; exact f1 a i a1 a2 a3) (g1.snoc ht0) (ldsT.last hoc ht0 g2) (fun s hs => ?_) (by rw [if_neg (by omega)]; exact t2) ?_
        · have : (l ++ [t0]).getLast? = some t0 := by simp
          rw [this] at hs
          have := Option.some.inj hs
          rw [← this]; exact ht0.1
        · rw [lsT_snoc, List.length_append, List.length_append, List.length_singleton]
          omega
      refine wp_in ?_
      simp only [P_X0_sayPoly, i_kil, i_icon, i_lcon, i_null, i_loadI, i_loadL, i_loadR, i_istore, i_lstore, i_astore, i_iinc, i_dup, i_dup2, i_pop, i_iadd, i_isub, i_imul, i_idiv, i_irem, i_ineg, i_iand, i_ior, i_ishl, i_ishr, i_lxor, i_ladd, i_lsub, i_lmul, i_ldiv, i_lrem, i_lneg, i_lshl, i_lcmp, i_i2l, i_l2i, i_i2b, i_i2s, i_ifeq, i_ifne, i_iflt, i_ifge, i_ifgt, i_ifle, i_cmpeq, i_cmpne, i_cmplt, i_cmpge, i_cmpgt, i_cmple, i_acmpeq, i_acmpne, i_ifnull, i_ifnonnull, i_getI, i_getR, i_putI, i_putZ, i_putR, i_ald, i_ldL, i_ldR, i_ast, i_stL, i_stR, i_alen, i_new, i_newa, i_iret, i_zret, i_lret, i_aret, i_vret, i_raise, i_throw, i_recv, i_objinit, i_tsw3, lget, lset, lput1, lput2, lkil, ltrim, largs, isL, takev, dropv, nthv, pushO, catv, gd, true_and, and_true, Option.some.injEq, Prod.mk.injEq, exists_eq_left', if_true, if_false, reduceCtorEq, Bool.false_eq_true, lcmp_ge, lcmp_lt, lcmp_le, lcmp_gt, lcmp_eq, true_or, or_true, not_true_eq_false, not_false_eq_true, false_implies, true_implies, List.length_cons, List.length_nil]
      refine ⟨fun _ => ⟨fun q => ?_, fun q => ?_⟩, fun q => by omega⟩
      · refine seven 0 ?_
        have : l ≠ [] := fun w => q (by rw [w]; rfl)
        rw [if_neg this]
        rfl
      · refine seven 1 ?_
        have : l = [] := List.length_eq_zero_iff.mp (by omega)
        rw [if_pos this]
        rfl
  have one : ∀ D1, cytO D D1 C → txD 36 D1 C (C + 723) (if pcnt φ 455 = 0 then [48] else []) → Wp P_X0_sayPoly E 1 [some (aR C), some (aR p), some (aR ob)] [] B S D1 := fun D1 f1 t1 => by
    refine wp_in ?_
    simp only [P_X0_sayPoly, i_kil, i_icon, i_lcon, i_null, i_loadI, i_loadL, i_loadR, i_istore, i_lstore, i_astore, i_iinc, i_dup, i_dup2, i_pop, i_iadd, i_isub, i_imul, i_idiv, i_irem, i_ineg, i_iand, i_ior, i_ishl, i_ishr, i_lxor, i_ladd, i_lsub, i_lmul, i_ldiv, i_lrem, i_lneg, i_lshl, i_lcmp, i_i2l, i_l2i, i_i2b, i_i2s, i_ifeq, i_ifne, i_iflt, i_ifge, i_ifgt, i_ifle, i_cmpeq, i_cmpne, i_cmplt, i_cmpge, i_cmpgt, i_cmple, i_acmpeq, i_acmpne, i_ifnull, i_ifnonnull, i_getI, i_getR, i_putI, i_putZ, i_putR, i_ald, i_ldL, i_ldR, i_ast, i_stL, i_stR, i_alen, i_new, i_newa, i_iret, i_zret, i_lret, i_aret, i_vret, i_raise, i_throw, i_recv, i_objinit, i_tsw3, lget, lset, lput1, lput2, lkil, ltrim, largs, isL, takev, dropv, nthv, pushO, catv, gd, true_and, and_true, Option.some.injEq, Prod.mk.injEq, exists_eq_left', if_true, if_false, reduceCtorEq, Bool.false_eq_true, lcmp_ge, lcmp_lt, lcmp_le, lcmp_gt, lcmp_eq, true_or, or_true, not_true_eq_false, not_false_eq_true, false_implies, true_implies, List.length_cons, List.length_nil]
    refine main (pcnt φ 455) [] D1 (by simp) f1 trivial (fun u hu => ⟨fun w => ⟨w, fun s hs => absurd hs (by simp)⟩, fun w => w.1⟩) (fun s hs => absurd hs (by simp)) ?_ (by simp [lsT])
    exact t1
  refine wp_in ?_
  simp only [P_X0_sayPoly, i_kil, i_icon, i_lcon, i_null, i_loadI, i_loadL, i_loadR, i_istore, i_lstore, i_astore, i_iinc, i_dup, i_dup2, i_pop, i_iadd, i_isub, i_imul, i_idiv, i_irem, i_ineg, i_iand, i_ior, i_ishl, i_ishr, i_lxor, i_ladd, i_lsub, i_lmul, i_ldiv, i_lrem, i_lneg, i_lshl, i_lcmp, i_i2l, i_l2i, i_i2b, i_i2s, i_ifeq, i_ifne, i_iflt, i_ifge, i_ifgt, i_ifle, i_cmpeq, i_cmpne, i_cmplt, i_cmpge, i_cmpgt, i_cmple, i_acmpeq, i_acmpne, i_ifnull, i_ifnonnull, i_getI, i_getR, i_putI, i_putZ, i_putR, i_ald, i_ldL, i_ldR, i_ast, i_stL, i_stR, i_alen, i_new, i_newa, i_iret, i_zret, i_lret, i_aret, i_vret, i_raise, i_throw, i_recv, i_objinit, i_tsw3, lget, lset, lput1, lput2, lkil, ltrim, largs, isL, takev, dropv, nthv, pushO, catv, gd, true_and, and_true, Option.some.injEq, Prod.mk.injEq, exists_eq_left', if_true, if_false, reduceCtorEq, Bool.false_eq_true, lcmp_ge, lcmp_lt, lcmp_le, lcmp_gt, lcmp_eq, true_or, or_true, not_true_eq_false, not_false_eq_true, false_implies, true_implies, List.length_cons, List.length_nil, p1, hmn, o]
  refine ⟨fun q => one D (fun _ _ _ _ _ => rfl) (by rw [if_neg (by omega)]; exact h), fun q => ?_⟩
  repeat (first | refine ⟨in_small (by omega) (by omega), ?_⟩ | (show (_ → _) ∧ (_ → _); first | refine ⟨by omega, fun _ => ?_⟩ | refine ⟨fun _ => ?_, by omega⟩) | refine ⟨by omega, ?_⟩ | refine ⟨⟨_, rfl, by assumption⟩, ?_⟩ | refine ⟨okT_I _, ?_⟩ | refine call0 (gd_of rfl) ?_)
  refine sp_X0_say hS h (by simp) (by decide) (by decide) fun D2 f2 t2 => ?_
  simp only [P_X0_sayPoly, i_kil, i_icon, i_lcon, i_null, i_loadI, i_loadL, i_loadR, i_istore, i_lstore, i_astore, i_iinc, i_dup, i_dup2, i_pop, i_iadd, i_isub, i_imul, i_idiv, i_irem, i_ineg, i_iand, i_ior, i_ishl, i_ishr, i_lxor, i_ladd, i_lsub, i_lmul, i_ldiv, i_lrem, i_lneg, i_lshl, i_lcmp, i_i2l, i_l2i, i_i2b, i_i2s, i_ifeq, i_ifne, i_iflt, i_ifge, i_ifgt, i_ifle, i_cmpeq, i_cmpne, i_cmplt, i_cmpge, i_cmpgt, i_cmple, i_acmpeq, i_acmpne, i_ifnull, i_ifnonnull, i_getI, i_getR, i_putI, i_putZ, i_putR, i_ald, i_ldL, i_ldR, i_ast, i_stL, i_stR, i_alen, i_new, i_newa, i_iret, i_zret, i_lret, i_aret, i_vret, i_raise, i_throw, i_recv, i_objinit, i_tsw3, lget, lset, lput1, lput2, lkil, ltrim, largs, isL, takev, dropv, nthv, pushO, catv, gd, true_and, and_true, Option.some.injEq, Prod.mk.injEq, exists_eq_left', if_true, if_false, reduceCtorEq, Bool.false_eq_true, lcmp_ge, lcmp_lt, lcmp_le, lcmp_gt, lcmp_eq, true_or, or_true, not_true_eq_false, not_false_eq_true, false_implies, true_implies, List.length_cons, List.length_nil]
  exact one D2 (fun a i a1 a2 a3 => f2 a i a1 a2) (by rw [if_pos (by omega)]; exact t2)
end CSP
