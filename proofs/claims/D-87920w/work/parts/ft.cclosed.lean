/-! the component's calls: closed -/
-- needs: fs.clead
set_option maxRecDepth 100000
set_option linter.unusedVariables false
section CCL
variable {S S' : Stat} {D D' : Dat} {C mn w N : Nat} {s : Cst} {lz : Nat → Option Nat} {own : Nat → Nat}
/-- a minimal one is written -/
theorem coJ.mini {i a : Nat} (h : coJ S D C s lz own mn w) (hW : crW N s) (hi : 32 ≤ i) (hl : lz i = some a) (e : ∀ c j, ¬ wK C c → c ≠ a → c ≠ a + 1 → D' c j = D c j) (hp : ∃ φ, pP D' a φ) (hm : ∃ φ, pP D' (C + 705) φ) : coJ S D' C s lz own mn w ∧ cFr S D S D' C := by
  have hz := h.lzz.2 i a hl
  have h2 : lsz i = 2 := if_neg (by omega)
  let Dm : Dat := fun c j => if c = a ∨ c = a + 1 then D' c j else D c j
  have hm1 : ∀ c j, c = a ∨ c = a + 1 → Dm c j = D' c j := fun c j q => if_pos q
  have hm2 : ∀ c j, c ≠ a → c ≠ a + 1 → Dm c j = D c j := fun c j q1 q2 => if_neg (by omega)
  have j1 : coJ S Dm C s lz own mn w := h.chLz (t := sTh s) ⟨hW.2.2.1.1, hW.2.2.2.2.1.1⟩ hl (fun c j q => hm2 c j (by omega) (by omega)) (fun _ _ _ _ => rfl) (fun _ _ => rfl) (fun p hp q => absurd q (by omega)) (fun _ => by
    obtain ⟨φ, hφ⟩ := hp
    exact ⟨φ, hφ.cgr fun c j hc => hm1 c j hc⟩)
  obtain ⟨j2, F⟩ := j1.wk hW (D' := D') (fun c j q => by
    by_cases q2 : c = a ∨ c = a + 1
    · exact (hm1 c j q2).symm
    · rw [e c j q (by omega) (by omega), hm2 c j (by omega) (by omega)]) hm
  exact ⟨j2, ⟨Nat.le_refl _, fun _ _ => rfl, fun c j c1 c2 => ⟨rfl, e c j (by unfold wK; omega) (by omega) (by omega)⟩⟩⟩
theorem clB_start {c g n i : Nat} {ψ : Nat → Nat → Rat} {l : Nat → Nat} (h : clB c g n ψ l i 0) : clB c g n ψ l i (i + 1) := ⟨h.1, fun b h1 h2 => by omega⟩
theorem clB_step {c g n i j : Nat} {ψ : Nat → Nat → Rat} {l : Nat → Nat} (h : clB c g n ψ l i j) (k : clP c g n ψ l i j 1) : clB c g n ψ l i (j + 1) := ⟨h.1, fun b h1 h2 => by
  by_cases q : b = j
  · subst q; exact k
  · exact h.2 b h1 (by omega)⟩
theorem clB_end {c g n i : Nat} {ψ : Nat → Nat → Rat} {l : Nat → Nat} (h : clB c g n ψ l i n) : clB c g n ψ l (i + 1) 0 := ⟨fun a b h1 h2 h3 => by
  by_cases q : a = i
  · subst q; exact h.2 b h2 h3
  · exact h.1 a b (by omega) h2 h3, fun b h1 h2 => by omega⟩
/-- the minimal ones below k, one more -/
theorem isMinL.up {st : spst} {σ : Nat → Nat} {k n : Nat} {μ : Nat → Nat} (h : isMinL st σ k n μ) (hk : spMin st σ k) : isMinL st σ (k + 1) (n + 1) (fun i => if i = n then k else μ i) := by
  obtain ⟨h1, h2, h3⟩ := h
  refine ⟨fun i hi => ?_, fun i j hij hj => ?_, fun z hz hz2 => ?_⟩
  · show (if i = n then k else μ i) < k + 1 ∧ spMin st σ (if i = n then k else μ i)
    by_cases q : i = n
    · rw [if_pos q]; exact ⟨by omega, hk⟩
    · rw [if_neg q]; exact ⟨by have := (h1 i (by omega)).1; omega, (h1 i (by omega)).2⟩
  · show (if i = n then k else μ i) < (if j = n then k else μ j)
    rw [if_neg (by omega)]
    by_cases q : j = n
    · rw [if_pos q]; exact (h1 i (by omega)).1
    · rw [if_neg q]; exact h2 i j hij (by omega)
  · by_cases q : z = k
    · exact ⟨n, by omega, by rw [q]; exact if_pos rfl⟩
    · obtain ⟨i, i1, i2⟩ := h3 z (by omega) hz2
      exact ⟨i, by omega, by show (if i = n then k else μ i) = z; rw [if_neg (by omega)]; exact i2⟩
theorem isMinL.skip {st : spst} {σ : Nat → Nat} {k n : Nat} {μ : Nat → Nat} (h : isMinL st σ k n μ) (hk : ¬ spMin st σ k) : isMinL st σ (k + 1) n μ := by
  obtain ⟨h1, h2, h3⟩ := h
  refine ⟨fun i hi => ⟨by have := (h1 i hi).1; omega, (h1 i hi).2⟩, h2, fun z hz hz2 => h3 z ?_ hz2⟩
  by_cases q : z = k
  · rw [q] at hz2; exact absurd hz2 hk
  · omega
set_option maxHeartbeats 8000000 in
theorem co_closed {E : Ex} {B : Nat × Nat} {r : Nat} (h : coJ S D C s lz own mn w) (hW : crW N s) (hN : N < 1000) (hr : (sSp s = none ∧ r = 0) ∨ ∃ o m st σ, sSp s = some (o, m, st, σ) ∧ isCnt (spMin st σ) st.1 r) (hB : 1000 + 2 * (r - mn) ≤ B.1 ∧ 80000 + 13652 * (r - mn) ≤ B.2) (K : cK E S D C (max mn r) (oClosed s)) : Wp P_X0_closed E 0 [some (aR C)] [] B S D := by
  have o := h.fx.o
  have hf := h.fx.fl
  obtain ⟨q1, q2⟩ := h.fx.Q
  obtain ⟨s1, s2, s3⟩ := h.sp
  have q7 := q2.1
  have hmn := h.mv.2.2.2.2.2.2.1.1
  have hw1 := h.mv.1
  have err : ∀ (kk : Nat) (B' : Nat × Nat) (S1 : Stat) (D1 : Dat) (lz1 : Nat → Option Nat) (own1 : Nat → Nat), 1 ≤ kk ∧ kk ≤ 7 → coJ S1 D1 C s lz1 own1 (max mn r) w → cFr S D S1 D1 C → oClosed s (uFn s kk) (-(kk : Int)) → Wp P_X0_closed E 6 [some (aR C)] [.inr (.inr (some (C + 727 + kk)))] B' S1 D1 := fun kk B' S1 D1 lz1 own1 e1 e2 e3 e4 => by
    have o := e2.fx.o
    refine wp_in ?_
    simp only [P_X0_closed, i_kil, i_icon, i_lcon, i_null, i_loadI, i_loadL, i_loadR, i_istore, i_lstore, i_astore, i_iinc, i_dup, i_dup2, i_pop, i_iadd, i_isub, i_imul, i_idiv, i_irem, i_ineg, i_iand, i_ior, i_ishl, i_ishr, i_lxor, i_ladd, i_lsub, i_lmul, i_ldiv, i_lrem, i_lneg, i_lshl, i_lcmp, i_i2l, i_l2i, i_i2b, i_i2s, i_ifeq, i_ifne, i_iflt, i_ifge, i_ifgt, i_ifle, i_cmpeq, i_cmpne, i_cmplt, i_cmpge, i_cmpgt, i_cmple, i_acmpeq, i_acmpne, i_ifnull, i_ifnonnull, i_getI, i_getR, i_putI, i_putZ, i_putR, i_ald, i_ldL, i_ldR, i_ast, i_stL, i_stR, i_alen, i_new, i_newa, i_iret, i_zret, i_lret, i_aret, i_vret, i_raise, i_throw, i_recv, i_objinit, i_tsw3, lget, lset, lput1, lput2, lkil, ltrim, largs, isL, takev, dropv, nthv, pushO, catv, gd, true_and, and_true, Option.some.injEq, Prod.mk.injEq, exists_eq_left', if_true, if_false, reduceCtorEq, Bool.false_eq_true, lcmp_ge, lcmp_lt, lcmp_le, lcmp_gt, lcmp_eq, true_or, or_true, not_true_eq_false, not_false_eq_true, false_implies, true_implies, List.length_cons, List.length_nil, o]
    repeat (first | refine ⟨in_small (by omega) (by omega), ?_⟩ | (show (_ → _) ∧ (_ → _); first | refine ⟨by omega, fun _ => ?_⟩ | refine ⟨fun _ => ?_, by omega⟩) | refine ⟨by omega, ?_⟩ | refine ⟨⟨_, rfl, by assumption⟩, ?_⟩ | refine ⟨okT_I _, ?_⟩ | refine call0 (gd_of rfl) ?_)
    refine co_fin e2 hW hN e1 fun D2 e5 e6 => ?_
    simp only [P_X0_closed, i_kil, i_icon, i_lcon, i_null, i_loadI, i_loadL, i_loadR, i_istore, i_lstore, i_astore, i_iinc, i_dup, i_dup2, i_pop, i_iadd, i_isub, i_imul, i_idiv, i_irem, i_ineg, i_iand, i_ior, i_ishl, i_ishr, i_lxor, i_ladd, i_lsub, i_lmul, i_ldiv, i_lrem, i_lneg, i_lshl, i_lcmp, i_i2l, i_l2i, i_i2b, i_i2s, i_ifeq, i_ifne, i_iflt, i_ifge, i_ifgt, i_ifle, i_cmpeq, i_cmpne, i_cmplt, i_cmpge, i_cmpgt, i_cmple, i_acmpeq, i_acmpne, i_ifnull, i_ifnonnull, i_getI, i_getR, i_putI, i_putZ, i_putR, i_ald, i_ldL, i_ldR, i_ast, i_stL, i_stR, i_alen, i_new, i_newa, i_iret, i_zret, i_lret, i_aret, i_vret, i_raise, i_throw, i_recv, i_objinit, i_tsw3, lget, lset, lput1, lput2, lkil, ltrim, largs, isL, takev, dropv, nthv, pushO, catv, gd, true_and, and_true, Option.some.injEq, Prod.mk.injEq, exists_eq_left', if_true, if_false, reduceCtorEq, Bool.false_eq_true, lcmp_ge, lcmp_lt, lcmp_le, lcmp_gt, lcmp_eq, true_or, or_true, not_true_eq_false, not_false_eq_true, false_implies, true_implies, List.length_cons, List.length_nil]
    exact K _ _ _ _ _ e4 ⟨lz1, own1, w, e5⟩ (e3.tr e6)
  refine wp_in ?_
  simp only [P_X0_closed, i_kil, i_icon, i_lcon, i_null, i_loadI, i_loadL, i_loadR, i_istore, i_lstore, i_astore, i_iinc, i_dup, i_dup2, i_pop, i_iadd, i_isub, i_imul, i_idiv, i_irem, i_ineg, i_iand, i_ior, i_ishl, i_ishr, i_lxor, i_ladd, i_lsub, i_lmul, i_ldiv, i_lrem, i_lneg, i_lshl, i_lcmp, i_i2l, i_l2i, i_i2b, i_i2s, i_ifeq, i_ifne, i_iflt, i_ifge, i_ifgt, i_ifle, i_cmpeq, i_cmpne, i_cmplt, i_cmpge, i_cmpgt, i_cmple, i_acmpeq, i_acmpne, i_ifnull, i_ifnonnull, i_getI, i_getR, i_putI, i_putZ, i_putR, i_ald, i_ldL, i_ldR, i_ast, i_stL, i_stR, i_alen, i_new, i_newa, i_iret, i_zret, i_lret, i_aret, i_vret, i_raise, i_throw, i_recv, i_objinit, i_tsw3, lget, lset, lput1, lput2, lkil, ltrim, largs, isL, takev, dropv, nthv, pushO, catv, gd, true_and, and_true, Option.some.injEq, Prod.mk.injEq, exists_eq_left', if_true, if_false, reduceCtorEq, Bool.false_eq_true, lcmp_ge, lcmp_lt, lcmp_le, lcmp_gt, lcmp_eq, true_or, or_true, not_true_eq_false, not_false_eq_true, false_implies, true_implies, List.length_cons, List.length_nil, o]
  repeat (first | refine ⟨in_small (by omega) (by omega), ?_⟩ | (show (_ → _) ∧ (_ → _); first | refine ⟨by omega, fun _ => ?_⟩ | refine ⟨fun _ => ?_, by omega⟩) | refine ⟨by omega, ?_⟩ | refine ⟨⟨_, rfl, by assumption⟩, ?_⟩ | refine ⟨okT_I _, ?_⟩ | refine call0 (gd_of rfl) ?_)
  refine spanned_at hf q1 q7 (fun hne => ?_) fun he => ?_
  · obtain ⟨⟨⟨c, g, d⟩, m, st, σ⟩, hx⟩ : ∃ x, sSp s = some x := by
      rcases hs : sSp s with _ | x
      · exact absurd (s2 hs) hne
      · exact ⟨x, rfl⟩
    have hcr : isCnt (spMin st σ) st.1 r := by
      rcases hr with ⟨hr, -⟩ | ⟨o', m', st', σ', hr, hr2⟩
      · rw [hx] at hr; exact nomatch hr
      · rw [hx] at hr
        have hh := Option.some.inj hr
        have e5 : st = st' := congrArg (fun z : Spn => z.2.2.1) hh
        have e6 : σ = σ' := congrArg (fun z : Spn => z.2.2.2) hh
        rw [e5, e6]; exact hr2
    obtain ⟨n1, n2, n3, n4, n5, n6⟩ := hW.2.2.2.2.2.2.1 _ hx
    have hoc : ordOK c g := n1
    have hLC : spLC c g st := spLC.of hoc _ _ n5
    have hso : spSo c g st σ := n6
    have go : ∀ {S1 : Stat} {D1 : Dat} {lz1 : Nat → Option Nat} {own1 : Nat → Nat} {mn1 w1 : Nat}, coJ S1 D1 C s lz1 own1 mn1 w1 → D1 (C + 65) 15 = st.1 ∧ st.1 ≤ 35 ∧ (∃ tc, sqE D1 (C + 65) c g tc st σ) := fun j => by
      obtain ⟨u1, u2, tc, hE⟩ := j.sp.2.2 c g d m st σ hx
      obtain ⟨h15, h35⟩ := hE.rows
      exact ⟨h15, h35, ⟨tc, hE⟩⟩
    obtain ⟨-, -, tc0, hE0⟩ := go h
    have hlt : ∀ k, k < st.1 → spLd st σ k < 455 ∧ tdg (spLd st σ k) ≤ 4 := fun k hk => spLd_lt hE0.1 hso hk
    have hdg : ∀ k, k < st.1 → ∀ t, t < 455 → spEl st σ k t ≠ 0 → tdg t ≤ 4 := fun k hk t ht h0 => by
      refine Nat.le_of_not_lt fun z => h0 ?_
      unfold spEl
      rw [if_pos ht]
      exact (hE0.1.2.2 _ (hso.1 k hk)).2 t ht z
    have hr15 : r ≤ 15 := by
      obtain ⟨f, f', f1, f2, f3⟩ := isCnt.list _ _ hcr
      refine anti15 (l := fun i => spLd st σ (f i)) (fun i hi => (hlt _ (f1 i hi).1).2) fun i j hi hj hij => ?_
      have hne : f i ≠ f j := by
        rcases Nat.lt_or_gt_of_ne hij with q | q
        · have := f2 i j q hj; omega
        · have := f2 j i q hi; omega
      exact (f1 j hj).2 (f i) (f1 i hi).1 hne
    have clF : ∀ (μ : Nat → Nat) (v : Int), isMinL st σ st.1 r μ → clR c g r (fun i => spEl st σ (μ i)) (fun i => spLd st σ (μ i)) v → ∀ (s' : Cst) (v' : Int), ((v = -6 ∧ fR 6 s s' v') ∨ (v ≠ -6 ∧ s' = s ∧ v' = v)) → oClosed s s' v' := fun μ v h1 h2 s' v' h3 => .inr ⟨c, g, d, m, st, σ, hx, r, μ, v, h1, h2, h3⟩
    have lp4 : ∀ (μ : Nat → Nat) (lz1 : Nat → Option Nat) (own1 : Nat → Nat), isMinL st σ st.1 r μ → ∀ (L i : Nat) (B1 : Nat × Nat) (S1 : Stat) (D1 : Dat), i + L = r → coJ S1 D1 C s lz1 own1 (max mn r) w → cFr S D S1 D1 C → (∀ i, i < r → ∃ a, lz1 (32 + i) = some a ∧ pP D1 a (spEl st σ (μ i))) → clB c g r (fun i => spEl st σ (μ i)) (fun i => spLd st σ (μ i)) i 0 → Wp P_X0_closed E 4 [some (aR C), some (aI (r : Int)), some (aI (i : Int))] [] B1 S1 D1 := by
      intro μ lz1 own1 hμ L
      induction L with
      | zero =>
        intro i B1 S1 D1 hi j1 f1 hp hb
        have : i = r := by omega
        subst this
        refine wp_in ?_
        simp only [P_X0_closed, i_kil, i_icon, i_lcon, i_null, i_loadI, i_loadL, i_loadR, i_istore, i_lstore, i_astore, i_iinc, i_dup, i_dup2, i_pop, i_iadd, i_isub, i_imul, i_idiv, i_irem, i_ineg, i_iand, i_ior, i_ishl, i_ishr, i_lxor, i_ladd, i_lsub, i_lmul, i_ldiv, i_lrem, i_lneg, i_lshl, i_lcmp, i_i2l, i_l2i, i_i2b, i_i2s, i_ifeq, i_ifne, i_iflt, i_ifge, i_ifgt, i_ifle, i_cmpeq, i_cmpne, i_cmplt, i_cmpge, i_cmpgt, i_cmple, i_acmpeq, i_acmpne, i_ifnull, i_ifnonnull, i_getI, i_getR, i_putI, i_putZ, i_putR, i_ald, i_ldL, i_ldR, i_ast, i_stL, i_stR, i_alen, i_new, i_newa, i_iret, i_zret, i_lret, i_aret, i_vret, i_raise, i_throw, i_recv, i_objinit, i_tsw3, lget, lset, lput1, lput2, lkil, ltrim, largs, isL, takev, dropv, nthv, pushO, catv, gd, true_and, and_true, Option.some.injEq, Prod.mk.injEq, exists_eq_left', if_true, if_false, reduceCtorEq, Bool.false_eq_true, lcmp_ge, lcmp_lt, lcmp_le, lcmp_gt, lcmp_eq, true_or, or_true, not_true_eq_false, not_false_eq_true, false_implies, true_implies, List.length_cons, List.length_nil]
        refine ⟨fun _ => ?_, fun q => by omega⟩
        exact K _ _ _ _ _ (clF μ 1 hμ (.inl ⟨rfl, hb⟩) s 1 (.inr ⟨by decide, rfl, rfl⟩)) ⟨lz1, own1, w, j1⟩ f1
      | succ L ih =>
        intro i B1 S1 D1 hi j1 f1 hp hb
        have inn : ∀ (M j : Nat) (B1 : Nat × Nat) (S1 : Stat) (D1 : Dat), j + M = r → i < j → coJ S1 D1 C s lz1 own1 (max mn r) w → cFr S D S1 D1 C → (∀ i, i < r → ∃ a, lz1 (32 + i) = some a ∧ pP D1 a (spEl st σ (μ i))) → clB c g r (fun i => spEl st σ (μ i)) (fun i => spLd st σ (μ i)) i j → Wp P_X0_closed E 5 [some (aR C), some (aI (r : Int)), some (aI (i : Int)), some (aI (j : Int))] [] B1 S1 D1 := by
          intro M
          induction M with
          | zero =>
            intro j B1 S1 D1 hj hij j1 f1 hp hb
            have : j = r := by omega
            subst this
            refine wp_in ?_
            simp only [P_X0_closed, i_kil, i_icon, i_lcon, i_null, i_loadI, i_loadL, i_loadR, i_istore, i_lstore, i_astore, i_iinc, i_dup, i_dup2, i_pop, i_iadd, i_isub, i_imul, i_idiv, i_irem, i_ineg, i_iand, i_ior, i_ishl, i_ishr, i_lxor, i_ladd, i_lsub, i_lmul, i_ldiv, i_lrem, i_lneg, i_lshl, i_lcmp, i_i2l, i_l2i, i_i2b, i_i2s, i_ifeq, i_ifne, i_iflt, i_ifge, i_ifgt, i_ifle, i_cmpeq, i_cmpne, i_cmplt, i_cmpge, i_cmpgt, i_cmple, i_acmpeq, i_acmpne, i_ifnull, i_ifnonnull, i_getI, i_getR, i_putI, i_putZ, i_putR, i_ald, i_ldL, i_ldR, i_ast, i_stL, i_stR, i_alen, i_new, i_newa, i_iret, i_zret, i_lret, i_aret, i_vret, i_raise, i_throw, i_recv, i_objinit, i_tsw3, lget, lset, lput1, lput2, lkil, ltrim, largs, isL, takev, dropv, nthv, pushO, catv, gd, true_and, and_true, Option.some.injEq, Prod.mk.injEq, exists_eq_left', if_true, if_false, reduceCtorEq, Bool.false_eq_true, lcmp_ge, lcmp_lt, lcmp_le, lcmp_gt, lcmp_eq, true_or, or_true, not_true_eq_false, not_false_eq_true, false_implies, true_implies, List.length_cons, List.length_nil]
            refine ⟨fun _ => ?_, fun q => by omega⟩
            repeat (first | refine ⟨in_small (by omega) (by omega), ?_⟩ | (show (_ → _) ∧ (_ → _); first | refine ⟨by omega, fun _ => ?_⟩ | refine ⟨fun _ => ?_, by omega⟩) | refine ⟨by omega, ?_⟩ | refine ⟨⟨_, rfl, by assumption⟩, ?_⟩ | refine ⟨okT_I _, ?_⟩ | refine call0 (gd_of rfl) ?_)
            exact ih (i + 1) B1 S1 D1 (by omega) j1 f1 hp (clB_end hb)
          | succ M ih2 =>
            intro j B1 S1 D1 hj hij j1 f1 hp hb
            obtain ⟨a, ha, hPa⟩ := hp i (by omega)
            obtain ⟨b, hb', hPb⟩ := hp j (by omega)
            have o1 := j1.fx.o
            have hf1 := j1.fx.fl
            obtain ⟨x29, x15⟩ := j1.fx.mn
            obtain ⟨V1, V2⟩ := j1.fx.V
            obtain ⟨Q1, Q2⟩ := j1.fx.Q
            obtain ⟨T1, T2⟩ := j1.fx.T
            obtain ⟨R1, R2⟩ := j1.fx.R
            have V3 := V2.1
            have Q3 := Q2.1
            have hC1 := j1.lzz.1
            obtain ⟨hw1', m23, m24, m26, m27, m5, ⟨m6, m6'⟩, m7⟩ := id j1.mv
            have h18 := m7 c g d m st σ hx
            have eA : S1.2.1 (C + 715) (i : Int) = some a := by rw [(m6' i (by omega)).1]; exact ha
            have eB : S1.2.1 (C + 715) (j : Int) = some b := by rw [(m6' j (by omega)).1]; exact hb'
            have za := j1.lzz.2 (32 + i) a ha
            have zb := j1.lzz.2 (32 + j) b hb'
            have pSa := za.2.2.2.2.2 (Or.inr (by omega))
            have pSb := zb.2.2.2.2.2 (Or.inr (by omega))
            have hin := ordA_in c g
            have hμi := (hμ.1 i (by omega)).1
            have hμj := (hμ.1 j (by omega)).1
            obtain ⟨χ0, hχ0⟩ := j1.sc.2.1
            have keepL : ∀ (D2 : Dat) (χ : Nat → Rat), (∀ c i, ¬ wL C c → D2 c i = D1 c i) → pP D2 (C + 34) χ → coJ S1 D2 C s lz1 own1 (max mn r) w ∧ cFr S1 D1 S1 D2 C := fun D2 χ g1 g2 => by
              refine ⟨j1.keep hW cSr.rfl (fun c i q => g1 c i (by have := qK.bd hw1 q; unfold wL; omega)) (j1.sc.next hw1 (fun c i q => g1 c i (by unfold wL; rcases q with q | q | q | q | ⟨j, q1, q2⟩ <;> omega)) ⟨χ, g2⟩ ?_ fun k hk => ?_), cSr.rfl.fr hC1 fun c i c1 c2 => g1 c i (by unfold wL; omega)⟩
              · obtain ⟨φ', hφ'⟩ := j1.nextS.2.2.1
                exact ⟨φ', hφ'.cgr fun c i hc => g1 c i (by unfold wL; omega)⟩
              · obtain ⟨φ', hφ'⟩ := j1.nextS.2.2.2 k hk
                exact ⟨φ', hφ'.cgr fun c i hc => g1 c i (by unfold wL; omega)⟩
            have bad : ∀ (B' : Nat × Nat) (S2 : Stat) (D2 : Dat), coJ S2 D2 C s lz1 own1 (max mn r) w → cFr S D S2 D2 C → clP c g r (fun i => spEl st σ (μ i)) (fun i => spLd st σ (μ i)) i j (-6) → Wp P_X0_closed E 6 [some (aR C)] [.inr (.inr (some (C + 727 + 6)))] B' S2 D2 := fun B' S2 D2 e1 e2 e3 => err 6 _ _ _ _ _ (by decide) e1 e2 (clF μ (-6) hμ (.inr ⟨i, j, hij, by omega, hb, e3, by decide⟩) _ _ (.inl ⟨rfl, rfl, rfl⟩))
            refine wp_in ?_
            simp only [P_X0_closed, i_kil, i_icon, i_lcon, i_null, i_loadI, i_loadL, i_loadR, i_istore, i_lstore, i_astore, i_iinc, i_dup, i_dup2, i_pop, i_iadd, i_isub, i_imul, i_idiv, i_irem, i_ineg, i_iand, i_ior, i_ishl, i_ishr, i_lxor, i_ladd, i_lsub, i_lmul, i_ldiv, i_lrem, i_lneg, i_lshl, i_lcmp, i_i2l, i_l2i, i_i2b, i_i2s, i_ifeq, i_ifne, i_iflt, i_ifge, i_ifgt, i_ifle, i_cmpeq, i_cmpne, i_cmplt, i_cmpge, i_cmpgt, i_cmple, i_acmpeq, i_acmpne, i_ifnull, i_ifnonnull, i_getI, i_getR, i_putI, i_putZ, i_putR, i_ald, i_ldL, i_ldR, i_ast, i_stL, i_stR, i_alen, i_new, i_newa, i_iret, i_zret, i_lret, i_aret, i_vret, i_raise, i_throw, i_recv, i_objinit, i_tsw3, lget, lset, lput1, lput2, lkil, ltrim, largs, isL, takev, dropv, nthv, pushO, catv, gd, true_and, and_true, Option.some.injEq, Prod.mk.injEq, exists_eq_left', if_true, if_false, reduceCtorEq, Bool.false_eq_true, lcmp_ge, lcmp_lt, lcmp_le, lcmp_gt, lcmp_eq, true_or, or_true, not_true_eq_false, not_false_eq_true, false_implies, true_implies, List.length_cons, List.length_nil, o1, x29, x15]
            refine ⟨fun q => by omega, fun _ => ?_⟩
            repeat (first | refine ⟨in_small (by omega) (by omega), ?_⟩ | (show (_ → _) ∧ (_ → _); first | refine ⟨by omega, fun _ => ?_⟩ | refine ⟨fun _ => ?_, by omega⟩) | refine ⟨by omega, ?_⟩ | refine ⟨⟨_, rfl, by assumption⟩, ?_⟩ | refine ⟨okT_I _, ?_⟩ | refine call0 (gd_of rfl) ?_)
            rw [eA, eB]
            refine sp_X0_differ j1.fx j1.cx.2.1 h18 (j1.ordO hoc) pSa pSb (by omega) (by omega) (by omega) hPa hPb hχ0 (hLC.el (hso.1 _ hμi)) (hLC.el (hso.1 _ hμj)) (hdg _ hμi) (hdg _ hμj) (fun D2 g1 g2 g3 => ?_) fun D2 χ' g1 g2 g3 => ?_
            · obtain ⟨j2, F2⟩ := keepL D2 _ g1 g2
              obtain ⟨n1', ⟨n2', n3'⟩, ⟨ρ0, hρ0⟩, n5'⟩ := j2.nextS
              have hap : ∀ k, k < r → S1.2.1 (C + 715) (k : Int) = some ((lz1 (32 + k)).getD 0) ∧ pS S1 ((lz1 (32 + k)).getD 0) ∧ C + 28386 ≤ (lz1 (32 + k)).getD 0 ∧ pP D2 ((lz1 (32 + k)).getD 0) (spEl st σ (μ k)) := fun k hk => by
                obtain ⟨e, he, hPe⟩ := hp k hk
                have ze := j1.lzz.2 (32 + k) e he
                rw [he]
                exact ⟨by rw [(m6' k (by omega)).1]; exact he, ze.2.2.2.2.2 (Or.inr (by omega)), ze.2.1, hPe.cgr fun c i hc => g1 c i (by
                  have := ze.2.1
                  have : c = e ∨ c = e + 1 := hc
                  unfold wL; omega)⟩
              simp only [P_X0_closed, i_kil, i_icon, i_lcon, i_null, i_loadI, i_loadL, i_loadR, i_istore, i_lstore, i_astore, i_iinc, i_dup, i_dup2, i_pop, i_iadd, i_isub, i_imul, i_idiv, i_irem, i_ineg, i_iand, i_ior, i_ishl, i_ishr, i_lxor, i_ladd, i_lsub, i_lmul, i_ldiv, i_lrem, i_lneg, i_lshl, i_lcmp, i_i2l, i_l2i, i_i2b, i_i2s, i_ifeq, i_ifne, i_iflt, i_ifge, i_ifgt, i_ifle, i_cmpeq, i_cmpne, i_cmplt, i_cmpge, i_cmpgt, i_cmple, i_acmpeq, i_acmpne, i_ifnull, i_ifnonnull, i_getI, i_getR, i_putI, i_putZ, i_putR, i_ald, i_ldL, i_ldR, i_ast, i_stL, i_stR, i_alen, i_new, i_newa, i_iret, i_zret, i_lret, i_aret, i_vret, i_raise, i_throw, i_recv, i_objinit, i_tsw3, lget, lset, lput1, lput2, lkil, ltrim, largs, isL, takev, dropv, nthv, pushO, catv, gd, true_and, and_true, Option.some.injEq, Prod.mk.injEq, exists_eq_left', if_true, if_false, reduceCtorEq, Bool.false_eq_true, lcmp_ge, lcmp_lt, lcmp_le, lcmp_gt, lcmp_eq, true_or, or_true, not_true_eq_false, not_false_eq_true, false_implies, true_implies, List.length_cons, List.length_nil, o1, x29, V1, V3, Q1, Q3, h18, m27]
              repeat (first | refine ⟨in_small (by omega) (by omega), ?_⟩ | (show (_ → _) ∧ (_ → _); first | refine ⟨by omega, fun _ => ?_⟩ | refine ⟨fun _ => ?_, by omega⟩) | refine ⟨by omega, ?_⟩ | refine ⟨⟨_, rfl, by assumption⟩, ?_⟩ | refine ⟨okT_I _, ?_⟩ | refine call0 (gd_of rfl) ?_)
              have hLk : ∀ k, k < r → ((lz1 (32 + k)).getD 0 + 1 < C + 3 ∨ C + 33 + 31 < (lz1 (32 + k)).getD 0) ∧ (C + 713 - 2 * w + 1 < (lz1 (32 + k)).getD 0 ∨ (lz1 (32 + k)).getD 0 + 1 < C + 713 - 2 * w) := fun k hk => by
                have := (hap k hk).2.2.1
                generalize (lz1 (32 + k)).getD 0 = z at this ⊢
                omega
              refine sp_X4_run (c := c) (g := g) (N := 15) (m := r) (gA := fun k => (lz1 (32 + k)).getD 0) (xA := fun _ => 0) (w := none) (ψ := fun k => spEl st σ (μ k)) (ρ := ρ0) (χ := fun _ _ => 0) V2 R2 T2 j2.cx.2.1 (by omega) (by omega) (j2.ordO hoc) ⟨x15, hr15, by omega, n1', by omega, by omega, by omega, by omega, fun k hk => ⟨(hap k hk).1, (hap k hk).2.1, (hLk k hk).1, (hLk k hk).2⟩, .inl rfl⟩ g2 hρ0.1 (fun k hk => (hap k hk).2.2.2) (fun q => absurd rfl q) fun S3 D3 v nn res k1 k2 k3 k4 k5 k6 k7 k8 k9 => ?_
              have k2' : ∀ c i, (c < C + 33 ∨ C + 64 < c) → (c ≤ C + 22 ∨ C + 32 < c) → c ≠ C + 713 - 2 * w → c ≠ C + 713 - 2 * w + 1 → D3 c i = D2 c i := fun c i h1 h2 h3 h4 => k2 c i (by omega) (by omega) h3 h4 fun q => absurd rfl q
              have j3 : coJ S3 D3 C s lz1 own1 (max mn r) w := j2.keep hW k1.cSr (fun c i q => by
                have hb := qK.bd hw1 q
                obtain ⟨x1, x2, x3⟩ := qK.nx hw1 q
                exact k2' c i (by omega) (by omega) x1 x2) (j2.sc.next hw1 (fun c i q => k2' c i (by rcases q with q | q | q | q | ⟨j, q1, q2⟩ <;> omega) (by rcases q with q | q | q | q | ⟨j, q1, q2⟩ <;> omega) (by rcases q with q | q | q | q | ⟨j, q1, q2⟩ <;> omega) (by rcases q with q | q | q | q | ⟨j, q1, q2⟩ <;> omega)) k6 k7 fun k hk => by
                obtain ⟨φ', hφ'⟩ := n5' k hk
                exact ⟨φ', hφ'.cgr fun c i hc => k2' c i (by omega) (by omega) (by omega) (by omega)⟩)
              have F3 : cFr S D S3 D3 C := (f1.tr F2).tr (k1.cSr.fr hC1 fun c i c1 c2 => k2' c i (by omega) (by omega) (by omega) (by omega))
              have o3 := j3.fx.o
              have hf3 := j3.fx.fl
              simp only [P_X0_closed, i_kil, i_icon, i_lcon, i_null, i_loadI, i_loadL, i_loadR, i_istore, i_lstore, i_astore, i_iinc, i_dup, i_dup2, i_pop, i_iadd, i_isub, i_imul, i_idiv, i_irem, i_ineg, i_iand, i_ior, i_ishl, i_ishr, i_lxor, i_ladd, i_lsub, i_lmul, i_ldiv, i_lrem, i_lneg, i_lshl, i_lcmp, i_i2l, i_l2i, i_i2b, i_i2s, i_ifeq, i_ifne, i_iflt, i_ifge, i_ifgt, i_ifle, i_cmpeq, i_cmpne, i_cmplt, i_cmpge, i_cmpgt, i_cmple, i_acmpeq, i_acmpne, i_ifnull, i_ifnonnull, i_getI, i_getR, i_putI, i_putZ, i_putR, i_ald, i_ldL, i_ldR, i_ast, i_stL, i_stR, i_alen, i_new, i_newa, i_iret, i_zret, i_lret, i_aret, i_vret, i_raise, i_throw, i_recv, i_objinit, i_tsw3, lget, lset, lput1, lput2, lkil, ltrim, largs, isL, takev, dropv, nthv, pushO, catv, gd, true_and, and_true, Option.some.injEq, Prod.mk.injEq, exists_eq_left', if_true, if_false, reduceCtorEq, Bool.false_eq_true, lcmp_ge, lcmp_lt, lcmp_le, lcmp_gt, lcmp_eq, true_or, or_true, not_true_eq_false, not_false_eq_true, false_implies, true_implies, List.length_cons, List.length_nil, o3]
              repeat (first | refine ⟨in_small (by omega) (by omega), ?_⟩ | (show (_ → _) ∧ (_ → _); first | refine ⟨by omega, fun _ => ?_⟩ | refine ⟨fun _ => ?_, by omega⟩) | refine ⟨by omega, ?_⟩ | refine ⟨⟨_, rfl, by assumption⟩, ?_⟩ | refine ⟨okT_I _, ?_⟩ | refine call0 (gd_of rfl) ?_)
              refine need_at (k := 6) hf3 (by decide) (by decide) rfl (fun q => ?_) fun q => ?_
              · obtain ⟨u, hres⟩ : ∃ u, res = some u := by
                  rcases res with _ | u
                  · exact absurd rfl (k5.mp (by omega))
                  · exact ⟨u, rfl⟩
                obtain ⟨k10, -⟩ := k9 u hres
                have m27' := j3.mv.2.2.2.2.1
                have hr5 := j3.nextS.1.1
                have hcn := k10.cnt
                have hp3 : ∀ i, i < r → ∃ a, lz1 (32 + i) = some a ∧ pP D3 a (spEl st σ (μ i)) := fun k hk => by
                  obtain ⟨e, he, hPe⟩ := hp k hk
                  have ze := (j1.lzz.2 (32 + k) e he).2.1
                  exact ⟨e, he, hPe.cgr fun c i hc => by rw [k2' c i (by omega) (by omega) (by omega) (by omega), g1 c i (by unfold wL; omega)]⟩
                simp only [P_X0_closed, i_kil, i_icon, i_lcon, i_null, i_loadI, i_loadL, i_loadR, i_istore, i_lstore, i_astore, i_iinc, i_dup, i_dup2, i_pop, i_iadd, i_isub, i_imul, i_idiv, i_irem, i_ineg, i_iand, i_ior, i_ishl, i_ishr, i_lxor, i_ladd, i_lsub, i_lmul, i_ldiv, i_lrem, i_lneg, i_lshl, i_lcmp, i_i2l, i_l2i, i_i2b, i_i2s, i_ifeq, i_ifne, i_iflt, i_ifge, i_ifgt, i_ifle, i_cmpeq, i_cmpne, i_cmplt, i_cmpge, i_cmpgt, i_cmple, i_acmpeq, i_acmpne, i_ifnull, i_ifnonnull, i_getI, i_getR, i_putI, i_putZ, i_putR, i_ald, i_ldL, i_ldR, i_ast, i_stL, i_stR, i_alen, i_new, i_newa, i_iret, i_zret, i_lret, i_aret, i_vret, i_raise, i_throw, i_recv, i_objinit, i_tsw3, lget, lset, lput1, lput2, lkil, ltrim, largs, isL, takev, dropv, nthv, pushO, catv, gd, true_and, and_true, Option.some.injEq, Prod.mk.injEq, exists_eq_left', if_true, if_false, reduceCtorEq, Bool.false_eq_true, lcmp_ge, lcmp_lt, lcmp_le, lcmp_gt, lcmp_eq, true_or, or_true, not_true_eq_false, not_false_eq_true, false_implies, true_implies, List.length_cons, List.length_nil, o3, m27', hr5, hcn]
                refine ⟨fun z => ?_, fun z => ?_⟩
                · have hz := (pcnt_z1 455).mp (show pcnt u.2.1 455 = 0 by omega)
                  repeat (first | refine ⟨in_small (by omega) (by omega), ?_⟩ | (show (_ → _) ∧ (_ → _); first | refine ⟨by omega, fun _ => ?_⟩ | refine ⟨fun _ => ?_, by omega⟩) | refine ⟨by omega, ?_⟩ | refine ⟨⟨_, rfl, by assumption⟩, ?_⟩ | refine ⟨okT_I _, ?_⟩ | refine call0 (gd_of rfl) ?_)
                  exact ih2 (j + 1) _ S3 D3 (by omega) (by omega) j3 F3 hp3 (clB_step hb (.inr ⟨g3, nn, res, k3, .inr ⟨u, hres, .inr ⟨rfl, hz⟩⟩⟩))
                · exact K _ _ _ _ _ (clF μ 0 hμ (.inr ⟨i, j, hij, by omega, hb, .inr ⟨g3, nn, res, k3, .inr ⟨u, hres, .inl ⟨rfl, fun y => by have := (pcnt_z1 455).mpr y; omega⟩⟩⟩, by decide⟩) s 0 (.inr ⟨by decide, rfl, rfl⟩)) ⟨lz1, own1, w, j3⟩ F3
              · have hres : res = none := by
                  rcases res with _ | u
                  · rfl
                  · have := k5.mpr (fun q => nomatch q); omega
                simp only [P_X0_closed, i_kil, i_icon, i_lcon, i_null, i_loadI, i_loadL, i_loadR, i_istore, i_lstore, i_astore, i_iinc, i_dup, i_dup2, i_pop, i_iadd, i_isub, i_imul, i_idiv, i_irem, i_ineg, i_iand, i_ior, i_ishl, i_ishr, i_lxor, i_ladd, i_lsub, i_lmul, i_ldiv, i_lrem, i_lneg, i_lshl, i_lcmp, i_i2l, i_l2i, i_i2b, i_i2s, i_ifeq, i_ifne, i_iflt, i_ifge, i_ifgt, i_ifle, i_cmpeq, i_cmpne, i_cmplt, i_cmpge, i_cmpgt, i_cmple, i_acmpeq, i_acmpne, i_ifnull, i_ifnonnull, i_getI, i_getR, i_putI, i_putZ, i_putR, i_ald, i_ldL, i_ldR, i_ast, i_stL, i_stR, i_alen, i_new, i_newa, i_iret, i_zret, i_lret, i_aret, i_vret, i_raise, i_throw, i_recv, i_objinit, i_tsw3, lget, lset, lput1, lput2, lkil, ltrim, largs, isL, takev, dropv, nthv, pushO, catv, gd, true_and, and_true, Option.some.injEq, Prod.mk.injEq, exists_eq_left', if_true, if_false, reduceCtorEq, Bool.false_eq_true, lcmp_ge, lcmp_lt, lcmp_le, lcmp_gt, lcmp_eq, true_or, or_true, not_true_eq_false, not_false_eq_true, false_implies, true_implies, List.length_cons, List.length_nil]
                exact bad _ S3 D3 j3 F3 (.inr ⟨g3, nn, res, k3, .inl ⟨hres, rfl⟩⟩)
            · obtain ⟨j2, F2⟩ := keepL D2 _ g1 g2
              simp only [P_X0_closed, i_kil, i_icon, i_lcon, i_null, i_loadI, i_loadL, i_loadR, i_istore, i_lstore, i_astore, i_iinc, i_dup, i_dup2, i_pop, i_iadd, i_isub, i_imul, i_idiv, i_irem, i_ineg, i_iand, i_ior, i_ishl, i_ishr, i_lxor, i_ladd, i_lsub, i_lmul, i_ldiv, i_lrem, i_lneg, i_lshl, i_lcmp, i_i2l, i_l2i, i_i2b, i_i2s, i_ifeq, i_ifne, i_iflt, i_ifge, i_ifgt, i_ifle, i_cmpeq, i_cmpne, i_cmplt, i_cmpge, i_cmpgt, i_cmple, i_acmpeq, i_acmpne, i_ifnull, i_ifnonnull, i_getI, i_getR, i_putI, i_putZ, i_putR, i_ald, i_ldL, i_ldR, i_ast, i_stL, i_stR, i_alen, i_new, i_newa, i_iret, i_zret, i_lret, i_aret, i_vret, i_raise, i_throw, i_recv, i_objinit, i_tsw3, lget, lset, lput1, lput2, lkil, ltrim, largs, isL, takev, dropv, nthv, pushO, catv, gd, true_and, and_true, Option.some.injEq, Prod.mk.injEq, exists_eq_left', if_true, if_false, reduceCtorEq, Bool.false_eq_true, lcmp_ge, lcmp_lt, lcmp_le, lcmp_gt, lcmp_eq, true_or, or_true, not_true_eq_false, not_false_eq_true, false_implies, true_implies, List.length_cons, List.length_nil]
              exact bad _ S1 D2 j2 (f1.tr F2) (.inl ⟨g3, rfl⟩)
        refine wp_in ?_
        simp only [P_X0_closed, i_kil, i_icon, i_lcon, i_null, i_loadI, i_loadL, i_loadR, i_istore, i_lstore, i_astore, i_iinc, i_dup, i_dup2, i_pop, i_iadd, i_isub, i_imul, i_idiv, i_irem, i_ineg, i_iand, i_ior, i_ishl, i_ishr, i_lxor, i_ladd, i_lsub, i_lmul, i_ldiv, i_lrem, i_lneg, i_lshl, i_lcmp, i_i2l, i_l2i, i_i2b, i_i2s, i_ifeq, i_ifne, i_iflt, i_ifge, i_ifgt, i_ifle, i_cmpeq, i_cmpne, i_cmplt, i_cmpge, i_cmpgt, i_cmple, i_acmpeq, i_acmpne, i_ifnull, i_ifnonnull, i_getI, i_getR, i_putI, i_putZ, i_putR, i_ald, i_ldL, i_ldR, i_ast, i_stL, i_stR, i_alen, i_new, i_newa, i_iret, i_zret, i_lret, i_aret, i_vret, i_raise, i_throw, i_recv, i_objinit, i_tsw3, lget, lset, lput1, lput2, lkil, ltrim, largs, isL, takev, dropv, nthv, pushO, catv, gd, true_and, and_true, Option.some.injEq, Prod.mk.injEq, exists_eq_left', if_true, if_false, reduceCtorEq, Bool.false_eq_true, lcmp_ge, lcmp_lt, lcmp_le, lcmp_gt, lcmp_eq, true_or, or_true, not_true_eq_false, not_false_eq_true, false_implies, true_implies, List.length_cons, List.length_nil]
        refine ⟨fun q => by omega, fun _ => ?_⟩
        repeat (first | refine ⟨in_small (by omega) (by omega), ?_⟩ | (show (_ → _) ∧ (_ → _); first | refine ⟨by omega, fun _ => ?_⟩ | refine ⟨fun _ => ?_, by omega⟩) | refine ⟨by omega, ?_⟩ | refine ⟨⟨_, rfl, by assumption⟩, ?_⟩ | refine ⟨okT_I _, ?_⟩ | refine call0 (gd_of rfl) ?_)
        exact inn L (i + 1) B1 S1 D1 (by omega) (by omega) j1 f1 hp (clB_start hb)
    have lp1 : ∀ (L k n : Nat) (μ : Nat → Nat) (B1 : Nat × Nat) (S1 : Stat) (D1 : Dat) (lz1 : Nat → Option Nat) (own1 : Nat → Nat), k + L = st.1 → isCnt (spMin st σ) k n → isMinL st σ k n μ → coJ S1 D1 C s lz1 own1 (max mn n) w → cFr S D S1 D1 C → (∀ i, i < n → ∃ a, lz1 (32 + i) = some a ∧ pP D1 a (spEl st σ (μ i))) → 2 * (r - max mn n) ≤ B1.1 ∧ 13652 * (r - max mn n) ≤ B1.2 → Wp P_X0_closed E 1 [some (aR C), some (aI (n : Int)), some (aI (k : Int))] [] B1 S1 D1 := by
      intro L
      induction L with
      | zero =>
        intro k n μ B1 S1 D1 lz1 own1 hk hcn hμ j1 f1 hp hb
        have : k = st.1 := by omega
        subst this
        have : n = r := isCnt.uniq _ _ _ hcn hcr
        subst this
        obtain ⟨h15, h35, -⟩ := go j1
        have o1 := j1.fx.o
        obtain ⟨Q1, Q2⟩ := j1.fx.Q
        have Q3 := Q2.1
        refine wp_in ?_
        simp only [P_X0_closed, i_kil, i_icon, i_lcon, i_null, i_loadI, i_loadL, i_loadR, i_istore, i_lstore, i_astore, i_iinc, i_dup, i_dup2, i_pop, i_iadd, i_isub, i_imul, i_idiv, i_irem, i_ineg, i_iand, i_ior, i_ishl, i_ishr, i_lxor, i_ladd, i_lsub, i_lmul, i_ldiv, i_lrem, i_lneg, i_lshl, i_lcmp, i_i2l, i_l2i, i_i2b, i_i2s, i_ifeq, i_ifne, i_iflt, i_ifge, i_ifgt, i_ifle, i_cmpeq, i_cmpne, i_cmplt, i_cmpge, i_cmpgt, i_cmple, i_acmpeq, i_acmpne, i_ifnull, i_ifnonnull, i_getI, i_getR, i_putI, i_putZ, i_putR, i_ald, i_ldL, i_ldR, i_ast, i_stL, i_stR, i_alen, i_new, i_newa, i_iret, i_zret, i_lret, i_aret, i_vret, i_raise, i_throw, i_recv, i_objinit, i_tsw3, lget, lset, lput1, lput2, lkil, ltrim, largs, isL, takev, dropv, nthv, pushO, catv, gd, true_and, and_true, Option.some.injEq, Prod.mk.injEq, exists_eq_left', if_true, if_false, reduceCtorEq, Bool.false_eq_true, lcmp_ge, lcmp_lt, lcmp_le, lcmp_gt, lcmp_eq, true_or, or_true, not_true_eq_false, not_false_eq_true, false_implies, true_implies, List.length_cons, List.length_nil, o1, Q1, Q3, h15]
        refine ⟨fun _ => ?_, fun q => by omega⟩
        exact lp4 μ lz1 own1 hμ n 0 B1 S1 D1 (by omega) j1 f1 hp ⟨fun a b h1 => by omega, fun b h1 h2 => by omega⟩
      | succ L ih =>
        intro k n μ B1 S1 D1 lz1 own1 hk hcn hμ j1 f1 hp hb
        obtain ⟨h15, h35, tc, hE⟩ := go j1
        have o1 := j1.fx.o
        have hf1 := j1.fx.fl
        obtain ⟨x29, x15⟩ := j1.fx.mn
        obtain ⟨Q1, Q2⟩ := j1.fx.Q
        obtain ⟨T1, T2⟩ := j1.fx.T
        have Q3 := Q2.1
        have hC1 := j1.lzz.1
        obtain ⟨hw1', m23, m24, m26, m27, m5, ⟨m6, m6'⟩, m7⟩ := id j1.mv
        have three : ∀ (n' : Nat) (μ' : Nat → Nat) (B2 : Nat × Nat) (S2 : Stat) (D2 : Dat) (lz2 : Nat → Option Nat) (own2 : Nat → Nat), isCnt (spMin st σ) (k + 1) n' → isMinL st σ (k + 1) n' μ' → coJ S2 D2 C s lz2 own2 (max mn n') w → cFr S D S2 D2 C → (∀ i, i < n' → ∃ a, lz2 (32 + i) = some a ∧ pP D2 a (spEl st σ (μ' i))) → 2 * (r - max mn n') ≤ B2.1 ∧ 13652 * (r - max mn n') ≤ B2.2 → Wp P_X0_closed E 3 [some (aR C), some (aI (n' : Int)), some (aI (k : Int))] [] B2 S2 D2 := fun n' μ' B2 S2 D2 lz2 own2 a1 a2 a3 a4 a5 a6 => by
          refine wp_in ?_
          simp only [P_X0_closed, i_kil, i_icon, i_lcon, i_null, i_loadI, i_loadL, i_loadR, i_istore, i_lstore, i_astore, i_iinc, i_dup, i_dup2, i_pop, i_iadd, i_isub, i_imul, i_idiv, i_irem, i_ineg, i_iand, i_ior, i_ishl, i_ishr, i_lxor, i_ladd, i_lsub, i_lmul, i_ldiv, i_lrem, i_lneg, i_lshl, i_lcmp, i_i2l, i_l2i, i_i2b, i_i2s, i_ifeq, i_ifne, i_iflt, i_ifge, i_ifgt, i_ifle, i_cmpeq, i_cmpne, i_cmplt, i_cmpge, i_cmpgt, i_cmple, i_acmpeq, i_acmpne, i_ifnull, i_ifnonnull, i_getI, i_getR, i_putI, i_putZ, i_putR, i_ald, i_ldL, i_ldR, i_ast, i_stL, i_stR, i_alen, i_new, i_newa, i_iret, i_zret, i_lret, i_aret, i_vret, i_raise, i_throw, i_recv, i_objinit, i_tsw3, lget, lset, lput1, lput2, lkil, ltrim, largs, isL, takev, dropv, nthv, pushO, catv, gd, true_and, and_true, Option.some.injEq, Prod.mk.injEq, exists_eq_left', if_true, if_false, reduceCtorEq, Bool.false_eq_true, lcmp_ge, lcmp_lt, lcmp_le, lcmp_gt, lcmp_eq, true_or, or_true, not_true_eq_false, not_false_eq_true, false_implies, true_implies, List.length_cons, List.length_nil]
          repeat (first | refine ⟨in_small (by omega) (by omega), ?_⟩ | (show (_ → _) ∧ (_ → _); first | refine ⟨by omega, fun _ => ?_⟩ | refine ⟨fun _ => ?_, by omega⟩) | refine ⟨by omega, ?_⟩ | refine ⟨⟨_, rfl, by assumption⟩, ?_⟩ | refine ⟨okT_I _, ?_⟩ | refine call0 (gd_of rfl) ?_)
          exact ih (k + 1) n' μ' B2 S2 D2 lz2 own2 (by omega) a1 a2 a3 a4 a5 a6
        refine wp_in ?_
        simp only [P_X0_closed, i_kil, i_icon, i_lcon, i_null, i_loadI, i_loadL, i_loadR, i_istore, i_lstore, i_astore, i_iinc, i_dup, i_dup2, i_pop, i_iadd, i_isub, i_imul, i_idiv, i_irem, i_ineg, i_iand, i_ior, i_ishl, i_ishr, i_lxor, i_ladd, i_lsub, i_lmul, i_ldiv, i_lrem, i_lneg, i_lshl, i_lcmp, i_i2l, i_l2i, i_i2b, i_i2s, i_ifeq, i_ifne, i_iflt, i_ifge, i_ifgt, i_ifle, i_cmpeq, i_cmpne, i_cmplt, i_cmpge, i_cmpgt, i_cmple, i_acmpeq, i_acmpne, i_ifnull, i_ifnonnull, i_getI, i_getR, i_putI, i_putZ, i_putR, i_ald, i_ldL, i_ldR, i_ast, i_stL, i_stR, i_alen, i_new, i_newa, i_iret, i_zret, i_lret, i_aret, i_vret, i_raise, i_throw, i_recv, i_objinit, i_tsw3, lget, lset, lput1, lput2, lkil, ltrim, largs, isL, takev, dropv, nthv, pushO, catv, gd, true_and, and_true, Option.some.injEq, Prod.mk.injEq, exists_eq_left', if_true, if_false, reduceCtorEq, Bool.false_eq_true, lcmp_ge, lcmp_lt, lcmp_le, lcmp_gt, lcmp_eq, true_or, or_true, not_true_eq_false, not_false_eq_true, false_implies, true_implies, List.length_cons, List.length_nil, o1, Q1, Q3, h15]
        refine ⟨fun q => by omega, fun _ => ?_⟩
        repeat (first | refine ⟨in_small (by omega) (by omega), ?_⟩ | (show (_ → _) ∧ (_ → _); first | refine ⟨by omega, fun _ => ?_⟩ | refine ⟨fun _ => ?_, by omega⟩) | refine ⟨by omega, ?_⟩ | refine ⟨⟨_, rfl, by assumption⟩, ?_⟩ | refine ⟨okT_I _, ?_⟩ | refine call0 (gd_of rfl) ?_)
        refine sp_X7_isMinimal Q2 T2 j1.cx.2.1 hE (k := k) (by omega) rfl fun v hv hvm => ?_
        simp only [P_X0_closed, i_kil, i_icon, i_lcon, i_null, i_loadI, i_loadL, i_loadR, i_istore, i_lstore, i_astore, i_iinc, i_dup, i_dup2, i_pop, i_iadd, i_isub, i_imul, i_idiv, i_irem, i_ineg, i_iand, i_ior, i_ishl, i_ishr, i_lxor, i_ladd, i_lsub, i_lmul, i_ldiv, i_lrem, i_lneg, i_lshl, i_lcmp, i_i2l, i_l2i, i_i2b, i_i2s, i_ifeq, i_ifne, i_iflt, i_ifge, i_ifgt, i_ifle, i_cmpeq, i_cmpne, i_cmplt, i_cmpge, i_cmpgt, i_cmple, i_acmpeq, i_acmpne, i_ifnull, i_ifnonnull, i_getI, i_getR, i_putI, i_putZ, i_putR, i_ald, i_ldL, i_ldR, i_ast, i_stL, i_stR, i_alen, i_new, i_newa, i_iret, i_zret, i_lret, i_aret, i_vret, i_raise, i_throw, i_recv, i_objinit, i_tsw3, lget, lset, lput1, lput2, lkil, ltrim, largs, isL, takev, dropv, nthv, pushO, catv, gd, true_and, and_true, Option.some.injEq, Prod.mk.injEq, exists_eq_left', if_true, if_false, reduceCtorEq, Bool.false_eq_true, lcmp_ge, lcmp_lt, lcmp_le, lcmp_gt, lcmp_eq, true_or, or_true, not_true_eq_false, not_false_eq_true, false_implies, true_implies, List.length_cons, List.length_nil, o1, x29, x15]
        refine ⟨fun hv0 => ?_, fun hv0 => ?_⟩
        · have hmin : spMin st σ k := hvm.mp (by omega)
          have hcn' : isCnt (spMin st σ) (k + 1) (n + 1) := ⟨n, hcn, .inl ⟨hmin, rfl⟩⟩
          have hnr : n + 1 ≤ r := hcn'.mono _ _ (by omega) hcr
          have hμ' := hμ.up hmin
          have two : ∀ (B2 : Nat × Nat) (S2 : Stat) (D2 : Dat) (lz2 : Nat → Option Nat) (own2 : Nat → Nat) (a : Nat), coJ S2 D2 C s lz2 own2 (max mn (n + 1)) w → cFr S D S2 D2 C → lz2 (32 + n) = some a → (∀ i, i < n → ∃ a, lz2 (32 + i) = some a ∧ pP D2 a (spEl st σ (μ i))) → 2 * (r - max mn (n + 1)) ≤ B2.1 ∧ 13652 * (r - max mn (n + 1)) ≤ B2.2 → Wp P_X0_closed E 2 [some (aR C), some (aI (n : Int)), some (aI (k : Int))] [] B2 S2 D2 := fun B2 S2 D2 lz2 own2 a j2 f2 ha hp2 hb2 => by
            obtain ⟨h15', h35', tc', hE'⟩ := go j2
            have o2 := j2.fx.o
            obtain ⟨x29', x15'⟩ := j2.fx.mn
            obtain ⟨Q1', Q2'⟩ := j2.fx.Q
            obtain ⟨T1', T2'⟩ := j2.fx.T
            obtain ⟨R1', R2'⟩ := j2.fx.R
            obtain ⟨e1', e2'⟩ := j2.fx.q9
            have Q3' := Q2'.1
            have eA : S2.2.1 (C + 715) (n : Int) = some a := by rw [(j2.mv.2.2.2.2.2.2.1.2 n (by omega)).1]; exact ha
            have za := j2.lzz.2 (32 + n) a ha
            have pSa := za.2.2.2.2.2 (Or.inr (by omega))
            obtain ⟨φa, hφa⟩ := j2.th.2 (32 + n) a ha (Or.inr (by omega))
            have hl2 : lsz (32 + n) = 2 := if_neg (by omega)
            refine wp_in ?_
            simp only [P_X0_closed, i_kil, i_icon, i_lcon, i_null, i_loadI, i_loadL, i_loadR, i_istore, i_lstore, i_astore, i_iinc, i_dup, i_dup2, i_pop, i_iadd, i_isub, i_imul, i_idiv, i_irem, i_ineg, i_iand, i_ior, i_ishl, i_ishr, i_lxor, i_ladd, i_lsub, i_lmul, i_ldiv, i_lrem, i_lneg, i_lshl, i_lcmp, i_i2l, i_l2i, i_i2b, i_i2s, i_ifeq, i_ifne, i_iflt, i_ifge, i_ifgt, i_ifle, i_cmpeq, i_cmpne, i_cmplt, i_cmpge, i_cmpgt, i_cmple, i_acmpeq, i_acmpne, i_ifnull, i_ifnonnull, i_getI, i_getR, i_putI, i_putZ, i_putR, i_ald, i_ldL, i_ldR, i_ast, i_stL, i_stR, i_alen, i_new, i_newa, i_iret, i_zret, i_lret, i_aret, i_vret, i_raise, i_throw, i_recv, i_objinit, i_tsw3, lget, lset, lput1, lput2, lkil, ltrim, largs, isL, takev, dropv, nthv, pushO, catv, gd, true_and, and_true, Option.some.injEq, Prod.mk.injEq, exists_eq_left', if_true, if_false, reduceCtorEq, Bool.false_eq_true, lcmp_ge, lcmp_lt, lcmp_le, lcmp_gt, lcmp_eq, true_or, or_true, not_true_eq_false, not_false_eq_true, false_implies, true_implies, List.length_cons, List.length_nil, o2, x29', x15', Q1', e1']
            repeat (first | refine ⟨in_small (by omega) (by omega), ?_⟩ | (show (_ → _) ∧ (_ → _); first | refine ⟨by omega, fun _ => ?_⟩ | refine ⟨fun _ => ?_, by omega⟩) | refine ⟨by omega, ?_⟩ | refine ⟨⟨_, rfl, by assumption⟩, ?_⟩ | refine ⟨okT_I _, ?_⟩ | refine call0 (gd_of rfl) ?_)
            rw [eA]
            simp only [P_X0_closed, i_kil, i_icon, i_lcon, i_null, i_loadI, i_loadL, i_loadR, i_istore, i_lstore, i_astore, i_iinc, i_dup, i_dup2, i_pop, i_iadd, i_isub, i_imul, i_idiv, i_irem, i_ineg, i_iand, i_ior, i_ishl, i_ishr, i_lxor, i_ladd, i_lsub, i_lmul, i_ldiv, i_lrem, i_lneg, i_lshl, i_lcmp, i_i2l, i_l2i, i_i2b, i_i2s, i_ifeq, i_ifne, i_iflt, i_ifge, i_ifgt, i_ifle, i_cmpeq, i_cmpne, i_cmplt, i_cmpge, i_cmpgt, i_cmple, i_acmpeq, i_acmpne, i_ifnull, i_ifnonnull, i_getI, i_getR, i_putI, i_putZ, i_putR, i_ald, i_ldL, i_ldR, i_ast, i_stL, i_stR, i_alen, i_new, i_newa, i_iret, i_zret, i_lret, i_aret, i_vret, i_raise, i_throw, i_recv, i_objinit, i_tsw3, lget, lset, lput1, lput2, lkil, ltrim, largs, isL, takev, dropv, nthv, pushO, catv, gd, true_and, and_true, Option.some.injEq, Prod.mk.injEq, exists_eq_left', if_true, if_false, reduceCtorEq, Bool.false_eq_true, lcmp_ge, lcmp_lt, lcmp_le, lcmp_gt, lcmp_eq, true_or, or_true, not_true_eq_false, not_false_eq_true, false_implies, true_implies, List.length_cons, List.length_nil, o2, Q3', e1']
            repeat (first | refine ⟨in_small (by omega) (by omega), ?_⟩ | (show (_ → _) ∧ (_ → _); first | refine ⟨by omega, fun _ => ?_⟩ | refine ⟨fun _ => ?_, by omega⟩) | refine ⟨by omega, ?_⟩ | refine ⟨⟨_, rfl, by assumption⟩, ?_⟩ | refine ⟨okT_I _, ?_⟩ | refine call0 (gd_of rfl) ?_)
            refine sp_X7_element (i := k) Q2' hE' (by omega) rfl pSa hφa.1 e2' R2' (by omega) (by omega) (by omega) (by omega) (by omega) (by omega) fun D3 k1 k2 => ?_
            obtain ⟨χm, hχm⟩ := j2.sc.1
            obtain ⟨j3, F3⟩ := j2.mini hW (i := 32 + n) (by omega) ha (fun c j q q1 q2 => k1 c j q1 q2 (by unfold wK at q; omega) (by unfold wK at q; omega)) ⟨_, k2⟩ ⟨χm, hχm.cgr fun c j hc => k1 c j (by omega) (by omega) (by omega) (by omega)⟩
            simp only [P_X0_closed, i_kil, i_icon, i_lcon, i_null, i_loadI, i_loadL, i_loadR, i_istore, i_lstore, i_astore, i_iinc, i_dup, i_dup2, i_pop, i_iadd, i_isub, i_imul, i_idiv, i_irem, i_ineg, i_iand, i_ior, i_ishl, i_ishr, i_lxor, i_ladd, i_lsub, i_lmul, i_ldiv, i_lrem, i_lneg, i_lshl, i_lcmp, i_i2l, i_l2i, i_i2b, i_i2s, i_ifeq, i_ifne, i_iflt, i_ifge, i_ifgt, i_ifle, i_cmpeq, i_cmpne, i_cmplt, i_cmpge, i_cmpgt, i_cmple, i_acmpeq, i_acmpne, i_ifnull, i_ifnonnull, i_getI, i_getR, i_putI, i_putZ, i_putR, i_ald, i_ldL, i_ldR, i_ast, i_stL, i_stR, i_alen, i_new, i_newa, i_iret, i_zret, i_lret, i_aret, i_vret, i_raise, i_throw, i_recv, i_objinit, i_tsw3, lget, lset, lput1, lput2, lkil, ltrim, largs, isL, takev, dropv, nthv, pushO, catv, gd, true_and, and_true, Option.some.injEq, Prod.mk.injEq, exists_eq_left', if_true, if_false, reduceCtorEq, Bool.false_eq_true, lcmp_ge, lcmp_lt, lcmp_le, lcmp_gt, lcmp_eq, true_or, or_true, not_true_eq_false, not_false_eq_true, false_implies, true_implies, List.length_cons, List.length_nil]
            repeat (first | refine ⟨in_small (by omega) (by omega), ?_⟩ | (show (_ → _) ∧ (_ → _); first | refine ⟨by omega, fun _ => ?_⟩ | refine ⟨fun _ => ?_, by omega⟩) | refine ⟨by omega, ?_⟩ | refine ⟨⟨_, rfl, by assumption⟩, ?_⟩ | refine ⟨okT_I _, ?_⟩ | refine call0 (gd_of rfl) ?_)
            refine three (n + 1) _ B2 S2 D3 lz2 own2 hcn' hμ' j3 (f2.tr F3) (fun i hi => ?_) hb2
            show ∃ a, lz2 (32 + i) = some a ∧ pP D3 a (spEl st σ (if i = n then k else μ i))
            by_cases q : i = n
            · subst q
              rw [if_pos rfl]
              exact ⟨a, ha, k2⟩
            · rw [if_neg q]
              obtain ⟨b, hb', hPb⟩ := hp2 i (by omega)
              have zb := j2.lzz.2 (32 + i) b hb'
              have hl3 : lsz (32 + i) = 2 := if_neg (by omega)
              have dis : ∀ x, (x = b ∨ x = b + 1) → x ≠ a ∧ x ≠ a + 1 := fun x hx => by
                have e1 := zb.2.2.2.1 x (by omega) (by omega)
                refine ⟨fun e => ?_, fun e => ?_⟩
                · have e2 := za.2.2.2.1 x (by omega) (by omega)
                  omega
                · have e2 := za.2.2.2.1 x (by omega) (by omega)
                  omega
              exact ⟨b, hb', hPb.cgr fun c j hc => k1 c j (dis c hc).1 (dis c hc).2 (by omega) (by omega)⟩
          repeat (first | refine ⟨in_small (by omega) (by omega), ?_⟩ | (show (_ → _) ∧ (_ → _); first | refine ⟨by omega, fun _ => ?_⟩ | refine ⟨fun _ => ?_, by omega⟩) | refine ⟨by omega, ?_⟩ | refine ⟨⟨_, rfl, by assumption⟩, ?_⟩ | refine ⟨okT_I _, ?_⟩ | refine call0 (gd_of rfl) ?_)
          rw [(m6' n (by omega)).1]
          refine ⟨fun hne => ?_, fun hno => ?_⟩
          · obtain ⟨a, ha⟩ : ∃ a, lz1 (32 + n) = some a := by
              rcases hq : lz1 (32 + n) with _ | a
              · exact absurd hq hne
              · exact ⟨a, rfl⟩
            have hnm := (m6' n (by omega)).2.mpr hne
            have emx : max mn n = max mn (n + 1) := by omega
            rw [emx] at j1 hb
            exact two _ S1 D1 lz1 own1 a j1 f1 ha hp hb
          · have hnm : ¬ n < max mn n := fun q => (m6' n (by omega)).2.mp q hno
            have emx : max mn n = n := by omega
            have emx2 : max mn (n + 1) = n + 1 := by omega
            rw [emx] at j1 hb
            have hl2 : lsz (32 + n) = 2 := if_neg (by omega)
            have n1' : (mkS S1 5 0).1 S1.2.2 = some (5, 0) := if_pos rfl
            refine ⟨B1.1 - 1, B1.2 - 2, Prod.ext (by show B1.1 = B1.1 - 1 + 1; omega) (by show B1.2 = B1.2 - 2 + 2; omega), ?_⟩
            refine ⟨⟨_, rfl, n1'⟩, callB 1 13650 (by show 1 ≤ B1.1 - 1 ∧ 13650 ≤ B1.2 - 2; omega) (gd_of rfl) ?_⟩
            refine sp_X5_init n1' rfl ?_ fun S2 D2 k1 k2 k3 k4 k5 => ?_
            · show (if S1.2.2 = S1.2.2 then (0 : Int) else _) = 0
              rw [if_pos rfl]
            · have b1 : ∀ c, c < S1.2.2 → S2.1 c = S1.1 c := fun c hc => by
                rw [(k3 c hc).1]
                show (if c = S1.2.2 then _ else _) = _
                rw [if_neg (by omega)]
              have b0 : ∀ c i, c < S1.2.2 → S2.2.1 c i = S1.2.1 c i := fun c i hc => by
                rw [(k3 c hc).2]
                show (if c = S1.2.2 then _ else _) = _
                rw [if_neg (by omega)]
              have b2 : ∀ c i, c < S1.2.2 → D2 c i = D1 c i := fun c i hc => by
                rw [k5 c i (by omega)]
                show (if c = S1.2.2 then _ else _) = _
                rw [if_neg (by omega)]
              have x15' : S2.1 (C + 715) = some (107, 15) := by rw [b1 _ (by omega)]; exact x15
              have rr : ∀ c i, (c ≠ C + 715 ∨ i ≠ (n : Int)) → (setR S2 (C + 715) n (some S1.2.2)).2.1 c i = S2.2.1 c i := fun c i hn => setR_ne hn
              have hJ := j1.newLz (i := 32 + n) (a := S1.2.2) (ad := C + 715) (k := (n : Int)) (S' := setR S2 (C + 715) n (some S1.2.2)) (D' := D2) hW (by omega) hno (by omega) (by rw [hl2]; show _ ≤ S2.2.2; omega) b1 (.inr (.inr ⟨rfl, rfl, rfl⟩)) (fun c j hc hn => by rw [rr c j hn]; exact b0 c j hc) (by
                show pmur _ _ _ _ _ _ = _
                simp only [pmur, and_self, if_true]) (fun q => absurd q.2 (by omega)) (fun _ => ⟨k1.sq fun c c1 c2 => ⟨rfl, fun j => rr c j (by omega)⟩, fun _ => 0, k4, fun _ _ => qfit_zero, fun _ _ => rfl⟩) b2
              rw [if_pos (by omega)] at hJ
              simp only [P_X0_closed, i_kil, i_icon, i_lcon, i_null, i_loadI, i_loadL, i_loadR, i_istore, i_lstore, i_astore, i_iinc, i_dup, i_dup2, i_pop, i_iadd, i_isub, i_imul, i_idiv, i_irem, i_ineg, i_iand, i_ior, i_ishl, i_ishr, i_lxor, i_ladd, i_lsub, i_lmul, i_ldiv, i_lrem, i_lneg, i_lshl, i_lcmp, i_i2l, i_l2i, i_i2b, i_i2s, i_ifeq, i_ifne, i_iflt, i_ifge, i_ifgt, i_ifle, i_cmpeq, i_cmpne, i_cmplt, i_cmpge, i_cmpgt, i_cmple, i_acmpeq, i_acmpne, i_ifnull, i_ifnonnull, i_getI, i_getR, i_putI, i_putZ, i_putR, i_ald, i_ldL, i_ldR, i_ast, i_stL, i_stR, i_alen, i_new, i_newa, i_iret, i_zret, i_lret, i_aret, i_vret, i_raise, i_throw, i_recv, i_objinit, i_tsw3, lget, lset, lput1, lput2, lkil, ltrim, largs, isL, takev, dropv, nthv, pushO, catv, gd, true_and, and_true, Option.some.injEq, Prod.mk.injEq, exists_eq_left', if_true, if_false, reduceCtorEq, Bool.false_eq_true, lcmp_ge, lcmp_lt, lcmp_le, lcmp_gt, lcmp_eq, true_or, or_true, not_true_eq_false, not_false_eq_true, false_implies, true_implies, List.length_cons, List.length_nil]
              refine ⟨15, 5, 0, x15', k1.1, by simp only [List.mem_cons, true_or], by omega, by omega, ?_⟩
              refine two _ (setR S2 (C + 715) n (some S1.2.2)) D2 _ _ S1.2.2 (by rw [emx2]; exact hJ) (f1.tr ⟨?_, fun c hc => b1 c hc, fun c i c1 c2 => ⟨?_, b2 c i (by omega)⟩⟩) (if_pos rfl) (fun i hi => ?_) ?_
              · show S1.2.2 ≤ S2.2.2
                omega
              · rw [rr c i (by omega)]; exact b0 c i (by omega)
              · obtain ⟨a, ha, hPa⟩ := hp i hi
                have za := (j1.lzz.2 (32 + i) a ha).2.2.1
                have hl3 : lsz (32 + i) = 2 := if_neg (by omega)
                exact ⟨a, by show (if 32 + i = 32 + n then _ else _) = _; rw [if_neg (by omega)]; exact ha, hPa.cgr fun c j hc => b2 c j (by omega)⟩
              · show 2 * (r - max mn (n + 1)) ≤ B1.1 - 1 - 1 ∧ 13652 * (r - max mn (n + 1)) ≤ B1.2 - 2 - 13650
                omega
        · have hmin : ¬ spMin st σ k := fun q => by have := hvm.mpr q; omega
          exact three n μ _ S1 D1 lz1 own1 ⟨n, hcn, .inr ⟨hmin, rfl⟩⟩ (hμ.skip hmin) j1 f1 hp hb
    simp only [P_X0_closed, i_kil, i_icon, i_lcon, i_null, i_loadI, i_loadL, i_loadR, i_istore, i_lstore, i_astore, i_iinc, i_dup, i_dup2, i_pop, i_iadd, i_isub, i_imul, i_idiv, i_irem, i_ineg, i_iand, i_ior, i_ishl, i_ishr, i_lxor, i_ladd, i_lsub, i_lmul, i_ldiv, i_lrem, i_lneg, i_lshl, i_lcmp, i_i2l, i_l2i, i_i2b, i_i2s, i_ifeq, i_ifne, i_iflt, i_ifge, i_ifgt, i_ifle, i_cmpeq, i_cmpne, i_cmplt, i_cmpge, i_cmpgt, i_cmple, i_acmpeq, i_acmpne, i_ifnull, i_ifnonnull, i_getI, i_getR, i_putI, i_putZ, i_putR, i_ald, i_ldL, i_ldR, i_ast, i_stL, i_stR, i_alen, i_new, i_newa, i_iret, i_zret, i_lret, i_aret, i_vret, i_raise, i_throw, i_recv, i_objinit, i_tsw3, lget, lset, lput1, lput2, lkil, ltrim, largs, isL, takev, dropv, nthv, pushO, catv, gd, true_and, and_true, Option.some.injEq, Prod.mk.injEq, exists_eq_left', if_true, if_false, reduceCtorEq, Bool.false_eq_true, lcmp_ge, lcmp_lt, lcmp_le, lcmp_gt, lcmp_eq, true_or, or_true, not_true_eq_false, not_false_eq_true, false_implies, true_implies, List.length_cons, List.length_nil]
    have hmx : max mn 0 = mn := Nat.max_zero _
    exact lp1 st.1 0 0 (fun _ => 0) B S D lz own (by omega) rfl ⟨fun i hi => absurd hi (Nat.not_lt_zero _), fun i j _ hj => absurd hj (Nat.not_lt_zero _), fun z hz => absurd hz (Nat.not_lt_zero _)⟩ (by rw [hmx]; exact h) cFr.rfl (fun i hi => absurd hi (Nat.not_lt_zero _)) (by rw [hmx]; omega)
  · have hx : sSp s = none := by
      rcases hs : sSp s with _ | ⟨⟨c, g, d⟩, m, st, σ⟩
      · rfl
      · have := (s3 c g d m st σ hs).1
        omega
    have hr0 : r = 0 := by
      rcases hr with ⟨-, hr⟩ | ⟨o', m', st', σ', hr, hr2⟩
      · exact hr
      · rw [hx] at hr; exact nomatch hr
    simp only [P_X0_closed, i_kil, i_icon, i_lcon, i_null, i_loadI, i_loadL, i_loadR, i_istore, i_lstore, i_astore, i_iinc, i_dup, i_dup2, i_pop, i_iadd, i_isub, i_imul, i_idiv, i_irem, i_ineg, i_iand, i_ior, i_ishl, i_ishr, i_lxor, i_ladd, i_lsub, i_lmul, i_ldiv, i_lrem, i_lneg, i_lshl, i_lcmp, i_i2l, i_l2i, i_i2b, i_i2s, i_ifeq, i_ifne, i_iflt, i_ifge, i_ifgt, i_ifle, i_cmpeq, i_cmpne, i_cmplt, i_cmpge, i_cmpgt, i_cmple, i_acmpeq, i_acmpne, i_ifnull, i_ifnonnull, i_getI, i_getR, i_putI, i_putZ, i_putR, i_ald, i_ldL, i_ldR, i_ast, i_stL, i_stR, i_alen, i_new, i_newa, i_iret, i_zret, i_lret, i_aret, i_vret, i_raise, i_throw, i_recv, i_objinit, i_tsw3, lget, lset, lput1, lput2, lkil, ltrim, largs, isL, takev, dropv, nthv, pushO, catv, gd, true_and, and_true, Option.some.injEq, Prod.mk.injEq, exists_eq_left', if_true, if_false, reduceCtorEq, Bool.false_eq_true, lcmp_ge, lcmp_lt, lcmp_le, lcmp_gt, lcmp_eq, true_or, or_true, not_true_eq_false, not_false_eq_true, false_implies, true_implies, List.length_cons, List.length_nil]
    refine err 7 _ _ _ _ _ (by decide) (by rw [hr0, Nat.max_zero]; exact h) cFr.rfl (.inl ⟨hx, rfl, rfl⟩)
end CCL
