/-! the component's square: the span told, its walk -/
set_option maxRecDepth 100000
set_option linter.unusedVariables false
/-- what stands in the square once a span is told -/
def sqE (D : Dat) (q c g : Nat) (tc : Nat → Nat) (st : spst) (σ : Nat → Nat) : Prop := spOK st ∧ sqT D q c g tc ∧ ∃ d P cl, sqD D q st.1 d P cl st.2.2.2.2 ∧ sqRel tc st d P cl ∧ sqSo D q P st.1 σ
def qW (q o : Nat) (D D' : Dat) : Prop := ∀ a i, (a < q ∨ q + 159 < a) → (a ≤ o ∨ o + 10 < a) → D' a i = D a i
theorem spF_ok {c g : Nat} (ho : ordOK c g) {I : Nat → Int} {k : Nat} : ∀ (L : List Nat) (st : spst), (∀ u, u ∈ L → spW (mulV I u)) → spOK st → spOK (spF c g I k L st) := by
  intro L
  induction L with
  | nil => intro st _ h; exact h
  | cons a L ih =>
    intro st h hO
    exact ih _ (fun u hu => h u (List.mem_cons_of_mem _ hu)) (hO.take ho (h a (List.mem_cons_self ..)) (k, a))
theorem spF_snoc (c g : Nat) (I : Nat → Int) (k : Nat) (L : List Nat) (t : Nat) (st : spst) : spF c g I k (L ++ [t]) st = spTake c g (spF c g I k L st) (mulV I t) (k, t) := by
  unfold spF; rw [List.foldl_append]; rfl
theorem sqI.congr {D D' : Dat} {q : Nat} {tc : Nat → Nat} {st : spst} (h : sqI D q tc st) (e : ∀ a i, (a = q ∧ i = 15 ∨ a = q + 1 ∨ a = q + 2 ∨ a = q + 3 ∨ a = q + 13 ∨ a = q + 15 ∨ a = q + 16) → D' a i = D a i) : sqI D' q tc st := by
  obtain ⟨d, P, cl, ⟨d1, d2, d3, d4, d5, d6, d7, d8⟩, hR⟩ := h
  exact ⟨d, P, cl, ⟨by rw [e _ _ (by omega)]; exact d1, d2, d3.congr (fun i => e _ _ (by omega)) (fun i => e _ _ (by omega)), d4, d5, fun r hr => by rw [e _ _ (by omega), e _ _ (by omega), e _ _ (by omega)]; exact d6 r hr, d7, d8.congr fun i => e _ _ (by omega)⟩, hR⟩
set_option maxHeartbeats 4000000 in
theorem sp_X7_tell {E : Ex} {B : Nat × Nat} {S : Stat} {D : Dat} {q T o Ia ob c g m : Nat} {I : Nat → Nat → Int} {dg : Int} (hq : sqS S q T o) (ho : rS S o) (hoq : o + 10 < q) (hT : tS S T) (hTD : tD D T) (lT : T + 18 < o) (hob : oS S D ob T c g) (lob : ob < o ∨ q + 159 < ob) (hIa : S.1 Ia = some (100, 1820)) (lIa : Ia < o ∨ q + 159 < Ia) (hm : m ≤ 4) (hI2 : ∀ k, k < m → (∀ t : Nat, t < 455 → D Ia (455 * (k : Int) + t) = I k t) ∧ idW (I k)) (hdg : 0 ≤ dg ∧ dg ≤ 4) (hcells : ∃ cl, sqC D q cl)
    (K : ∀ (S' : Stat) (D' : Dat) (tc : Nat → Nat) (st : spst) (σ : Nat → Nat), S' = setR S q 18 (some ob) → qW q o D D' → spR c g I dg m st → sqE D' q c g tc st σ → D' q 16 = dg → D' q 17 = m → E (.inl none) B S' D') : Wp P_X7_tell E 0 [some (aR q), some (aR Ia), some (aI m), some (aR ob), some (aI dg)] [] B S D := by
  have oo := hob.2.2.1
  have q1 := hq.1
  refine wp_in ?_
  simp only [P_X7_tell, i_kil, i_icon, i_lcon, i_null, i_loadI, i_loadL, i_loadR, i_istore, i_lstore, i_astore, i_iinc, i_dup, i_dup2, i_pop, i_iadd, i_isub, i_imul, i_idiv, i_irem, i_ineg, i_iand, i_ior, i_ishl, i_ishr, i_lxor, i_ladd, i_lsub, i_lmul, i_ldiv, i_lrem, i_lneg, i_lshl, i_lcmp, i_i2l, i_l2i, i_i2b, i_i2s, i_ifeq, i_ifne, i_iflt, i_ifge, i_ifgt, i_ifle, i_cmpeq, i_cmpne, i_cmplt, i_cmpge, i_cmpgt, i_cmple, i_acmpeq, i_acmpne, i_ifnull, i_ifnonnull, i_getI, i_getR, i_putI, i_putZ, i_putR, i_ald, i_ldL, i_ldR, i_ast, i_stL, i_stR, i_alen, i_new, i_newa, i_iret, i_zret, i_lret, i_aret, i_vret, i_raise, i_throw, i_recv, i_objinit, i_tsw3, lget, lset, lput1, lput2, lkil, ltrim, largs, isL, takev, dropv, nthv, pushO, catv, gd, true_and, and_true, Option.some.injEq, Prod.mk.injEq, exists_eq_left', if_true, if_false, reduceCtorEq, Bool.false_eq_true, lcmp_ge, lcmp_lt, lcmp_le, lcmp_gt, lcmp_eq, true_or, or_true, not_true_eq_false, not_false_eq_true, false_implies, true_implies, List.length_cons, List.length_nil]
  repeat (first | refine ⟨in_small (by omega) (by omega), ?_⟩ | (show (_ → _) ∧ (_ → _); first | refine ⟨by omega, fun _ => ?_⟩ | refine ⟨fun _ => ?_, by omega⟩) | refine ⟨by omega, ?_⟩ | refine ⟨⟨_, rfl, by assumption⟩, ?_⟩ | refine ⟨okT_I _, ?_⟩ | refine ⟨okT_S (by omega) (by omega), ?_⟩ | refine ⟨okT_B (by omega) (by omega), ?_⟩ | refine call0 (gd_of rfl) ?_)
  refine sp_X7_begin hq hT hTD (by omega) hob (by omega) fun S' D1 tc eS b1 b2 b3 b4 b5 b6 b7 => ?_
  have hS2 : ∀ a i, a ≠ q ∨ i < 18 ∨ 18 < i → S'.2.1 a i = S.2.1 a i := fun a i h => by
    rw [eS]; simp only [setR, pmur]; rw [if_neg (by omega)]
  have hS1 : S'.1 = S.1 := by rw [eS]; rfl
  have sE : ∀ a n, (q < a ∨ a + n < q) → sEq S S' a n := fun a n h x h1 h2 => ⟨by rw [hS1], fun i => hS2 x i (.inl (by omega))⟩
  have hq' : sqS S' q T o := by
    obtain ⟨g1, g2, g3, g4, g5, g6, g7, g8, g9, g10, g11, g12, g13, g14, g15, g16, g17, g18, g19, g20, g21, g22, g23, g24, g25, g26, g27, g28, g29, g30, g31, g32⟩ := hq
    exact ⟨by rw [hS1]; exact g1, by rw [hS2 _ _ (.inr (.inl (by decide)))]; exact g2, by rw [hS2 _ _ (.inr (.inl (by decide)))]; exact g3, by rw [hS2 _ _ (.inr (.inl (by decide)))]; exact g4, by rw [hS1]; exact g5, by rw [hS2 _ _ (.inr (.inl (by decide)))]; exact g6, g7.sq (sE _ _ (by omega)), by rw [hS2 _ _ (.inr (.inl (by decide)))]; exact g8, by rw [hS1]; exact g9, by rw [hS2 _ _ (.inr (.inl (by decide)))]; exact g10, g11.sq (sE _ _ (by omega)), by rw [hS2 _ _ (.inr (.inl (by decide)))]; exact g12, g13.sq (sE _ _ (by omega)), by rw [hS2 _ _ (.inr (.inl (by decide)))]; exact g14, g15.sq (sE _ _ (by omega)), by rw [hS2 _ _ (.inr (.inl (by decide)))]; exact g16, by rw [hS1]; exact g17, by rw [hS2 _ _ (.inr (.inl (by decide)))]; exact g18, by rw [hS1]; exact g19, by rw [hS2 _ _ (.inr (.inl (by decide)))]; exact g20, by rw [hS1]; exact g21, by rw [hS2 _ _ (.inr (.inl (by decide)))]; exact g22, by rw [hS1]; exact g23, by rw [hS2 _ _ (.inr (.inl (by decide)))]; exact g24, by rw [hS1]; exact g25, by rw [hS2 _ _ (.inr (.inl (by decide)))]; exact g26, by rw [hS1]; exact g27, by rw [hS2 _ _ (.inr (.inl (by decide)))]; exact g28, by rw [hS1]; exact g29, by rw [hS2 _ _ (.inr (.inr (by decide)))]; exact g30, g31.sq (sE _ _ (by omega)), fun x hx => ⟨by rw [hS2 _ _ (.inl (by omega))]; exact (g32 x hx).1, (g32 x hx).2.sq (sE _ _ (by omega))⟩⟩
  have ho' : rS S' o := ho.sq (sE _ _ (by omega))
  have hT' : tS S' T := hT.sq (sE _ _ (by omega))
  have hIa' : S'.1 Ia = some (100, 1820) := by rw [hS1]; exact hIa
  have t1 := hT'.1
  obtain ⟨k1, k2, -, -, -, -, -, -, -, -, -, -, -, -, -, k16, k17, -, -, k20, k21, k22, k23, -⟩ := id hq'
  simp only [P_X7_tell, i_kil, i_icon, i_lcon, i_null, i_loadI, i_loadL, i_loadR, i_istore, i_lstore, i_astore, i_iinc, i_dup, i_dup2, i_pop, i_iadd, i_isub, i_imul, i_idiv, i_irem, i_ineg, i_iand, i_ior, i_ishl, i_ishr, i_lxor, i_ladd, i_lsub, i_lmul, i_ldiv, i_lrem, i_lneg, i_lshl, i_lcmp, i_i2l, i_l2i, i_i2b, i_i2s, i_ifeq, i_ifne, i_iflt, i_ifge, i_ifgt, i_ifle, i_cmpeq, i_cmpne, i_cmplt, i_cmpge, i_cmpgt, i_cmple, i_acmpeq, i_acmpne, i_ifnull, i_ifnonnull, i_getI, i_getR, i_putI, i_putZ, i_putR, i_ald, i_ldL, i_ldR, i_ast, i_stL, i_stR, i_alen, i_new, i_newa, i_iret, i_zret, i_lret, i_aret, i_vret, i_raise, i_throw, i_recv, i_objinit, i_tsw3, lget, lset, lput1, lput2, lkil, ltrim, largs, isL, takev, dropv, nthv, pushO, catv, gd, true_and, and_true, Option.some.injEq, Prod.mk.injEq, exists_eq_left', if_true, if_false, reduceCtorEq, Bool.false_eq_true, lcmp_ge, lcmp_lt, lcmp_le, lcmp_gt, lcmp_eq, true_or, or_true, not_true_eq_false, not_false_eq_true, false_implies, true_implies, List.length_cons, List.length_nil, k1]
  -- the state before the first multiple
  have hn : ∀ a i, (a ≠ q ∨ i ≠ 17) → pmu D1 q 17 (m : Int) a i = D1 a i := fun a i h => by simp only [pmu]; rw [if_neg (fun w => by omega)]
  generalize hD2 : pmu D1 q 17 (m : Int) = D2 at *
  have h17 : D2 q 17 = m := by rw [← hD2]; simp [pmu]
  have W2 : qW q o D D2 := fun a i h1 h2 => by rw [hn a i (.inl (by omega))]; exact b1 a i (by omega) (by omega) (by omega) (by omega) (by omega)
  have T2 : sqT D2 q c g tc := ⟨b2, fun i hi => by rw [hn _ _ (.inl (by omega)), hn _ _ (.inl (by omega))]; exact b3 i hi⟩
  obtain ⟨cl0, hcl0⟩ := hcells
  have I2 : sqI D2 q tc spst0 := ⟨1, fun _ => 0, cl0, ⟨by rw [hn _ _ (.inr (by omega))]; exact b4, Nat.zero_le _, b7.congr (fun i => hn _ _ (.inl (by omega))) (fun i => hn _ _ (.inl (by omega))), by decide, by decide, fun r hr => absurd hr (Nat.not_lt_zero r), fun r hr => by show 0 < 35; omega, hcl0.congr fun i => by rw [hn _ _ (.inl (by omega))]; exact b1 _ _ (by omega) (by omega) (by omega) (by omega) (by omega)⟩, rfl, fun r hr => absurd hr (Nat.not_lt_zero r), fun r hr => absurd hr (Nat.not_lt_zero r)⟩
  have h16 : D2 q 16 = dg := by rw [hn _ _ (.inr (by omega))]; exact b5
  have keepT : ∀ D3 : Dat, (∀ a i, a ≠ q + 17 → a ≠ q → a ≠ q + 1 → a ≠ q + 2 → a ≠ q + 3 → (a < q + 5 ∨ q + 10 < a) → a ≠ q + 13 → a ≠ q + 15 → a ≠ q + 16 → a ≠ q + 18 → a ≠ q + 19 → (a < q + 20 ∨ q + 159 < a) → (a ≤ o ∨ o + 10 < a) → D3 a i = D2 a i) → ∀ a i, (a = q + 11 ∨ a = q + 12 ∨ a < q ∨ q + 159 < a) → (a ≤ o ∨ o + 10 < a) → D3 a i = D2 a i := fun D3 h a i h1 h2 => h a i (by omega) (by omega) (by omega) (by omega) (by omega) (by omega) (by omega) (by omega) (by omega) (by omega) (by omega) (by omega) h2
  -- rows sorted
  have sorts : ∀ (D3 : Dat) (st : spst) (d : Int) (P : Nat → Nat) (cl : Nat → Nat → Int), qW q o D D3 → spR c g I dg m st → spOK st → sqT D3 q c g tc → sqD D3 q st.1 d P cl st.2.2.2.2 → sqRel tc st d P cl → D3 q 16 = dg → D3 q 17 = m → Wp P_X7_tell E 6 [some (aR q), none, none, none, none, some (aI 0)] [] B S' D3 := by
    intro D3 st d P cl w1 w2 w3 w4 w5 w6 w7 w8
    have inj : ∀ i j, i < st.1 → j < st.1 → P i = P j → i = j := fun i j hi hj e => by
      have p1 := w6.2.1 i hi
      have p2 := w6.2.1 j hj
      rw [e, p2] at p1
      have a := (w3.piv hi).2.2 i hi
      have b := (w3.piv hj).2.2 i hi
      rw [if_pos rfl] at a
      rw [p1, a] at b
      by_cases x : i = j
      · exact x
      · rw [if_neg x] at b; exact absurd b (by decide)
    have hk35 := w3.1
    -- the outer loop
    have outer : ∀ (L r : Nat) (D4 : Dat) (σ : Nat → Nat), r + L = st.1 → (∀ a i, a ≠ q + 14 → D4 a i = D3 a i) → (∀ i : Nat, i < r → D4 (q + 14) i = σ i ∧ σ i < r) → (∀ i j, i < j → j < r → P (σ i) < P (σ j)) → Wp P_X7_tell E 6 [some (aR q), none, none, none, none, some (aI r)] [] B S' D4 := by
      intro L
      induction L with
      | zero =>
        intro r D4 σ hr f1 f2 f3
        have : r = st.1 := by omega
        subst this
        have e15 : D4 q 15 = st.1 := by rw [f1 _ _ (by omega)]; exact w5.1
        refine wp_in ?_
        simp only [P_X7_tell, i_kil, i_icon, i_lcon, i_null, i_loadI, i_loadL, i_loadR, i_istore, i_lstore, i_astore, i_iinc, i_dup, i_dup2, i_pop, i_iadd, i_isub, i_imul, i_idiv, i_irem, i_ineg, i_iand, i_ior, i_ishl, i_ishr, i_lxor, i_ladd, i_lsub, i_lmul, i_ldiv, i_lrem, i_lneg, i_lshl, i_lcmp, i_i2l, i_l2i, i_i2b, i_i2s, i_ifeq, i_ifne, i_iflt, i_ifge, i_ifgt, i_ifle, i_cmpeq, i_cmpne, i_cmplt, i_cmpge, i_cmpgt, i_cmple, i_acmpeq, i_acmpne, i_ifnull, i_ifnonnull, i_getI, i_getR, i_putI, i_putZ, i_putR, i_ald, i_ldL, i_ldR, i_ast, i_stL, i_stR, i_alen, i_new, i_newa, i_iret, i_zret, i_lret, i_aret, i_vret, i_raise, i_throw, i_recv, i_objinit, i_tsw3, lget, lset, lput1, lput2, lkil, ltrim, largs, isL, takev, dropv, nthv, pushO, catv, gd, true_and, and_true, Option.some.injEq, Prod.mk.injEq, exists_eq_left', if_true, if_false, reduceCtorEq, Bool.false_eq_true, lcmp_ge, lcmp_lt, lcmp_le, lcmp_gt, lcmp_eq, true_or, or_true, not_true_eq_false, not_false_eq_true, false_implies, true_implies, List.length_cons, List.length_nil, k1, e15]
        repeat (first | refine ⟨in_small (by omega) (by omega), ?_⟩ | (show (_ → _) ∧ (_ → _); first | refine ⟨by omega, fun _ => ?_⟩ | refine ⟨fun _ => ?_, by omega⟩) | refine ⟨by omega, ?_⟩ | refine ⟨⟨_, rfl, by assumption⟩, ?_⟩ | refine ⟨okT_I _, ?_⟩ | refine ⟨okT_S (by omega) (by omega), ?_⟩ | refine ⟨okT_B (by omega) (by omega), ?_⟩ | refine call0 (gd_of rfl) ?_)
        refine K S' D4 tc st σ eS (fun a i h1 h2 => by rw [f1 a i (by omega)]; exact w1 a i h1 h2) w2 ⟨w3, ⟨w4.1, fun i hi => by rw [f1 _ _ (by omega), f1 _ _ (by omega)]; exact w4.2 i hi⟩, d, P, cl, ?_, w6, f2, f3⟩ (by rw [f1 _ _ (by omega)]; exact w7) (by rw [f1 _ _ (by omega)]; exact w8)
        obtain ⟨d1, d2, d3, d4, d5, d6, d7, d8⟩ := w5
        exact ⟨e15, d2, d3.congr (fun i => f1 _ _ (by omega)) (fun i => f1 _ _ (by omega)), d4, d5, fun r hr => by rw [f1 _ _ (by omega), f1 _ _ (by omega), f1 _ _ (by omega)]; exact d6 r hr, d7, d8.congr fun i => f1 _ _ (by omega)⟩
      | succ L ih =>
        intro r D4 σ hr f1 f2 f3
        have e15 : D4 q 15 = st.1 := by rw [f1 _ _ (by omega)]; exact w5.1
        have er : ∀ D5 : Dat, (∀ a i, a ≠ q + 14 → D5 a i = D3 a i) → ∀ j : Nat, j < st.1 → D5 (q + 13) j = P j := fun D5 h j hj => by rw [h _ _ (by omega)]; exact (w5.2.2.2.2.2.1 j hj).1
        have shift : ∀ (p : Nat) (D5 : Dat), p ≤ r → (∀ a i, a ≠ q + 14 → D5 a i = D3 a i) → (∀ i : Nat, i < p → D5 (q + 14) i = σ i) → (∀ i : Nat, p < i → i ≤ r → D5 (q + 14) i = σ (i - 1)) → (∀ i, p ≤ i → i < r → P r < P (σ i)) → Wp P_X7_tell E 7 [some (aR q), none, none, none, none, some (aI r), some (aI p)] [] B S' D5 := by
          intro p
          have fin : ∀ (p : Nat) (D5 : Dat), p ≤ r → (∀ a i, a ≠ q + 14 → D5 a i = D3 a i) → (∀ i : Nat, i < p → D5 (q + 14) i = σ i) → (∀ i : Nat, p < i → i ≤ r → D5 (q + 14) i = σ (i - 1)) → (∀ i, p ≤ i → i < r → P r < P (σ i)) → (0 < p → P (σ (p - 1)) ≤ P r) → Wp P_X7_tell E 8 [some (aR q), none, none, none, none, some (aI r), some (aI p)] [] B S' D5 := fun p D5 hp g1 g2 g3 g4 g5 => by
            refine wp_in ?_
            simp only [P_X7_tell, i_kil, i_icon, i_lcon, i_null, i_loadI, i_loadL, i_loadR, i_istore, i_lstore, i_astore, i_iinc, i_dup, i_dup2, i_pop, i_iadd, i_isub, i_imul, i_idiv, i_irem, i_ineg, i_iand, i_ior, i_ishl, i_ishr, i_lxor, i_ladd, i_lsub, i_lmul, i_ldiv, i_lrem, i_lneg, i_lshl, i_lcmp, i_i2l, i_l2i, i_i2b, i_i2s, i_ifeq, i_ifne, i_iflt, i_ifge, i_ifgt, i_ifle, i_cmpeq, i_cmpne, i_cmplt, i_cmpge, i_cmpgt, i_cmple, i_acmpeq, i_acmpne, i_ifnull, i_ifnonnull, i_getI, i_getR, i_putI, i_putZ, i_putR, i_ald, i_ldL, i_ldR, i_ast, i_stL, i_stR, i_alen, i_new, i_newa, i_iret, i_zret, i_lret, i_aret, i_vret, i_raise, i_throw, i_recv, i_objinit, i_tsw3, lget, lset, lput1, lput2, lkil, ltrim, largs, isL, takev, dropv, nthv, pushO, catv, gd, true_and, and_true, Option.some.injEq, Prod.mk.injEq, exists_eq_left', if_true, if_false, reduceCtorEq, Bool.false_eq_true, lcmp_ge, lcmp_lt, lcmp_le, lcmp_gt, lcmp_eq, true_or, or_true, not_true_eq_false, not_false_eq_true, false_implies, true_implies, List.length_cons, List.length_nil, k1, k22, k23]
            repeat (first | refine ⟨in_small (by omega) (by omega), ?_⟩ | (show (_ → _) ∧ (_ → _); first | refine ⟨by omega, fun _ => ?_⟩ | refine ⟨fun _ => ?_, by omega⟩) | refine ⟨by omega, ?_⟩ | refine ⟨⟨_, rfl, by assumption⟩, ?_⟩ | refine ⟨okT_I _, ?_⟩ | refine ⟨okT_S (by omega) (by omega), ?_⟩ | refine ⟨okT_B (by omega) (by omega), ?_⟩ | refine call0 (gd_of rfl) ?_)
            have hup : ∀ i, i < p → P (σ i) < P r := fun i hi => by
              have a := g5 (by omega)
              have b : P (σ (p - 1)) ≠ P r := fun e => by have := inj _ _ (by have := (f2 (p - 1) (by omega)).2; omega) (by omega) e; have := (f2 (p - 1) (by omega)).2; omega
              by_cases x : i = p - 1
              · rw [x]; omega
              · have := f3 i (p - 1) (by omega) (by omega); omega
            refine ih (r + 1) _ (cins σ p r) (by omega) (fun a i ha => by simp only [pmu]; rw [if_neg (fun w => ha w.1)]; exact g1 a i ha) (fun i hi => ?_) (fun i j hij hj => ?_)
            · simp only [pmu, true_and]
              unfold cins
              rcases Nat.lt_trichotomy i p with w | w | w
              · rw [if_neg (by omega), if_pos w]; exact ⟨g2 i w, by have := (f2 i (by omega)).2; omega⟩
              · rw [if_pos (by omega), if_neg (by omega), if_pos w]; exact ⟨rfl, by omega⟩
              · rw [if_neg (by omega), if_neg (by omega), if_neg (by omega)]; exact ⟨g3 i w (by omega), by have := (f2 (i - 1) (by omega)).2; omega⟩
            · unfold cins
              rcases Nat.lt_trichotomy i p with w | w | w
              · rw [if_pos w]
                rcases Nat.lt_trichotomy j p with y | y | y
                · rw [if_pos y]; exact f3 i j hij (by omega)
                · rw [if_neg (by omega), if_pos y]; exact hup i w
                · rw [if_neg (by omega), if_neg (by omega)]; exact f3 i (j - 1) (by omega) (by omega)
              · rw [if_neg (by omega), if_pos w, if_neg (by omega), if_neg (by omega)]
                exact g4 (j - 1) (by omega) (by omega)
              · rw [if_neg (by omega), if_neg (by omega), if_neg (by omega), if_neg (by omega)]
                exact f3 (i - 1) (j - 1) (by omega) (by omega)
          induction p with
          | zero =>
            intro D5 hp g1 g2 g3 g4
            refine wp_in ?_
            simp only [P_X7_tell, i_kil, i_icon, i_lcon, i_null, i_loadI, i_loadL, i_loadR, i_istore, i_lstore, i_astore, i_iinc, i_dup, i_dup2, i_pop, i_iadd, i_isub, i_imul, i_idiv, i_irem, i_ineg, i_iand, i_ior, i_ishl, i_ishr, i_lxor, i_ladd, i_lsub, i_lmul, i_ldiv, i_lrem, i_lneg, i_lshl, i_lcmp, i_i2l, i_l2i, i_i2b, i_i2s, i_ifeq, i_ifne, i_iflt, i_ifge, i_ifgt, i_ifle, i_cmpeq, i_cmpne, i_cmplt, i_cmpge, i_cmpgt, i_cmple, i_acmpeq, i_acmpne, i_ifnull, i_ifnonnull, i_getI, i_getR, i_putI, i_putZ, i_putR, i_ald, i_ldL, i_ldR, i_ast, i_stL, i_stR, i_alen, i_new, i_newa, i_iret, i_zret, i_lret, i_aret, i_vret, i_raise, i_throw, i_recv, i_objinit, i_tsw3, lget, lset, lput1, lput2, lkil, ltrim, largs, isL, takev, dropv, nthv, pushO, catv, gd, true_and, and_true, Option.some.injEq, Prod.mk.injEq, exists_eq_left', if_true, if_false, reduceCtorEq, Bool.false_eq_true, lcmp_ge, lcmp_lt, lcmp_le, lcmp_gt, lcmp_eq, true_or, or_true, not_true_eq_false, not_false_eq_true, false_implies, true_implies, List.length_cons, List.length_nil]
            repeat (first | refine ⟨in_small (by omega) (by omega), ?_⟩ | (show (_ → _) ∧ (_ → _); first | refine ⟨by omega, fun _ => ?_⟩ | refine ⟨fun _ => ?_, by omega⟩) | refine ⟨by omega, ?_⟩ | refine ⟨⟨_, rfl, by assumption⟩, ?_⟩ | refine ⟨okT_I _, ?_⟩ | refine ⟨okT_S (by omega) (by omega), ?_⟩ | refine ⟨okT_B (by omega) (by omega), ?_⟩ | refine call0 (gd_of rfl) ?_)
            exact fin 0 D5 hp g1 g2 g3 g4 fun w => by omega
          | succ p ihp =>
            intro D5 hp g1 g2 g3 g4
            have x1 : ((p + 1 : Nat) : Int) - 1 = (p : Nat) := by omega
            have e1 := g2 p (by omega)
            have s1 := (f2 p (by omega)).2
            have e2 := er D5 g1 (σ p) (by omega)
            have e3 := er D5 g1 r (by omega)
            refine wp_in ?_
            simp only [P_X7_tell, i_kil, i_icon, i_lcon, i_null, i_loadI, i_loadL, i_loadR, i_istore, i_lstore, i_astore, i_iinc, i_dup, i_dup2, i_pop, i_iadd, i_isub, i_imul, i_idiv, i_irem, i_ineg, i_iand, i_ior, i_ishl, i_ishr, i_lxor, i_ladd, i_lsub, i_lmul, i_ldiv, i_lrem, i_lneg, i_lshl, i_lcmp, i_i2l, i_l2i, i_i2b, i_i2s, i_ifeq, i_ifne, i_iflt, i_ifge, i_ifgt, i_ifle, i_cmpeq, i_cmpne, i_cmplt, i_cmpge, i_cmpgt, i_cmple, i_acmpeq, i_acmpne, i_ifnull, i_ifnonnull, i_getI, i_getR, i_putI, i_putZ, i_putR, i_ald, i_ldL, i_ldR, i_ast, i_stL, i_stR, i_alen, i_new, i_newa, i_iret, i_zret, i_lret, i_aret, i_vret, i_raise, i_throw, i_recv, i_objinit, i_tsw3, lget, lset, lput1, lput2, lkil, ltrim, largs, isL, takev, dropv, nthv, pushO, catv, gd, true_and, and_true, Option.some.injEq, Prod.mk.injEq, exists_eq_left', if_true, if_false, reduceCtorEq, Bool.false_eq_true, lcmp_ge, lcmp_lt, lcmp_le, lcmp_gt, lcmp_eq, true_or, or_true, not_true_eq_false, not_false_eq_true, false_implies, true_implies, List.length_cons, List.length_nil, k1, k20, k21, k22, k23, x1, e1, e2, e3]
            repeat (first | refine ⟨in_small (by omega) (by omega), ?_⟩ | (show (_ → _) ∧ (_ → _); first | refine ⟨by omega, fun _ => ?_⟩ | refine ⟨fun _ => ?_, by omega⟩) | refine ⟨by omega, ?_⟩ | refine ⟨⟨_, rfl, by assumption⟩, ?_⟩ | refine ⟨okT_I _, ?_⟩ | refine ⟨okT_S (by omega) (by omega), ?_⟩ | refine ⟨okT_B (by omega) (by omega), ?_⟩ | refine call0 (gd_of rfl) ?_)
            refine ⟨fun w => fin (p + 1) D5 hp g1 g2 g3 g4 fun _ => by rw [Nat.add_sub_cancel]; omega, fun w => ?_⟩
            repeat (first | refine ⟨in_small (by omega) (by omega), ?_⟩ | (show (_ → _) ∧ (_ → _); first | refine ⟨by omega, fun _ => ?_⟩ | refine ⟨fun _ => ?_, by omega⟩) | refine ⟨by omega, ?_⟩ | refine ⟨⟨_, rfl, by assumption⟩, ?_⟩ | refine ⟨okT_I _, ?_⟩ | refine ⟨okT_S (by omega) (by omega), ?_⟩ | refine ⟨okT_B (by omega) (by omega), ?_⟩ | refine call0 (gd_of rfl) ?_)
            rw [show ((p + 1 : Nat) : Int) + -1 = (p : Nat) by omega]
            refine ihp _ (by omega) (fun a i ha => by simp only [pmu]; rw [if_neg (fun w => ha w.1)]; exact g1 a i ha) (fun i hi => ?_) (fun i hi hi2 => ?_) (fun i hi hi2 => ?_)
            · simp only [pmu, true_and]; rw [if_neg (by omega)]; exact g2 i (by omega)
            · simp only [pmu, true_and]
              by_cases y : i = p + 1
              · rw [if_pos (by omega), y, Nat.add_sub_cancel]
              · rw [if_neg (by omega)]; exact g3 i (by omega) hi2
            · by_cases y : i = p
              · rw [y]; omega
              · exact g4 i (by omega) hi2
        refine wp_in ?_
        simp only [P_X7_tell, i_kil, i_icon, i_lcon, i_null, i_loadI, i_loadL, i_loadR, i_istore, i_lstore, i_astore, i_iinc, i_dup, i_dup2, i_pop, i_iadd, i_isub, i_imul, i_idiv, i_irem, i_ineg, i_iand, i_ior, i_ishl, i_ishr, i_lxor, i_ladd, i_lsub, i_lmul, i_ldiv, i_lrem, i_lneg, i_lshl, i_lcmp, i_i2l, i_l2i, i_i2b, i_i2s, i_ifeq, i_ifne, i_iflt, i_ifge, i_ifgt, i_ifle, i_cmpeq, i_cmpne, i_cmplt, i_cmpge, i_cmpgt, i_cmple, i_acmpeq, i_acmpne, i_ifnull, i_ifnonnull, i_getI, i_getR, i_putI, i_putZ, i_putR, i_ald, i_ldL, i_ldR, i_ast, i_stL, i_stR, i_alen, i_new, i_newa, i_iret, i_zret, i_lret, i_aret, i_vret, i_raise, i_throw, i_recv, i_objinit, i_tsw3, lget, lset, lput1, lput2, lkil, ltrim, largs, isL, takev, dropv, nthv, pushO, catv, gd, true_and, and_true, Option.some.injEq, Prod.mk.injEq, exists_eq_left', if_true, if_false, reduceCtorEq, Bool.false_eq_true, lcmp_ge, lcmp_lt, lcmp_le, lcmp_gt, lcmp_eq, true_or, or_true, not_true_eq_false, not_false_eq_true, false_implies, true_implies, List.length_cons, List.length_nil, k1, e15]
        repeat (first | refine ⟨in_small (by omega) (by omega), ?_⟩ | (show (_ → _) ∧ (_ → _); first | refine ⟨by omega, fun _ => ?_⟩ | refine ⟨fun _ => ?_, by omega⟩) | refine ⟨by omega, ?_⟩ | refine ⟨⟨_, rfl, by assumption⟩, ?_⟩ | refine ⟨okT_I _, ?_⟩ | refine ⟨okT_S (by omega) (by omega), ?_⟩ | refine ⟨okT_B (by omega) (by omega), ?_⟩ | refine call0 (gd_of rfl) ?_)
        exact shift r D4 (Nat.le_refl _) f1 (fun i hi => (f2 i hi).1) (fun i hi hi2 => by omega) fun i hi hi2 => by omega
    exact outer st.1 0 D3 (fun _ => 0) (by omega) (fun _ _ _ => rfl) (fun i hi => by omega) fun i j _ hj => by omega
  -- the polynomials
  have main : ∀ (L k : Nat) (D3 : Dat) (st : spst), k + L = m → qW q o D D3 → sqT D3 q c g tc → sqI D3 q tc st → spOK st → spR c g I dg k st → D3 q 16 = dg → D3 q 17 = m → Wp P_X7_tell E 1 [some (aR q), some (aR Ia), some (aI m), none, some (aI dg), some (aI k)] [] B S' D3 := by
    intro L
    induction L with
    | zero =>
      intro k D3 st hk w1 w2 w3 w4 w5 w6 w7
      have : k = m := by omega
      subst this
      refine wp_in ?_
      simp only [P_X7_tell, i_kil, i_icon, i_lcon, i_null, i_loadI, i_loadL, i_loadR, i_istore, i_lstore, i_astore, i_iinc, i_dup, i_dup2, i_pop, i_iadd, i_isub, i_imul, i_idiv, i_irem, i_ineg, i_iand, i_ior, i_ishl, i_ishr, i_lxor, i_ladd, i_lsub, i_lmul, i_ldiv, i_lrem, i_lneg, i_lshl, i_lcmp, i_i2l, i_l2i, i_i2b, i_i2s, i_ifeq, i_ifne, i_iflt, i_ifge, i_ifgt, i_ifle, i_cmpeq, i_cmpne, i_cmplt, i_cmpge, i_cmpgt, i_cmple, i_acmpeq, i_acmpne, i_ifnull, i_ifnonnull, i_getI, i_getR, i_putI, i_putZ, i_putR, i_ald, i_ldL, i_ldR, i_ast, i_stL, i_stR, i_alen, i_new, i_newa, i_iret, i_zret, i_lret, i_aret, i_vret, i_raise, i_throw, i_recv, i_objinit, i_tsw3, lget, lset, lput1, lput2, lkil, ltrim, largs, isL, takev, dropv, nthv, pushO, catv, gd, true_and, and_true, Option.some.injEq, Prod.mk.injEq, exists_eq_left', if_true, if_false, reduceCtorEq, Bool.false_eq_true, lcmp_ge, lcmp_lt, lcmp_le, lcmp_gt, lcmp_eq, true_or, or_true, not_true_eq_false, not_false_eq_true, false_implies, true_implies, List.length_cons, List.length_nil]
      repeat (first | refine ⟨in_small (by omega) (by omega), ?_⟩ | (show (_ → _) ∧ (_ → _); first | refine ⟨by omega, fun _ => ?_⟩ | refine ⟨fun _ => ?_, by omega⟩) | refine ⟨by omega, ?_⟩ | refine ⟨⟨_, rfl, by assumption⟩, ?_⟩ | refine ⟨okT_I _, ?_⟩ | refine ⟨okT_S (by omega) (by omega), ?_⟩ | refine ⟨okT_B (by omega) (by omega), ?_⟩ | refine call0 (gd_of rfl) ?_)
      obtain ⟨d, P, cl, hD3, hR3⟩ := w3
      exact sorts D3 st d P cl w1 w5 w4 w2 hD3 hR3 w6 w7
    | succ L ih =>
      intro k D3 st0 hk w1 w2 w3 w4 w5 w6 w7
      obtain ⟨hIk, hWk⟩ := hI2 k (by omega)
      -- the degree
      have dloop : ∀ (L2 t : Nat), t + L2 = 455 → True → Wp P_X7_tell E 2 [some (aR q), some (aR Ia), some (aI m), none, some (aI dg), some (aI k), some (aI (degI (idQ (I k)) t)), some (aI t)] [] B S' D3 := by
        -- the multiples
        have mloop : ∀ (n : Nat) (D4 : Dat) (Ls : List Nat), n ≤ 35 → qW q o D D4 → sqT D4 q c g tc → sqI D4 q tc (spF c g (I k) k Ls st0) → isAsc c g Ls → (∀ t, t ∈ Ls ↔ spM (I k) dg t ∧ ∃ j, n ≤ j ∧ j < 35 ∧ tc j = t) → D4 q 16 = dg → D4 q 17 = m → Wp P_X7_tell E 4 [some (aR q), some (aR Ia), some (aI m), none, some (aI dg), some (aI k), some (aI (degI (idQ (I k)) 455)), some (aI ((n : Int) - 1))] [] B S' D4 := by
          intro n
          have hspw : ∀ u, spM (I k) dg u → ∀ t, t < 455 → I k t ≠ 0 → tdg t + tdg u ≤ 4 := fun u hu t ht h0 => by
            have hI := degI_is (φ := idQ (I k)) ⟨t, ht, fun e => h0 (Rat.intCast_inj.mp e)⟩
            have := hI.2 t ht (fun e => h0 (Rat.intCast_inj.mp e))
            have := hu.2.2
            omega
          have hlok : ∀ Ls : List Nat, (∀ t, t ∈ Ls → spM (I k) dg t) → spOK (spF c g (I k) k Ls st0) := fun Ls h => spF_ok oo Ls st0 (fun u hu => mulV_w hWk (hspw u (h u hu))) w4
          induction n with
          | zero =>
            intro D4 Ls hn v1 v2 v3 v4 v5 v6 v7
            refine wp_in ?_
            simp only [P_X7_tell, i_kil, i_icon, i_lcon, i_null, i_loadI, i_loadL, i_loadR, i_istore, i_lstore, i_astore, i_iinc, i_dup, i_dup2, i_pop, i_iadd, i_isub, i_imul, i_idiv, i_irem, i_ineg, i_iand, i_ior, i_ishl, i_ishr, i_lxor, i_ladd, i_lsub, i_lmul, i_ldiv, i_lrem, i_lneg, i_lshl, i_lcmp, i_i2l, i_l2i, i_i2b, i_i2s, i_ifeq, i_ifne, i_iflt, i_ifge, i_ifgt, i_ifle, i_cmpeq, i_cmpne, i_cmplt, i_cmpge, i_cmpgt, i_cmple, i_acmpeq, i_acmpne, i_ifnull, i_ifnonnull, i_getI, i_getR, i_putI, i_putZ, i_putR, i_ald, i_ldL, i_ldR, i_ast, i_stL, i_stR, i_alen, i_new, i_newa, i_iret, i_zret, i_lret, i_aret, i_vret, i_raise, i_throw, i_recv, i_objinit, i_tsw3, lget, lset, lput1, lput2, lkil, ltrim, largs, isL, takev, dropv, nthv, pushO, catv, gd, true_and, and_true, Option.some.injEq, Prod.mk.injEq, exists_eq_left', if_true, if_false, reduceCtorEq, Bool.false_eq_true, lcmp_ge, lcmp_lt, lcmp_le, lcmp_gt, lcmp_eq, true_or, or_true, not_true_eq_false, not_false_eq_true, false_implies, true_implies, List.length_cons, List.length_nil]
            repeat (first | refine ⟨in_small (by omega) (by omega), ?_⟩ | (show (_ → _) ∧ (_ → _); first | refine ⟨by omega, fun _ => ?_⟩ | refine ⟨fun _ => ?_, by omega⟩) | refine ⟨by omega, ?_⟩ | refine ⟨⟨_, rfl, by assumption⟩, ?_⟩ | refine ⟨okT_I _, ?_⟩ | refine ⟨okT_S (by omega) (by omega), ?_⟩ | refine ⟨okT_B (by omega) (by omega), ?_⟩ | refine call0 (gd_of rfl) ?_)
            refine ih (k + 1) D4 (spF c g (I k) k Ls st0) (by omega) v1 v2 v3 (hlok Ls fun t ht => ((v5 t).mp ht).1) ⟨st0, Ls, w5, v4, fun t => ?_, rfl⟩ v6 v7
            rw [v5 t]
            refine ⟨fun h => h.1, fun h => ⟨h, ?_⟩⟩
            obtain ⟨j, hj, e⟩ := v2.1.2.2 t h.1 h.2.1
            exact ⟨j, Nat.zero_le _, hj, e⟩
          | succ n ihn =>
            intro D4 Ls hn v1 v2 v3 v4 v5 v6 v7
            have x1 : ((n + 1 : Nat) : Int) - 1 = (n : Nat) := by omega
            have e1 := (v2.2 n (by omega)).1
            have b0 := v2.1.1 n (by omega)
            have TD4 : tD D4 T := hTD.congr fun a i a1 a2 => v1 a i (by omega) (by omega)
            have dl : -7 ≤ degI (idQ (I k)) 455 ∧ degI (idQ (I k)) 455 ≤ 12 := by
              rcases degI_law (φ := idQ (I k)) 455 with ⟨h, _⟩ | ⟨⟨t, h1, _, h2⟩, _⟩
              · omega
              · have := tx_le h1; have e : tdg t = tx0 t + tx1 t + tx2 t := rfl; omega
            have next : ∀ (D5 : Dat) (Ls' : List Nat), qW q o D D5 → sqT D5 q c g tc → sqI D5 q tc (spF c g (I k) k Ls' st0) → isAsc c g Ls' → (∀ t, t ∈ Ls' ↔ spM (I k) dg t ∧ ∃ j, n ≤ j ∧ j < 35 ∧ tc j = t) → D5 q 16 = dg → D5 q 17 = m → Wp P_X7_tell E 5 [some (aR q), some (aR Ia), some (aI m), none, some (aI dg), some (aI k), some (aI (degI (idQ (I k)) 455)), some (aI (n : Nat))] [] B S' D5 := fun D5 Ls' a1 a2 a3 a4 a5 a6 a7 => by
              refine wp_in ?_
              simp only [P_X7_tell, i_kil, i_icon, i_lcon, i_null, i_loadI, i_loadL, i_loadR, i_istore, i_lstore, i_astore, i_iinc, i_dup, i_dup2, i_pop, i_iadd, i_isub, i_imul, i_idiv, i_irem, i_ineg, i_iand, i_ior, i_ishl, i_ishr, i_lxor, i_ladd, i_lsub, i_lmul, i_ldiv, i_lrem, i_lneg, i_lshl, i_lcmp, i_i2l, i_l2i, i_i2b, i_i2s, i_ifeq, i_ifne, i_iflt, i_ifge, i_ifgt, i_ifle, i_cmpeq, i_cmpne, i_cmplt, i_cmpge, i_cmpgt, i_cmple, i_acmpeq, i_acmpne, i_ifnull, i_ifnonnull, i_getI, i_getR, i_putI, i_putZ, i_putR, i_ald, i_ldL, i_ldR, i_ast, i_stL, i_stR, i_alen, i_new, i_newa, i_iret, i_zret, i_lret, i_aret, i_vret, i_raise, i_throw, i_recv, i_objinit, i_tsw3, lget, lset, lput1, lput2, lkil, ltrim, largs, isL, takev, dropv, nthv, pushO, catv, gd, true_and, and_true, Option.some.injEq, Prod.mk.injEq, exists_eq_left', if_true, if_false, reduceCtorEq, Bool.false_eq_true, lcmp_ge, lcmp_lt, lcmp_le, lcmp_gt, lcmp_eq, true_or, or_true, not_true_eq_false, not_false_eq_true, false_implies, true_implies, List.length_cons, List.length_nil]
              repeat (first | refine ⟨in_small (by omega) (by omega), ?_⟩ | (show (_ → _) ∧ (_ → _); first | refine ⟨by omega, fun _ => ?_⟩ | refine ⟨fun _ => ?_, by omega⟩) | refine ⟨by omega, ?_⟩ | refine ⟨⟨_, rfl, by assumption⟩, ?_⟩ | refine ⟨okT_I _, ?_⟩ | refine ⟨okT_S (by omega) (by omega), ?_⟩ | refine ⟨okT_B (by omega) (by omega), ?_⟩ | refine call0 (gd_of rfl) ?_)
              exact ihn D5 Ls' (by omega) a1 a2 a3 a4 a5 a6 a7
            refine wp_in ?_
            rw [x1]
            simp only [P_X7_tell, i_kil, i_icon, i_lcon, i_null, i_loadI, i_loadL, i_loadR, i_istore, i_lstore, i_astore, i_iinc, i_dup, i_dup2, i_pop, i_iadd, i_isub, i_imul, i_idiv, i_irem, i_ineg, i_iand, i_ior, i_ishl, i_ishr, i_lxor, i_ladd, i_lsub, i_lmul, i_ldiv, i_lrem, i_lneg, i_lshl, i_lcmp, i_i2l, i_l2i, i_i2b, i_i2s, i_ifeq, i_ifne, i_iflt, i_ifge, i_ifgt, i_ifle, i_cmpeq, i_cmpne, i_cmplt, i_cmpge, i_cmpgt, i_cmple, i_acmpeq, i_acmpne, i_ifnull, i_ifnonnull, i_getI, i_getR, i_putI, i_putZ, i_putR, i_ald, i_ldL, i_ldR, i_ast, i_stL, i_stR, i_alen, i_new, i_newa, i_iret, i_zret, i_lret, i_aret, i_vret, i_raise, i_throw, i_recv, i_objinit, i_tsw3, lget, lset, lput1, lput2, lkil, ltrim, largs, isL, takev, dropv, nthv, pushO, catv, gd, true_and, and_true, Option.some.injEq, Prod.mk.injEq, exists_eq_left', if_true, if_false, reduceCtorEq, Bool.false_eq_true, lcmp_ge, lcmp_lt, lcmp_le, lcmp_gt, lcmp_eq, true_or, or_true, not_true_eq_false, not_false_eq_true, false_implies, true_implies, List.length_cons, List.length_nil, k1, k2, k16, k17, e1, t1]
            repeat (first | refine ⟨in_small (by omega) (by omega), ?_⟩ | (show (_ → _) ∧ (_ → _); first | refine ⟨by omega, fun _ => ?_⟩ | refine ⟨fun _ => ?_, by omega⟩) | refine ⟨by omega, ?_⟩ | refine ⟨⟨_, rfl, by assumption⟩, ?_⟩ | refine ⟨okT_I _, ?_⟩ | refine ⟨okT_S (by omega) (by omega), ?_⟩ | refine ⟨okT_B (by omega) (by omega), ?_⟩ | refine call0 (gd_of rfl) ?_)
            refine degree_at hT' TD4 b0.1 rfl ?_
            simp only [P_X7_tell, i_kil, i_icon, i_lcon, i_null, i_loadI, i_loadL, i_loadR, i_istore, i_lstore, i_astore, i_iinc, i_dup, i_dup2, i_pop, i_iadd, i_isub, i_imul, i_idiv, i_irem, i_ineg, i_iand, i_ior, i_ishl, i_ishr, i_lxor, i_ladd, i_lsub, i_lmul, i_ldiv, i_lrem, i_lneg, i_lshl, i_lcmp, i_i2l, i_l2i, i_i2b, i_i2s, i_ifeq, i_ifne, i_iflt, i_ifge, i_ifgt, i_ifle, i_cmpeq, i_cmpne, i_cmplt, i_cmpge, i_cmpgt, i_cmple, i_acmpeq, i_acmpne, i_ifnull, i_ifnonnull, i_getI, i_getR, i_putI, i_putZ, i_putR, i_ald, i_ldL, i_ldR, i_ast, i_stL, i_stR, i_alen, i_new, i_newa, i_iret, i_zret, i_lret, i_aret, i_vret, i_raise, i_throw, i_recv, i_objinit, i_tsw3, lget, lset, lput1, lput2, lkil, ltrim, largs, isL, takev, dropv, nthv, pushO, catv, gd, true_and, and_true, Option.some.injEq, Prod.mk.injEq, exists_eq_left', if_true, if_false, reduceCtorEq, Bool.false_eq_true, lcmp_ge, lcmp_lt, lcmp_le, lcmp_gt, lcmp_eq, true_or, or_true, not_true_eq_false, not_false_eq_true, false_implies, true_implies, List.length_cons, List.length_nil, k1, k16, k17, e1]
            repeat (first | refine ⟨in_small (by omega) (by omega), ?_⟩ | (show (_ → _) ∧ (_ → _); first | refine ⟨by omega, fun _ => ?_⟩ | refine ⟨fun _ => ?_, by omega⟩) | refine ⟨by omega, ?_⟩ | refine ⟨⟨_, rfl, by assumption⟩, ?_⟩ | refine ⟨okT_I _, ?_⟩ | refine ⟨okT_S (by omega) (by omega), ?_⟩ | refine ⟨okT_B (by omega) (by omega), ?_⟩ | refine call0 (gd_of rfl) ?_)
            refine ⟨fun w => next D4 Ls v1 v2 v3 v4 (fun t => ?_) v6 v7, fun w => ?_⟩
            · rw [v5 t]
              refine ⟨fun h => ⟨h.1, by obtain ⟨j, j1, j2, j3⟩ := h.2; exact ⟨j, by omega, j2, j3⟩⟩, fun h => ⟨h.1, ?_⟩⟩
              obtain ⟨j, j1, j2, j3⟩ := h.2
              by_cases y : j = n
              · have := h.1.2.2; rw [← j3, y] at this; omega
              · exact ⟨j, by omega, j2, j3⟩
            · repeat (first | refine ⟨in_small (by omega) (by omega), ?_⟩ | (show (_ → _) ∧ (_ → _); first | refine ⟨by omega, fun _ => ?_⟩ | refine ⟨fun _ => ?_, by omega⟩) | refine ⟨by omega, ?_⟩ | refine ⟨⟨_, rfl, by assumption⟩, ?_⟩ | refine ⟨okT_I _, ?_⟩ | refine ⟨okT_S (by omega) (by omega), ?_⟩ | refine ⟨okT_B (by omega) (by omega), ?_⟩ | refine call0 (gd_of rfl) ?_)
              have hsm : spM (I k) dg (tc n) := ⟨b0.1, b0.2, by omega⟩
              have hIk4 : ∀ t : Nat, t < 455 → D4 Ia (455 * (k : Int) + t) = I k t := fun t ht => by rw [v1 _ _ (by omega) (by omega)]; exact hIk t ht
              refine sp_X7_multiple (k := k) hq' ho' hoq hT' TD4 lT oo v2 v3 (hlok Ls fun t ht => ((v5 t).mp ht).1) hIa' (by omega) (by omega) hIk4 hWk b0.1 (hspw _ hsm) rfl rfl fun D5 f1 f2 f3 => ?_
              simp only [P_X7_tell, i_kil, i_icon, i_lcon, i_null, i_loadI, i_loadL, i_loadR, i_istore, i_lstore, i_astore, i_iinc, i_dup, i_dup2, i_pop, i_iadd, i_isub, i_imul, i_idiv, i_irem, i_ineg, i_iand, i_ior, i_ishl, i_ishr, i_lxor, i_ladd, i_lsub, i_lmul, i_ldiv, i_lrem, i_lneg, i_lshl, i_lcmp, i_i2l, i_l2i, i_i2b, i_i2s, i_ifeq, i_ifne, i_iflt, i_ifge, i_ifgt, i_ifle, i_cmpeq, i_cmpne, i_cmplt, i_cmpge, i_cmpgt, i_cmple, i_acmpeq, i_acmpne, i_ifnull, i_ifnonnull, i_getI, i_getR, i_putI, i_putZ, i_putR, i_ald, i_ldL, i_ldR, i_ast, i_stL, i_stR, i_alen, i_new, i_newa, i_iret, i_zret, i_lret, i_aret, i_vret, i_raise, i_throw, i_recv, i_objinit, i_tsw3, lget, lset, lput1, lput2, lkil, ltrim, largs, isL, takev, dropv, nthv, pushO, catv, gd, true_and, and_true, Option.some.injEq, Prod.mk.injEq, exists_eq_left', if_true, if_false, reduceCtorEq, Bool.false_eq_true, lcmp_ge, lcmp_lt, lcmp_le, lcmp_gt, lcmp_eq, true_or, or_true, not_true_eq_false, not_false_eq_true, false_implies, true_implies, List.length_cons, List.length_nil]
              refine next D5 (Ls ++ [tc n]) (fun a i a1 a2 => by rw [f1 a i (by omega) (by omega) (by omega) (by omega) (by omega) (by omega) (by omega) (by omega) (by omega) (by omega) (by omega) (by omega) a2]; exact v1 a i a1 a2) ⟨v2.1, fun i hi => by rw [f1 _ _ (by omega) (by omega) (by omega) (by omega) (by omega) (by omega) (by omega) (by omega) (by omega) (by omega) (by omega) (by omega) (by omega), f1 _ _ (by omega) (by omega) (by omega) (by omega) (by omega) (by omega) (by omega) (by omega) (by omega) (by omega) (by omega) (by omega) (by omega)]; exact v2.2 i hi⟩ (by rw [spF_snoc]; exact f3) (asc_snoc oo v4 fun u hu => ?_) (fun t => ?_) (by rw [f2 _ (by decide)]; exact v6) (by rw [f2 _ (by decide)]; exact v7)
              · obtain ⟨j, j1, j2, j3⟩ := ((v5 u).mp hu).2
                rw [← j3]; exact v2.1.2.1 n j (by omega) j2
              · rw [List.mem_append, List.mem_singleton, v5 t]
                constructor
                · rintro (⟨h, j, j1, j2, j3⟩ | h)
                  · exact ⟨h, j, by omega, j2, j3⟩
                  · rw [h]; exact ⟨hsm, n, Nat.le_refl _, by omega, rfl⟩
                · rintro ⟨h, j, j1, j2, j3⟩
                  by_cases y : j = n
                  · right; rw [← j3, y]
                  · left; exact ⟨h, j, by omega, j2, j3⟩
        intro L2
        induction L2 with
        | zero =>
          intro t ht _
          have : t = 455 := by omega
          subst this
          refine wp_in ?_
          simp only [P_X7_tell, i_kil, i_icon, i_lcon, i_null, i_loadI, i_loadL, i_loadR, i_istore, i_lstore, i_astore, i_iinc, i_dup, i_dup2, i_pop, i_iadd, i_isub, i_imul, i_idiv, i_irem, i_ineg, i_iand, i_ior, i_ishl, i_ishr, i_lxor, i_ladd, i_lsub, i_lmul, i_ldiv, i_lrem, i_lneg, i_lshl, i_lcmp, i_i2l, i_l2i, i_i2b, i_i2s, i_ifeq, i_ifne, i_iflt, i_ifge, i_ifgt, i_ifle, i_cmpeq, i_cmpne, i_cmplt, i_cmpge, i_cmpgt, i_cmple, i_acmpeq, i_acmpne, i_ifnull, i_ifnonnull, i_getI, i_getR, i_putI, i_putZ, i_putR, i_ald, i_ldL, i_ldR, i_ast, i_stL, i_stR, i_alen, i_new, i_newa, i_iret, i_zret, i_lret, i_aret, i_vret, i_raise, i_throw, i_recv, i_objinit, i_tsw3, lget, lset, lput1, lput2, lkil, ltrim, largs, isL, takev, dropv, nthv, pushO, catv, gd, true_and, and_true, Option.some.injEq, Prod.mk.injEq, exists_eq_left', if_true, if_false, reduceCtorEq, Bool.false_eq_true, lcmp_ge, lcmp_lt, lcmp_le, lcmp_gt, lcmp_eq, true_or, or_true, not_true_eq_false, not_false_eq_true, false_implies, true_implies, List.length_cons, List.length_nil]
          repeat (first | refine ⟨in_small (by omega) (by omega), ?_⟩ | (show (_ → _) ∧ (_ → _); first | refine ⟨by omega, fun _ => ?_⟩ | refine ⟨fun _ => ?_, by omega⟩) | refine ⟨by omega, ?_⟩ | refine ⟨⟨_, rfl, by assumption⟩, ?_⟩ | refine ⟨okT_I _, ?_⟩ | refine ⟨okT_S (by omega) (by omega), ?_⟩ | refine ⟨okT_B (by omega) (by omega), ?_⟩ | refine call0 (gd_of rfl) ?_)
          exact mloop 35 D3 [] (by omega) w1 w2 w3 List.Pairwise.nil (fun t => ⟨fun h => by simp at h, fun ⟨_, j, j1, j2, _⟩ => by omega⟩) w6 w7
        | succ L2 ih2 =>
          intro t ht _
          have TD3 : tD D3 T := hTD.congr fun a i a1 a2 => w1 a i (by omega) (by omega)
          have e1 : D3 Ia (455 * (k : Int) + t) = I k t := by rw [w1 _ _ (by omega) (by omega)]; exact hIk t (by omega)
          have next : ∀ x : Int, x = degI (idQ (I k)) (t + 1) → Wp P_X7_tell E 3 [some (aR q), some (aR Ia), some (aI m), none, some (aI dg), some (aI k), some (aI x), some (aI t)] [] B S' D3 := fun x hx => by
            subst hx
            refine wp_in ?_
            simp only [P_X7_tell, i_kil, i_icon, i_lcon, i_null, i_loadI, i_loadL, i_loadR, i_istore, i_lstore, i_astore, i_iinc, i_dup, i_dup2, i_pop, i_iadd, i_isub, i_imul, i_idiv, i_irem, i_ineg, i_iand, i_ior, i_ishl, i_ishr, i_lxor, i_ladd, i_lsub, i_lmul, i_ldiv, i_lrem, i_lneg, i_lshl, i_lcmp, i_i2l, i_l2i, i_i2b, i_i2s, i_ifeq, i_ifne, i_iflt, i_ifge, i_ifgt, i_ifle, i_cmpeq, i_cmpne, i_cmplt, i_cmpge, i_cmpgt, i_cmple, i_acmpeq, i_acmpne, i_ifnull, i_ifnonnull, i_getI, i_getR, i_putI, i_putZ, i_putR, i_ald, i_ldL, i_ldR, i_ast, i_stL, i_stR, i_alen, i_new, i_newa, i_iret, i_zret, i_lret, i_aret, i_vret, i_raise, i_throw, i_recv, i_objinit, i_tsw3, lget, lset, lput1, lput2, lkil, ltrim, largs, isL, takev, dropv, nthv, pushO, catv, gd, true_and, and_true, Option.some.injEq, Prod.mk.injEq, exists_eq_left', if_true, if_false, reduceCtorEq, Bool.false_eq_true, lcmp_ge, lcmp_lt, lcmp_le, lcmp_gt, lcmp_eq, true_or, or_true, not_true_eq_false, not_false_eq_true, false_implies, true_implies, List.length_cons, List.length_nil]
            repeat (first | refine ⟨in_small (by omega) (by omega), ?_⟩ | (show (_ → _) ∧ (_ → _); first | refine ⟨by omega, fun _ => ?_⟩ | refine ⟨fun _ => ?_, by omega⟩) | refine ⟨by omega, ?_⟩ | refine ⟨⟨_, rfl, by assumption⟩, ?_⟩ | refine ⟨okT_I _, ?_⟩ | refine ⟨okT_S (by omega) (by omega), ?_⟩ | refine ⟨okT_B (by omega) (by omega), ?_⟩ | refine call0 (gd_of rfl) ?_)
            exact ih2 (t + 1) (by omega) trivial
          have hz : idQ (I k) t = 0 ↔ I k t = 0 := ⟨fun e => Rat.intCast_inj.mp e, fun e => by unfold idQ; rw [e]; rfl⟩
          refine wp_in ?_
          simp only [P_X7_tell, i_kil, i_icon, i_lcon, i_null, i_loadI, i_loadL, i_loadR, i_istore, i_lstore, i_astore, i_iinc, i_dup, i_dup2, i_pop, i_iadd, i_isub, i_imul, i_idiv, i_irem, i_ineg, i_iand, i_ior, i_ishl, i_ishr, i_lxor, i_ladd, i_lsub, i_lmul, i_ldiv, i_lrem, i_lneg, i_lshl, i_lcmp, i_i2l, i_l2i, i_i2b, i_i2s, i_ifeq, i_ifne, i_iflt, i_ifge, i_ifgt, i_ifle, i_cmpeq, i_cmpne, i_cmplt, i_cmpge, i_cmpgt, i_cmple, i_acmpeq, i_acmpne, i_ifnull, i_ifnonnull, i_getI, i_getR, i_putI, i_putZ, i_putR, i_ald, i_ldL, i_ldR, i_ast, i_stL, i_stR, i_alen, i_new, i_newa, i_iret, i_zret, i_lret, i_aret, i_vret, i_raise, i_throw, i_recv, i_objinit, i_tsw3, lget, lset, lput1, lput2, lkil, ltrim, largs, isL, takev, dropv, nthv, pushO, catv, gd, true_and, and_true, Option.some.injEq, Prod.mk.injEq, exists_eq_left', if_true, if_false, reduceCtorEq, Bool.false_eq_true, lcmp_ge, lcmp_lt, lcmp_le, lcmp_gt, lcmp_eq, true_or, or_true, not_true_eq_false, not_false_eq_true, false_implies, true_implies, List.length_cons, List.length_nil, k1, k2, t1]
          repeat (first | refine ⟨in_small (by omega) (by omega), ?_⟩ | (show (_ → _) ∧ (_ → _); first | refine ⟨by omega, fun _ => ?_⟩ | refine ⟨fun _ => ?_, by omega⟩) | refine ⟨by omega, ?_⟩ | refine ⟨⟨_, rfl, by assumption⟩, ?_⟩ | refine ⟨okT_I _, ?_⟩ | refine ⟨okT_S (by omega) (by omega), ?_⟩ | refine ⟨okT_B (by omega) (by omega), ?_⟩ | refine call0 (gd_of rfl) ?_)
          refine degree_at hT' TD3 (t := t) (by omega) rfl ?_
          simp only [P_X7_tell, i_kil, i_icon, i_lcon, i_null, i_loadI, i_loadL, i_loadR, i_istore, i_lstore, i_astore, i_iinc, i_dup, i_dup2, i_pop, i_iadd, i_isub, i_imul, i_idiv, i_irem, i_ineg, i_iand, i_ior, i_ishl, i_ishr, i_lxor, i_ladd, i_lsub, i_lmul, i_ldiv, i_lrem, i_lneg, i_lshl, i_lcmp, i_i2l, i_l2i, i_i2b, i_i2s, i_ifeq, i_ifne, i_iflt, i_ifge, i_ifgt, i_ifle, i_cmpeq, i_cmpne, i_cmplt, i_cmpge, i_cmpgt, i_cmple, i_acmpeq, i_acmpne, i_ifnull, i_ifnonnull, i_getI, i_getR, i_putI, i_putZ, i_putR, i_ald, i_ldL, i_ldR, i_ast, i_stL, i_stR, i_alen, i_new, i_newa, i_iret, i_zret, i_lret, i_aret, i_vret, i_raise, i_throw, i_recv, i_objinit, i_tsw3, lget, lset, lput1, lput2, lkil, ltrim, largs, isL, takev, dropv, nthv, pushO, catv, gd, true_and, and_true, Option.some.injEq, Prod.mk.injEq, exists_eq_left', if_true, if_false, reduceCtorEq, Bool.false_eq_true, lcmp_ge, lcmp_lt, lcmp_le, lcmp_gt, lcmp_eq, true_or, or_true, not_true_eq_false, not_false_eq_true, false_implies, true_implies, List.length_cons, List.length_nil, hIa', e1]
          refine ⟨fun w => next _ ?_, fun w => ?_⟩
          · have h0 : I k t = 0 := Classical.byContradiction fun x => by have := hWk.2 t (by omega) x; omega
            simp only [degI]; rw [if_pos (hz.mpr h0)]
          · repeat (first | refine ⟨in_small (by omega) (by omega), ?_⟩ | (show (_ → _) ∧ (_ → _); first | refine ⟨by omega, fun _ => ?_⟩ | refine ⟨fun _ => ?_, by omega⟩) | refine ⟨by omega, ?_⟩ | refine ⟨⟨_, rfl, by assumption⟩, ?_⟩ | refine ⟨okT_I _, ?_⟩ | refine ⟨okT_S (by omega) (by omega), ?_⟩ | refine ⟨okT_B (by omega) (by omega), ?_⟩ | refine call0 (gd_of rfl) ?_)
            refine ⟨fun h0 => next _ ?_, fun h0 => ?_⟩
            · simp only [degI]; rw [if_pos (hz.mpr h0)]
            · simp only [P_X7_tell, i_kil, i_icon, i_lcon, i_null, i_loadI, i_loadL, i_loadR, i_istore, i_lstore, i_astore, i_iinc, i_dup, i_dup2, i_pop, i_iadd, i_isub, i_imul, i_idiv, i_irem, i_ineg, i_iand, i_ior, i_ishl, i_ishr, i_lxor, i_ladd, i_lsub, i_lmul, i_ldiv, i_lrem, i_lneg, i_lshl, i_lcmp, i_i2l, i_l2i, i_i2b, i_i2s, i_ifeq, i_ifne, i_iflt, i_ifge, i_ifgt, i_ifle, i_cmpeq, i_cmpne, i_cmplt, i_cmpge, i_cmpgt, i_cmple, i_acmpeq, i_acmpne, i_ifnull, i_ifnonnull, i_getI, i_getR, i_putI, i_putZ, i_putR, i_ald, i_ldL, i_ldR, i_ast, i_stL, i_stR, i_alen, i_new, i_newa, i_iret, i_zret, i_lret, i_aret, i_vret, i_raise, i_throw, i_recv, i_objinit, i_tsw3, lget, lset, lput1, lput2, lkil, ltrim, largs, isL, takev, dropv, nthv, pushO, catv, gd, true_and, and_true, Option.some.injEq, Prod.mk.injEq, exists_eq_left', if_true, if_false, reduceCtorEq, Bool.false_eq_true, lcmp_ge, lcmp_lt, lcmp_le, lcmp_gt, lcmp_eq, true_or, or_true, not_true_eq_false, not_false_eq_true, false_implies, true_implies, List.length_cons, List.length_nil, k1, k2, t1]
              repeat (first | refine ⟨in_small (by omega) (by omega), ?_⟩ | (show (_ → _) ∧ (_ → _); first | refine ⟨by omega, fun _ => ?_⟩ | refine ⟨fun _ => ?_, by omega⟩) | refine ⟨by omega, ?_⟩ | refine ⟨⟨_, rfl, by assumption⟩, ?_⟩ | refine ⟨okT_I _, ?_⟩ | refine ⟨okT_S (by omega) (by omega), ?_⟩ | refine ⟨okT_B (by omega) (by omega), ?_⟩ | refine call0 (gd_of rfl) ?_)
              refine degree_at hT' TD3 (t := t) (by omega) rfl ?_
              simp only [P_X7_tell, i_kil, i_icon, i_lcon, i_null, i_loadI, i_loadL, i_loadR, i_istore, i_lstore, i_astore, i_iinc, i_dup, i_dup2, i_pop, i_iadd, i_isub, i_imul, i_idiv, i_irem, i_ineg, i_iand, i_ior, i_ishl, i_ishr, i_lxor, i_ladd, i_lsub, i_lmul, i_ldiv, i_lrem, i_lneg, i_lshl, i_lcmp, i_i2l, i_l2i, i_i2b, i_i2s, i_ifeq, i_ifne, i_iflt, i_ifge, i_ifgt, i_ifle, i_cmpeq, i_cmpne, i_cmplt, i_cmpge, i_cmpgt, i_cmple, i_acmpeq, i_acmpne, i_ifnull, i_ifnonnull, i_getI, i_getR, i_putI, i_putZ, i_putR, i_ald, i_ldL, i_ldR, i_ast, i_stL, i_stR, i_alen, i_new, i_newa, i_iret, i_zret, i_lret, i_aret, i_vret, i_raise, i_throw, i_recv, i_objinit, i_tsw3, lget, lset, lput1, lput2, lkil, ltrim, largs, isL, takev, dropv, nthv, pushO, catv, gd, true_and, and_true, Option.some.injEq, Prod.mk.injEq, exists_eq_left', if_true, if_false, reduceCtorEq, Bool.false_eq_true, lcmp_ge, lcmp_lt, lcmp_le, lcmp_gt, lcmp_eq, true_or, or_true, not_true_eq_false, not_false_eq_true, false_implies, true_implies, List.length_cons, List.length_nil]
              repeat (first | refine ⟨in_small (by omega) (by omega), ?_⟩ | (show (_ → _) ∧ (_ → _); first | refine ⟨by omega, fun _ => ?_⟩ | refine ⟨fun _ => ?_, by omega⟩) | refine ⟨by omega, ?_⟩ | refine ⟨⟨_, rfl, by assumption⟩, ?_⟩ | refine ⟨okT_I _, ?_⟩ | refine ⟨okT_S (by omega) (by omega), ?_⟩ | refine ⟨okT_B (by omega) (by omega), ?_⟩ | refine call0 (gd_of rfl) ?_)
              refine sp_J9_max ?_
              simp only [P_X7_tell, i_kil, i_icon, i_lcon, i_null, i_loadI, i_loadL, i_loadR, i_istore, i_lstore, i_astore, i_iinc, i_dup, i_dup2, i_pop, i_iadd, i_isub, i_imul, i_idiv, i_irem, i_ineg, i_iand, i_ior, i_ishl, i_ishr, i_lxor, i_ladd, i_lsub, i_lmul, i_ldiv, i_lrem, i_lneg, i_lshl, i_lcmp, i_i2l, i_l2i, i_i2b, i_i2s, i_ifeq, i_ifne, i_iflt, i_ifge, i_ifgt, i_ifle, i_cmpeq, i_cmpne, i_cmplt, i_cmpge, i_cmpgt, i_cmple, i_acmpeq, i_acmpne, i_ifnull, i_ifnonnull, i_getI, i_getR, i_putI, i_putZ, i_putR, i_ald, i_ldL, i_ldR, i_ast, i_stL, i_stR, i_alen, i_new, i_newa, i_iret, i_zret, i_lret, i_aret, i_vret, i_raise, i_throw, i_recv, i_objinit, i_tsw3, lget, lset, lput1, lput2, lkil, ltrim, largs, isL, takev, dropv, nthv, pushO, catv, gd, true_and, and_true, Option.some.injEq, Prod.mk.injEq, exists_eq_left', if_true, if_false, reduceCtorEq, Bool.false_eq_true, lcmp_ge, lcmp_lt, lcmp_le, lcmp_gt, lcmp_eq, true_or, or_true, not_true_eq_false, not_false_eq_true, false_implies, true_implies, List.length_cons, List.length_nil]
              refine next _ ?_
              simp only [degI]
              rw [if_neg (fun e => h0 (hz.mp e))]
              have e : ((tx0 t : Int) + tx1 t + tx2 t) = (tdg t : Nat) := by unfold tdg; omega
              rw [e]
      refine wp_in ?_
      simp only [P_X7_tell, i_kil, i_icon, i_lcon, i_null, i_loadI, i_loadL, i_loadR, i_istore, i_lstore, i_astore, i_iinc, i_dup, i_dup2, i_pop, i_iadd, i_isub, i_imul, i_idiv, i_irem, i_ineg, i_iand, i_ior, i_ishl, i_ishr, i_lxor, i_ladd, i_lsub, i_lmul, i_ldiv, i_lrem, i_lneg, i_lshl, i_lcmp, i_i2l, i_l2i, i_i2b, i_i2s, i_ifeq, i_ifne, i_iflt, i_ifge, i_ifgt, i_ifle, i_cmpeq, i_cmpne, i_cmplt, i_cmpge, i_cmpgt, i_cmple, i_acmpeq, i_acmpne, i_ifnull, i_ifnonnull, i_getI, i_getR, i_putI, i_putZ, i_putR, i_ald, i_ldL, i_ldR, i_ast, i_stL, i_stR, i_alen, i_new, i_newa, i_iret, i_zret, i_lret, i_aret, i_vret, i_raise, i_throw, i_recv, i_objinit, i_tsw3, lget, lset, lput1, lput2, lkil, ltrim, largs, isL, takev, dropv, nthv, pushO, catv, gd, true_and, and_true, Option.some.injEq, Prod.mk.injEq, exists_eq_left', if_true, if_false, reduceCtorEq, Bool.false_eq_true, lcmp_ge, lcmp_lt, lcmp_le, lcmp_gt, lcmp_eq, true_or, or_true, not_true_eq_false, not_false_eq_true, false_implies, true_implies, List.length_cons, List.length_nil]
      repeat (first | refine ⟨in_small (by omega) (by omega), ?_⟩ | (show (_ → _) ∧ (_ → _); first | refine ⟨by omega, fun _ => ?_⟩ | refine ⟨fun _ => ?_, by omega⟩) | refine ⟨by omega, ?_⟩ | refine ⟨⟨_, rfl, by assumption⟩, ?_⟩ | refine ⟨okT_I _, ?_⟩ | refine ⟨okT_S (by omega) (by omega), ?_⟩ | refine ⟨okT_B (by omega) (by omega), ?_⟩ | refine call0 (gd_of rfl) ?_)
      exact dloop 455 0 rfl trivial
  repeat (first | refine ⟨in_small (by omega) (by omega), ?_⟩ | (show (_ → _) ∧ (_ → _); first | refine ⟨by omega, fun _ => ?_⟩ | refine ⟨fun _ => ?_, by omega⟩) | refine ⟨by omega, ?_⟩ | refine ⟨⟨_, rfl, by assumption⟩, ?_⟩ | refine ⟨okT_I _, ?_⟩ | refine ⟨okT_S (by omega) (by omega), ?_⟩ | refine ⟨okT_B (by omega) (by omega), ?_⟩ | refine call0 (gd_of rfl) ?_)
  exact main m 0 D2 spst0 (by omega) W2 T2 I2 (spOK.zero _ _ _) rfl h16 h17
