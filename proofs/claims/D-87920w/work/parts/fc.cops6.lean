/-! the component's calls: settle, member, divide -/
-- needs: fb.cops5
set_option maxRecDepth 100000
set_option linter.unusedVariables false
section COU
variable {S S' : Stat} {D D' : Dat} {C mn w N : Nat} {s : Cst} {lz : Nat → Option Nat} {own : Nat → Nat}
theorem settle_at {E : Ex} {B : Nat × Nat} {m : Nat} {Q : Nat → Nat → Rat} {ρ : Nat → Rat} {xi : Int} (h : coJ S D C s lz own mn w) (hW : crW N s) (hρ : pP D (C + 713 - 2 * w) ρ) (hQ : ∀ k : Nat, k < m → pP D (C + 755 - 2 * w + 6 * k) (Q k)) (hx : xi = m)
    (K : ∀ (S' : Stat) (D' : Dat), coJ S' D' C (uQt s (m, Q) ρ) lz own mn (1 - w) → cFr S D S' D' C → E (.inl none) B S' D') : Wp P_X0_settle E 0 [some (aR C), some (aI xi)] [] B S D := by
  subst hx
  have o := h.fx.o
  obtain ⟨m1, m2, m3, m4, m5, m6, m7, m8⟩ := h.mv
  have hC := h.lzz.1
  have n1 : ∀ v, (setR S C 26 v).2.1 C 23 = some (C + 709 + w) := fun v => by rw [setR_ne (.inr (by decide))]; exact m2
  let S1 := setR (setR (setR (setR S C 26 (some (C + 713 - 2 * w))) C 27 (some (C + 711 + 2 * w))) C 23 (some (C + 710 - w))) C 24 (some (C + 709 + w))
  let D1 := pmu (pmu D C 25 (m : Int)) C 28 1
  have fin : E (.inl none) B S1 D1 := by
    have r : ∀ a i, (a ≠ C ∨ ¬ (i = 23 ∨ i = 24 ∨ i = 26 ∨ i = 27)) → S1.2.1 a i = S.2.1 a i := fun a i hn => by
      show (setR _ _ _ _).2.1 a i = _
      rw [setR_ne (by omega), setR_ne (by omega), setR_ne (by omega), setR_ne (by omega)]
    have d : ∀ a i, (a ≠ C ∨ (i ≠ 25 ∧ i ≠ 28)) → D1 a i = D a i := fun a i hn => by
      show pmu _ _ _ _ a i = _
      rw [pmu_ne (by omega), pmu_ne (by omega)]
    have e26 : S1.2.1 C 26 = some (C + 713 - 2 * w) := by
      show (setR _ _ _ _).2.1 C 26 = _
      rw [setR_ne (.inr (by decide)), setR_ne (.inr (by decide)), setR_ne (.inr (by decide))]
      show pmur _ _ _ _ _ _ = _
      simp only [pmur, and_self, if_true]
    have e27 : S1.2.1 C 27 = some (C + 711 + 2 * w) := by
      show (setR _ _ _ _).2.1 C 27 = _
      rw [setR_ne (.inr (by decide)), setR_ne (.inr (by decide))]
      show pmur _ _ _ _ _ _ = _
      simp only [pmur, and_self, if_true]
    have e23 : S1.2.1 C 23 = some (C + 710 - w) := by
      show (setR _ _ _ _).2.1 C 23 = _
      rw [setR_ne (.inr (by decide))]
      show pmur _ _ _ _ _ _ = _
      simp only [pmur, and_self, if_true]
    have e24 : S1.2.1 C 24 = some (C + 709 + w) := by
      show pmur _ _ _ _ _ _ = _
      simp only [pmur, and_self, if_true]
    obtain ⟨h1, h2, h3, h4, h5, h6, h7, h8, h9, h10, h11, h12, h13, h14⟩ := h
    refine K S1 D1 ⟨h1.cg (fun a _ => rfl) fun a i ha hm => r a i (by unfold mvg at hm; omega), ⟨h2.1, fun i a hi => ?_⟩, ⟨by omega, by rw [e23]; congr 1; omega, by rw [e24]; congr 1; omega, by rw [e26]; congr 1; omega, by rw [e27]; congr 1; omega, fun q hq => by rw [r _ _ (by omega), r _ _ (by omega), r _ _ (by omega)]; exact m6 q hq, ⟨m7.1, fun k hk => by rw [r _ _ (by omega)]; exact m7.2 k hk⟩, fun c g d' m' st σ hx => by rw [r _ _ (by omega)]; exact m8 c g d' m' st σ hx⟩,
      h4.cgr h2 fun c i q => d c i (by unfold qTh at q; omega), h5.cgr fun c i q => d c i (by unfold qFx at q; omega), h6.cgr fun c i q => d c i (by unfold qFn at q; omega), h7.cgr hW.2.2.1.1 fun c i q => d c i (by rcases q with q | ⟨k, q1, q2⟩ <;> omega), h8.cgr fun c i q => d c i (by unfold qId at q; omega), ⟨?_, fun k hk => ?_⟩, ⟨?_, fun ρ' hρ' => ?_⟩, h11.cgr fun c i q => d c i (by unfold qSp at q; omega), h12.cgr fun c i q => d c i (by unfold qRo at q; omega), h13.cgr fun c i q => d c i (by unfold qTx at q; omega), h14.cgr fun c i q => d c i (by
        rcases q with q | q | q | q | q | ⟨z, z1, z2, z3⟩ <;> omega)⟩ ⟨Nat.le_refl _, fun _ _ => rfl, fun a i a1 a2 => ⟨r a i (by omega), d a i (by omega)⟩⟩
    · obtain ⟨a1, a2, a3, a4, a5, a6⟩ := h2.2 i a hi
      have sE : ∀ n, sEq S S1 a n := fun n c c1 c2 => ⟨rfl, fun j => r c j (by omega)⟩
      exact ⟨a1, a2, a3, a4, fun q => (a5 q).sq (sE _), fun q => (a6 q).sq (sE _)⟩
    · show pmu _ _ _ _ _ _ = _
      rw [pmu_ne (by omega), pmu_eq]; rfl
    · have e : C + 753 + 2 * (1 - w) + 6 * k = C + 755 - 2 * w + 6 * k := by omega
      rw [e]
      exact (hQ k hk).cgr fun c i hc => d c i (by omega)
    · show pmu _ _ _ _ _ _ = _
      rw [pmu_eq]; exact (if_neg (fun q => nomatch q)).symm
    · have : ρ = ρ' := Option.some.inj hρ'
      rw [← this]
      have e : C + 711 + 2 * (1 - w) = C + 713 - 2 * w := by omega
      rw [e]
      exact hρ.cgr fun c i hc => d c i (by omega)
  refine wp_in ?_
  simp only [P_X0_settle, i_kil, i_icon, i_lcon, i_null, i_loadI, i_loadL, i_loadR, i_istore, i_lstore, i_astore, i_iinc, i_dup, i_dup2, i_pop, i_iadd, i_isub, i_imul, i_idiv, i_irem, i_ineg, i_iand, i_ior, i_ishl, i_ishr, i_lxor, i_ladd, i_lsub, i_lmul, i_ldiv, i_lrem, i_lneg, i_lshl, i_lcmp, i_i2l, i_l2i, i_i2b, i_i2s, i_ifeq, i_ifne, i_iflt, i_ifge, i_ifgt, i_ifle, i_cmpeq, i_cmpne, i_cmplt, i_cmpge, i_cmpgt, i_cmple, i_acmpeq, i_acmpne, i_ifnull, i_ifnonnull, i_getI, i_getR, i_putI, i_putZ, i_putR, i_ald, i_ldL, i_ldR, i_ast, i_stL, i_stR, i_alen, i_new, i_newa, i_iret, i_zret, i_lret, i_aret, i_vret, i_raise, i_throw, i_recv, i_objinit, i_tsw3, lget, lset, lput1, lput2, lkil, ltrim, largs, isL, takev, dropv, nthv, pushO, catv, gd, true_and, and_true, Option.some.injEq, Prod.mk.injEq, exists_eq_left', if_true, if_false, reduceCtorEq, Bool.false_eq_true, lcmp_ge, lcmp_lt, lcmp_le, lcmp_gt, lcmp_eq, true_or, or_true, not_true_eq_false, not_false_eq_true, false_implies, true_implies, List.length_cons, List.length_nil, o, m2, m3, m4, m5]
  have x24 : (setR (setR S C 26 (some (C + 713 - 2 * w))) C 27 (some (C + 711 + 2 * w))).2.1 C 24 = some (C + 710 - w) := by rw [setR_ne (.inr (by decide)), setR_ne (.inr (by decide))]; exact m3
  have x23 : (setR (setR S C 26 (some (C + 713 - 2 * w))) C 27 (some (C + 711 + 2 * w))).2.1 C 23 = some (C + 709 + w) := by rw [setR_ne (.inr (by decide)), setR_ne (.inr (by decide))]; exact m2
  rw [x24, x23]
  exact ⟨o, o, o, o, o, o, o, fin⟩
theorem spSm_of' {φ : Nat → Rat} {d : Nat} (hp : (∀ t, t < 455 → qfit (φ t)) ∧ ∀ t, 455 ≤ t → φ t = 0) (hd : d ≤ 4) (h1 : degI φ 455 ≤ d) (h2 : isPln φ 999) : spSm φ := by
  refine ⟨h2, fun t ht h => ?_⟩
  rcases degI_law (φ := φ) 455 with ⟨-, h3⟩ | ⟨-, h3⟩
  · exact h3 t ht
  · by_cases h0 : φ t = 0
    · exact h0
    · have := h3 t ht h0; omega
theorem bit0 {v : Int} (h : v = 0 ∨ v = 1) : v ≠ 0 ↔ v = 1 := by omega
set_option maxHeartbeats 4000000 in
theorem co_member {E : Ex} {B : Nat × Nat} {x : Int} (h : coJ S D C s lz own mn w) (hW : crW N s) (hN : N < 1000) (hB : 1000 ≤ B.1 ∧ 80000 ≤ B.2) (K : cK E S D C mn (oMember x s)) : Wp P_X0_member E 0 [some (aR C), some (aI x)] [] B S D := by
  have o := h.fx.o
  have hf := h.fx.fl
  obtain ⟨t1, t2⟩ := h.fx.T
  obtain ⟨q1, q2⟩ := h.fx.Q
  obtain ⟨r1, r2⟩ := h.fx.q9
  obtain ⟨R1, R2⟩ := h.fx.R
  obtain ⟨s1, s2, s3⟩ := h.sp
  have q7 := q2.1
  have hC := h.lzz.1
  obtain ⟨hw1, m23, m24, m26, m27, -⟩ := h.mv
  have err : ∀ (kk : Nat) (B' : Nat × Nat) (S1 : Stat) (D1 : Dat) (lz1 : Nat → Option Nat) (own1 : Nat → Nat) (w1 : Nat), 1 ≤ kk ∧ kk ≤ 7 → coJ S1 D1 C s lz1 own1 mn w1 → cFr S D S1 D1 C → oMember x s (uFn s kk) (-(kk : Int)) → Wp P_X0_member E 3 [some (aR C)] [.inr (.inr (some (C + 727 + kk)))] B' S1 D1 := fun kk B' S1 D1 lz1 own1 w1 e1 e2 e3 e4 => by
    have o := e2.fx.o
    refine wp_in ?_
    simp only [P_X0_member, i_kil, i_icon, i_lcon, i_null, i_loadI, i_loadL, i_loadR, i_istore, i_lstore, i_astore, i_iinc, i_dup, i_dup2, i_pop, i_iadd, i_isub, i_imul, i_idiv, i_irem, i_ineg, i_iand, i_ior, i_ishl, i_ishr, i_lxor, i_ladd, i_lsub, i_lmul, i_ldiv, i_lrem, i_lneg, i_lshl, i_lcmp, i_i2l, i_l2i, i_i2b, i_i2s, i_ifeq, i_ifne, i_iflt, i_ifge, i_ifgt, i_ifle, i_cmpeq, i_cmpne, i_cmplt, i_cmpge, i_cmpgt, i_cmple, i_acmpeq, i_acmpne, i_ifnull, i_ifnonnull, i_getI, i_getR, i_putI, i_putZ, i_putR, i_ald, i_ldL, i_ldR, i_ast, i_stL, i_stR, i_alen, i_new, i_newa, i_iret, i_zret, i_lret, i_aret, i_vret, i_raise, i_throw, i_recv, i_objinit, i_tsw3, lget, lset, lput1, lput2, lkil, ltrim, largs, isL, takev, dropv, nthv, pushO, catv, gd, true_and, and_true, Option.some.injEq, Prod.mk.injEq, exists_eq_left', if_true, if_false, reduceCtorEq, Bool.false_eq_true, lcmp_ge, lcmp_lt, lcmp_le, lcmp_gt, lcmp_eq, true_or, or_true, not_true_eq_false, not_false_eq_true, false_implies, true_implies, List.length_cons, List.length_nil, o]
    repeat (first | refine ⟨in_small (by omega) (by omega), ?_⟩ | (show (_ → _) ∧ (_ → _); first | refine ⟨by omega, fun _ => ?_⟩ | refine ⟨fun _ => ?_, by omega⟩) | refine ⟨by omega, ?_⟩ | refine ⟨⟨_, rfl, by assumption⟩, ?_⟩ | refine ⟨okT_I _, ?_⟩ | refine call0 (gd_of rfl) ?_)
    refine co_fin e2 hW hN e1 fun D2 e5 e6 => ?_
    simp only [P_X0_member, i_kil, i_icon, i_lcon, i_null, i_loadI, i_loadL, i_loadR, i_istore, i_lstore, i_astore, i_iinc, i_dup, i_dup2, i_pop, i_iadd, i_isub, i_imul, i_idiv, i_irem, i_ineg, i_iand, i_ior, i_ishl, i_ishr, i_lxor, i_ladd, i_lsub, i_lmul, i_ldiv, i_lrem, i_lneg, i_lshl, i_lcmp, i_i2l, i_l2i, i_i2b, i_i2s, i_ifeq, i_ifne, i_iflt, i_ifge, i_ifgt, i_ifle, i_cmpeq, i_cmpne, i_cmplt, i_cmpge, i_cmpgt, i_cmple, i_acmpeq, i_acmpne, i_ifnull, i_ifnonnull, i_getI, i_getR, i_putI, i_putZ, i_putR, i_ald, i_ldL, i_ldR, i_ast, i_stL, i_stR, i_alen, i_new, i_newa, i_iret, i_zret, i_lret, i_aret, i_vret, i_raise, i_throw, i_recv, i_objinit, i_tsw3, lget, lset, lput1, lput2, lkil, ltrim, largs, isL, takev, dropv, nthv, pushO, catv, gd, true_and, and_true, Option.some.injEq, Prod.mk.injEq, exists_eq_left', if_true, if_false, reduceCtorEq, Bool.false_eq_true, lcmp_ge, lcmp_lt, lcmp_le, lcmp_gt, lcmp_eq, true_or, or_true, not_true_eq_false, not_false_eq_true, false_implies, true_implies, List.length_cons, List.length_nil]
    exact K _ _ _ _ _ e4 ⟨lz1, own1, w1, e5⟩ (e3.tr e6)
  have nx : ∀ n, S.2.2 ≤ n → coJ (S.1, S.2.1, n) D C s lz own mn w ∧ cFr S D (S.1, S.2.1, n) D C := fun n hn => ⟨h.keep hW (cSr.nx hn) (fun _ _ _ => rfl) h.sc, (cSr.nx hn).fr h.lzz.1 fun _ _ _ _ => rfl⟩
  refine wp_in ?_
  simp only [P_X0_member, i_kil, i_icon, i_lcon, i_null, i_loadI, i_loadL, i_loadR, i_istore, i_lstore, i_astore, i_iinc, i_dup, i_dup2, i_pop, i_iadd, i_isub, i_imul, i_idiv, i_irem, i_ineg, i_iand, i_ior, i_ishl, i_ishr, i_lxor, i_ladd, i_lsub, i_lmul, i_ldiv, i_lrem, i_lneg, i_lshl, i_lcmp, i_i2l, i_l2i, i_i2b, i_i2s, i_ifeq, i_ifne, i_iflt, i_ifge, i_ifgt, i_ifle, i_cmpeq, i_cmpne, i_cmplt, i_cmpge, i_cmpgt, i_cmple, i_acmpeq, i_acmpne, i_ifnull, i_ifnonnull, i_getI, i_getR, i_putI, i_putZ, i_putR, i_ald, i_ldL, i_ldR, i_ast, i_stL, i_stR, i_alen, i_new, i_newa, i_iret, i_zret, i_lret, i_aret, i_vret, i_raise, i_throw, i_recv, i_objinit, i_tsw3, lget, lset, lput1, lput2, lkil, ltrim, largs, isL, takev, dropv, nthv, pushO, catv, gd, true_and, and_true, Option.some.injEq, Prod.mk.injEq, exists_eq_left', if_true, if_false, reduceCtorEq, Bool.false_eq_true, lcmp_ge, lcmp_lt, lcmp_le, lcmp_gt, lcmp_eq, true_or, or_true, not_true_eq_false, not_false_eq_true, false_implies, true_implies, List.length_cons, List.length_nil, o]
  refine ⟨⟨_, rfl, o⟩, callB 7 1200 (by omega) (gd_of rfl) ?_⟩
  refine poly_at h hW (by decide) (fun p a φ hp hp16 ht ha hD hS hac hl B1 => ?_) fun hx B1 n hn => ?_
  · subst hp
    simp only [P_X0_member, i_kil, i_icon, i_lcon, i_null, i_loadI, i_loadL, i_loadR, i_istore, i_lstore, i_astore, i_iinc, i_dup, i_dup2, i_pop, i_iadd, i_isub, i_imul, i_idiv, i_irem, i_ineg, i_iand, i_ior, i_ishl, i_ishr, i_lxor, i_ladd, i_lsub, i_lmul, i_ldiv, i_lrem, i_lneg, i_lshl, i_lcmp, i_i2l, i_l2i, i_i2b, i_i2s, i_ifeq, i_ifne, i_iflt, i_ifge, i_ifgt, i_ifle, i_cmpeq, i_cmpne, i_cmplt, i_cmpge, i_cmpgt, i_cmple, i_acmpeq, i_acmpne, i_ifnull, i_ifnonnull, i_getI, i_getR, i_putI, i_putZ, i_putR, i_ald, i_ldL, i_ldR, i_ast, i_stL, i_stR, i_alen, i_new, i_newa, i_iret, i_zret, i_lret, i_aret, i_vret, i_raise, i_throw, i_recv, i_objinit, i_tsw3, lget, lset, lput1, lput2, lkil, ltrim, largs, isL, takev, dropv, nthv, pushO, catv, gd, true_and, and_true, Option.some.injEq, Prod.mk.injEq, exists_eq_left', if_true, if_false, reduceCtorEq, Bool.false_eq_true, lcmp_ge, lcmp_lt, lcmp_le, lcmp_gt, lcmp_eq, true_or, or_true, not_true_eq_false, not_false_eq_true, false_implies, true_implies, List.length_cons, List.length_nil, o]
    repeat (first | refine ⟨in_small (by omega) (by omega), ?_⟩ | (show (_ → _) ∧ (_ → _); first | refine ⟨by omega, fun _ => ?_⟩ | refine ⟨fun _ => ?_, by omega⟩) | refine ⟨by omega, ?_⟩ | refine ⟨⟨_, rfl, by assumption⟩, ?_⟩ | refine ⟨okT_I _, ?_⟩ | refine call0 (gd_of rfl) ?_)
    refine spanned_at hf q1 q7 (fun hne => ?_) fun he => ?_
    · obtain ⟨⟨⟨c, g, d⟩, ⟨m, I⟩, st, σ⟩, hx⟩ : ∃ x, sSp s = some x := by
        rcases hs : sSp s with _ | x
        · exact absurd (s2 hs) hne
        · exact ⟨x, rfl⟩
      obtain ⟨u1, u2, tc, hE⟩ := s3 c g d (m, I) st σ hx
      have hsw := hW.2.2.2.2.2.2.1 _ hx
      obtain ⟨w1, w2, w3, w4, w5, w6⟩ := hsw
      have w1 : ordOK c g := w1
      have w3 : d ≤ 4 := w3
      have w4 : m ≤ 4 := w4
      have w5 : spR c g I d m st := w5
      simp only [P_X0_member, i_kil, i_icon, i_lcon, i_null, i_loadI, i_loadL, i_loadR, i_istore, i_lstore, i_astore, i_iinc, i_dup, i_dup2, i_pop, i_iadd, i_isub, i_imul, i_idiv, i_irem, i_ineg, i_iand, i_ior, i_ishl, i_ishr, i_lxor, i_ladd, i_lsub, i_lmul, i_ldiv, i_lrem, i_lneg, i_lshl, i_lcmp, i_i2l, i_l2i, i_i2b, i_i2s, i_ifeq, i_ifne, i_iflt, i_ifge, i_ifgt, i_ifle, i_cmpeq, i_cmpne, i_cmplt, i_cmpge, i_cmpgt, i_cmple, i_acmpeq, i_acmpne, i_ifnull, i_ifnonnull, i_getI, i_getR, i_putI, i_putZ, i_putR, i_ald, i_ldL, i_ldR, i_ast, i_stL, i_stR, i_alen, i_new, i_newa, i_iret, i_zret, i_lret, i_aret, i_vret, i_raise, i_throw, i_recv, i_objinit, i_tsw3, lget, lset, lput1, lput2, lkil, ltrim, largs, isL, takev, dropv, nthv, pushO, catv, gd, true_and, and_true, Option.some.injEq, Prod.mk.injEq, exists_eq_left', if_true, if_false, reduceCtorEq, Bool.false_eq_true, lcmp_ge, lcmp_lt, lcmp_le, lcmp_gt, lcmp_eq, true_or, or_true, not_true_eq_false, not_false_eq_true, false_implies, true_implies, List.length_cons, List.length_nil, o, q1, q7, u1]
      repeat (first | refine ⟨in_small (by omega) (by omega), ?_⟩ | (show (_ → _) ∧ (_ → _); first | refine ⟨by omega, fun _ => ?_⟩ | refine ⟨fun _ => ?_, by omega⟩) | refine ⟨by omega, ?_⟩ | refine ⟨⟨_, rfl, by assumption⟩, ?_⟩ | refine ⟨okT_I _, ?_⟩ | refine call0 (gd_of rfl) ?_)
      refine sp_X0_isSmall o t1 r1 hS hD.1 t2 h.cx.2.1 r2 (by omega) (by omega) (by decide) fun D1 v e1 v01 v1 => ?_
      have k1 : ∀ c i, (c < C + 665 ∨ C + 673 < c) → D1 c i = D c i := fun c i hc => e1 c i (by omega)
      have j1 : coJ S D1 C s lz own mn w := h.keep hW cSr.rfl (fun c i q => k1 c i (by have := qK.bd hw1 q; omega)) (h.sc.cgr fun c i q => k1 c i (by rcases q with q | q | q | q | q | ⟨z, z1, z2, z3⟩ <;> omega))
      have F1 : cFr S D S D1 C := cSr.rfl.fr hC fun c i c1 c2 => k1 c i (by omega)
      simp only [P_X0_member, i_kil, i_icon, i_lcon, i_null, i_loadI, i_loadL, i_loadR, i_istore, i_lstore, i_astore, i_iinc, i_dup, i_dup2, i_pop, i_iadd, i_isub, i_imul, i_idiv, i_irem, i_ineg, i_iand, i_ior, i_ishl, i_ishr, i_lxor, i_ladd, i_lsub, i_lmul, i_ldiv, i_lrem, i_lneg, i_lshl, i_lcmp, i_i2l, i_l2i, i_i2b, i_i2s, i_ifeq, i_ifne, i_iflt, i_ifge, i_ifgt, i_ifle, i_cmpeq, i_cmpne, i_cmplt, i_cmpge, i_cmpgt, i_cmple, i_acmpeq, i_acmpne, i_ifnull, i_ifnonnull, i_getI, i_getR, i_putI, i_putZ, i_putR, i_ald, i_ldL, i_ldR, i_ast, i_stL, i_stR, i_alen, i_new, i_newa, i_iret, i_zret, i_lret, i_aret, i_vret, i_raise, i_throw, i_recv, i_objinit, i_tsw3, lget, lset, lput1, lput2, lkil, ltrim, largs, isL, takev, dropv, nthv, pushO, catv, gd, true_and, and_true, Option.some.injEq, Prod.mk.injEq, exists_eq_left', if_true, if_false, reduceCtorEq, Bool.false_eq_true, lcmp_ge, lcmp_lt, lcmp_le, lcmp_gt, lcmp_eq, true_or, or_true, not_true_eq_false, not_false_eq_true, false_implies, true_implies, List.length_cons, List.length_nil, o]
      repeat (first | refine ⟨in_small (by omega) (by omega), ?_⟩ | (show (_ → _) ∧ (_ → _); first | refine ⟨by omega, fun _ => ?_⟩ | refine ⟨fun _ => ?_, by omega⟩) | refine ⟨by omega, ?_⟩ | refine ⟨⟨_, rfl, by assumption⟩, ?_⟩ | refine ⟨okT_I _, ?_⟩ | refine call0 (gd_of rfl) ?_)
      refine need_at (k := 6) hf (by decide) (by decide) rfl (fun q => ?_) fun q => ?_
      · have hcond := v1.mp (by omega)
        have hsm := spSm_of' hD.2 w3 hcond.1 hcond.2
        obtain ⟨u1', u2', tc', hE'⟩ := j1.sp.2.2 c g d (m, I) st σ hx
        have hD1 : pP D1 a φ := hD.cgr fun c i hc => k1 c i (by omega)
        obtain ⟨ρ0, hρ0⟩ : ∃ φ, pP D1 (C + 713 - 2 * w) φ := by
          rcases (show w = 0 ∨ w = 1 by omega) with e | e <;> subst e
          · exact j1.sc.2.2.2.1
          · exact j1.sc.2.2.1
        have hrS : pS S (C + 713 - 2 * w) := by
          rcases (show w = 0 ∨ w = 1 by omega) with e | e <;> subst e
          · exact h.fx.rs.2
          · exact h.fx.rs.1
        have hqS : S.1 (C + 710 - w) = some (107, 6) ∧ ∀ k : Nat, k < 6 → S.2.1 (C + 710 - w) k = some (C + 755 - 2 * w + 6 * k) ∧ pS S (C + 755 - 2 * w + 6 * k) := by
          rcases (show w = 0 ∨ w = 1 by omega) with e | e <;> subst e
          · exact h.fx.qb
          · exact h.fx.qa
        have hqD : ∀ k : Nat, k < 6 → ∃ φ, pP D1 (C + 755 - 2 * w + 6 * k) φ := by
          rcases (show w = 0 ∨ w = 1 by omega) with e | e <;> subst e
          · exact j1.sc.2.2.2.2.2
          · exact j1.sc.2.2.2.2.1
        have hLj : ∀ j, j < m → (C + 755 - 2 * w + 6 * j + 1 < C + 65 ∨ C + 65 + 159 < C + 755 - 2 * w + 6 * j) ∧ (C + 755 - 2 * w + 6 * j + 1 < C + 22 ∨ C + 22 + 10 < C + 755 - 2 * w + 6 * j) ∧ (C + 755 - 2 * w + 6 * j + 1 < C + 665 ∨ C + 665 + 8 < C + 755 - 2 * w + 6 * j) ∧ (C + 755 - 2 * w + 6 * j + 1 < C + 713 - 2 * w ∨ C + 713 - 2 * w + 1 < C + 755 - 2 * w + 6 * j) ∧ ∀ i, i < m → i ≠ j → C + 755 - 2 * w + 6 * j + 1 < C + 755 - 2 * w + 6 * i ∨ C + 755 - 2 * w + 6 * i + 1 < C + 755 - 2 * w + 6 * j := fun j hj => ⟨by omega, by omega, by omega, by omega, fun i hi hij => by omega⟩
        simp only [P_X0_member, i_kil, i_icon, i_lcon, i_null, i_loadI, i_loadL, i_loadR, i_istore, i_lstore, i_astore, i_iinc, i_dup, i_dup2, i_pop, i_iadd, i_isub, i_imul, i_idiv, i_irem, i_ineg, i_iand, i_ior, i_ishl, i_ishr, i_lxor, i_ladd, i_lsub, i_lmul, i_ldiv, i_lrem, i_lneg, i_lshl, i_lcmp, i_i2l, i_l2i, i_i2b, i_i2s, i_ifeq, i_ifne, i_iflt, i_ifge, i_ifgt, i_ifle, i_cmpeq, i_cmpne, i_cmplt, i_cmpge, i_cmpgt, i_cmple, i_acmpeq, i_acmpne, i_ifnull, i_ifnonnull, i_getI, i_getR, i_putI, i_putZ, i_putR, i_ald, i_ldL, i_ldR, i_ast, i_stL, i_stR, i_alen, i_new, i_newa, i_iret, i_zret, i_lret, i_aret, i_vret, i_raise, i_throw, i_recv, i_objinit, i_tsw3, lget, lset, lput1, lput2, lkil, ltrim, largs, isL, takev, dropv, nthv, pushO, catv, gd, true_and, and_true, Option.some.injEq, Prod.mk.injEq, exists_eq_left', if_true, if_false, reduceCtorEq, Bool.false_eq_true, lcmp_ge, lcmp_lt, lcmp_le, lcmp_gt, lcmp_eq, true_or, or_true, not_true_eq_false, not_false_eq_true, false_implies, true_implies, List.length_cons, List.length_nil, o, q1, m24, m27, r1]
        repeat (first | refine ⟨in_small (by omega) (by omega), ?_⟩ | (show (_ → _) ∧ (_ → _); first | refine ⟨by omega, fun _ => ?_⟩ | refine ⟨fun _ => ?_, by omega⟩) | refine ⟨by omega, ?_⟩ | refine ⟨⟨_, rfl, by assumption⟩, ?_⟩ | refine ⟨okT_I _, ?_⟩ | refine call0 (gd_of rfl) ?_)
        refine sp_X7_member (σ := σ) (wA := fun j => C + 755 - 2 * w + 6 * j) (N := 6) (m := m) (χ := fun k => if hk : k < 6 then (hqD k hk).choose else fun _ => 0) q2 R2 (by omega) hE' (spR_U w1 (m := m) m st (Nat.le_refl _) w5).1 u2' w4 hS hD1 hsm hrS hρ0.1 r2 (by omega) (by omega) (by omega) (by omega) (by omega) (by omega) (by omega) (by omega) (by omega) ⟨hqS.1, by omega, fun j hj => ⟨(hqS.2 j (by omega)).1, (hqS.2 j (by omega)).2, hLj j hj⟩⟩ (fun j hj => by
          rw [dif_pos (by omega)]
          exact (hqD j (by omega)).choose_spec.1) fun D2 v' e2 v01' hv m1 m2 m3 => ?_
        have k2 : ∀ c i, (c < C + 70 ∨ C + 224 < c ∨ C + 76 ≤ c ∧ c ≤ C + 81) → (c ≤ C + 22 ∨ C + 32 < c) → (c < C + 665 ∨ C + 673 < c) → c ≠ C + 713 - 2 * w → c ≠ C + 713 - 2 * w + 1 → (∀ j, j < 6 → c ≠ C + 755 - 2 * w + 6 * j ∧ c ≠ C + 755 - 2 * w + 6 * j + 1) → D2 c i = D1 c i := fun c i h1 h2 h3 h4 h5 h6 => e2 c i (by omega) (by omega) (by omega) h4 h5 fun j hj => h6 j (by omega)
        have hkq : ∀ c i, qK C w c i → D2 c i = D1 c i := fun c i q => by
          have hb := qK.bd hw1 q
          have hj : ∀ j, j < 6 → c ≠ C + 755 - 2 * w + 6 * j ∧ c ≠ C + 755 - 2 * w + 6 * j + 1 := fun j hj => by
            rcases q with q | q | q | q | q | q | q | q | q | q
            · unfold qTh at q; omega
            · unfold qFx at q; omega
            · unfold qFn at q; omega
            · rcases q with q | ⟨z, z1, z2⟩ <;> omega
            · unfold qId at q; omega
            · rcases q with q | ⟨z, z1, z2⟩ <;> omega
            · unfold qRs at q; omega
            · unfold qSp at q; omega
            · unfold qRo at q; omega
            · unfold qTx at q; omega
          exact k2 c i (by omega) (by omega) (by omega) (by omega) (by omega) hj
        have hsc : cSc D2 C := by
          obtain ⟨c1, c2, c3, c4, c5, c6⟩ := j1.sc
          have keepP : ∀ b, (∃ φ, pP D1 b φ) → (b = C + 705 ∨ b = C + 34 ∨ b = C + 711 + 2 * w ∨ ∃ j, j < 6 ∧ b = C + 753 + 2 * w + 6 * j) → ∃ φ, pP D2 b φ := fun b hb hbb => by
            obtain ⟨φ, hφ⟩ := hb
            refine ⟨φ, hφ.cgr fun c i hc => k2 c i ?_ ?_ ?_ ?_ ?_ fun j hj => ?_⟩
            all_goals (rcases hbb with e | e | e | ⟨z, z1, z2⟩ <;> omega)
          have nR : ∃ φ, pP D2 (C + 713 - 2 * w) φ := ⟨_, m1⟩
          have oR : ∃ φ, pP D2 (C + 711 + 2 * w) φ := by
            refine keepP _ ?_ (.inr (.inr (.inl rfl)))
            rcases (show w = 0 ∨ w = 1 by omega) with e | e <;> subst e
            · exact c3
            · exact c4
          have nQ : ∀ k : Nat, k < 6 → ∃ φ, pP D2 (C + 755 - 2 * w + 6 * k) φ := fun k hk => by
            by_cases hkm : k < m
            · exact m2 k hkm
            · obtain ⟨φ, hφ⟩ := hqD k hk
              exact ⟨φ, hφ.cgr fun c i hc => e2 c i (by omega) (by omega) (by omega) (by omega) (by omega) fun j hj => by omega⟩
          have oQ : ∀ k : Nat, k < 6 → ∃ φ, pP D2 (C + 753 + 2 * w + 6 * k) φ := fun k hk => by
            refine keepP _ ?_ (.inr (.inr (.inr ⟨k, hk, rfl⟩)))
            rcases (show w = 0 ∨ w = 1 by omega) with e | e <;> subst e
            · exact c5 k hk
            · obtain ⟨φ, hφ⟩ := c6 k hk
              exact ⟨φ, by rw [show C + 753 + 2 * 1 + 6 * k = C + 755 + 6 * k by omega]; exact hφ⟩
          refine ⟨keepP _ c1 (.inl rfl), keepP _ c2 (.inr (.inl rfl)), ?_⟩
          rcases (show w = 0 ∨ w = 1 by omega) with e | e <;> subst e
          · exact ⟨oR, nR, oQ, nQ⟩
          · refine ⟨nR, oR, nQ, fun k hk => ?_⟩
            have := oQ k hk
            rw [show C + 753 + 2 * 1 + 6 * k = C + 755 + 6 * k by omega] at this
            exact this
        have j2 : coJ S D2 C s lz own mn w := j1.keep hW cSr.rfl hkq hsc
        have F2 : cFr S D S D2 C := F1.tr (cSr.rfl.fr hC fun c i c1 c2 => k2 c i (by omega) (by omega) (by omega) (by omega) (by omega) fun j hj => by omega)
        have two : ∀ (B' : Nat × Nat) (S3 : Stat) (D3 : Dat) (s' : Cst), (v' = 0 ∨ v' = 1) → oMember p s s' v' → coI S3 D3 C s' mn → cFr S D S3 D3 C → ∀ u : Int, u = v' → Wp P_X0_member E 2 [] [.inl u] B' S3 D3 := fun B' S3 D3 s' _ g1 g2 g3 u hu => by
          subst hu
          refine wp_in ?_
          simp only [P_X0_member, i_kil, i_icon, i_lcon, i_null, i_loadI, i_loadL, i_loadR, i_istore, i_lstore, i_astore, i_iinc, i_dup, i_dup2, i_pop, i_iadd, i_isub, i_imul, i_idiv, i_irem, i_ineg, i_iand, i_ior, i_ishl, i_ishr, i_lxor, i_ladd, i_lsub, i_lmul, i_ldiv, i_lrem, i_lneg, i_lshl, i_lcmp, i_i2l, i_l2i, i_i2b, i_i2s, i_ifeq, i_ifne, i_iflt, i_ifge, i_ifgt, i_ifle, i_cmpeq, i_cmpne, i_cmplt, i_cmpge, i_cmpgt, i_cmple, i_acmpeq, i_acmpne, i_ifnull, i_ifnonnull, i_getI, i_getR, i_putI, i_putZ, i_putR, i_ald, i_ldL, i_ldR, i_ast, i_stL, i_stR, i_alen, i_new, i_newa, i_iret, i_zret, i_lret, i_aret, i_vret, i_raise, i_throw, i_recv, i_objinit, i_tsw3, lget, lset, lput1, lput2, lkil, ltrim, largs, isL, takev, dropv, nthv, pushO, catv, gd, true_and, and_true, Option.some.injEq, Prod.mk.injEq, exists_eq_left', if_true, if_false, reduceCtorEq, Bool.false_eq_true, lcmp_ge, lcmp_lt, lcmp_le, lcmp_gt, lcmp_eq, true_or, or_true, not_true_eq_false, not_false_eq_true, false_implies, true_implies, List.length_cons, List.length_nil]
          exact K _ _ _ _ _ g1 g2 g3
        have one : ∀ (B' : Nat × Nat) (mm : Nat) (Q : Nat → Nat → Rat), (∀ k : Nat, k < mm → pP D2 (C + 755 - 2 * w + 6 * k) (Q k)) → oMember p s (uQt s (mm, Q) (spRest st φ)) v' → Wp P_X0_member E 1 [some (aR C), none, none, some (aI v')] [.inl (mm : Int), .inr (.inr (some C))] B' S D2 := fun B' mm Q g1 g2 => by
          refine wp_in ?_
          simp only [P_X0_member, i_kil, i_icon, i_lcon, i_null, i_loadI, i_loadL, i_loadR, i_istore, i_lstore, i_astore, i_iinc, i_dup, i_dup2, i_pop, i_iadd, i_isub, i_imul, i_idiv, i_irem, i_ineg, i_iand, i_ior, i_ishl, i_ishr, i_lxor, i_ladd, i_lsub, i_lmul, i_ldiv, i_lrem, i_lneg, i_lshl, i_lcmp, i_i2l, i_l2i, i_i2b, i_i2s, i_ifeq, i_ifne, i_iflt, i_ifge, i_ifgt, i_ifle, i_cmpeq, i_cmpne, i_cmplt, i_cmpge, i_cmpgt, i_cmple, i_acmpeq, i_acmpne, i_ifnull, i_ifnonnull, i_getI, i_getR, i_putI, i_putZ, i_putR, i_ald, i_ldL, i_ldR, i_ast, i_stL, i_stR, i_alen, i_new, i_newa, i_iret, i_zret, i_lret, i_aret, i_vret, i_raise, i_throw, i_recv, i_objinit, i_tsw3, lget, lset, lput1, lput2, lkil, ltrim, largs, isL, takev, dropv, nthv, pushO, catv, gd, true_and, and_true, Option.some.injEq, Prod.mk.injEq, exists_eq_left', if_true, if_false, reduceCtorEq, Bool.false_eq_true, lcmp_ge, lcmp_lt, lcmp_le, lcmp_gt, lcmp_eq, true_or, or_true, not_true_eq_false, not_false_eq_true, false_implies, true_implies, List.length_cons, List.length_nil, o]
          repeat (first | refine ⟨in_small (by omega) (by omega), ?_⟩ | (show (_ → _) ∧ (_ → _); first | refine ⟨by omega, fun _ => ?_⟩ | refine ⟨fun _ => ?_, by omega⟩) | refine ⟨by omega, ?_⟩ | refine ⟨⟨_, rfl, by assumption⟩, ?_⟩ | refine ⟨okT_I _, ?_⟩ | refine call0 (gd_of rfl) ?_)
          refine settle_at (m := mm) (Q := Q) j2 hW m1 g1 rfl fun S3 D3 g3 g4 => ?_
          simp only [P_X0_member, i_kil, i_icon, i_lcon, i_null, i_loadI, i_loadL, i_loadR, i_istore, i_lstore, i_astore, i_iinc, i_dup, i_dup2, i_pop, i_iadd, i_isub, i_imul, i_idiv, i_irem, i_ineg, i_iand, i_ior, i_ishl, i_ishr, i_lxor, i_ladd, i_lsub, i_lmul, i_ldiv, i_lrem, i_lneg, i_lshl, i_lcmp, i_i2l, i_l2i, i_i2b, i_i2s, i_ifeq, i_ifne, i_iflt, i_ifge, i_ifgt, i_ifle, i_cmpeq, i_cmpne, i_cmplt, i_cmpge, i_cmpgt, i_cmple, i_acmpeq, i_acmpne, i_ifnull, i_ifnonnull, i_getI, i_getR, i_putI, i_putZ, i_putR, i_ald, i_ldL, i_ldR, i_ast, i_stL, i_stR, i_alen, i_new, i_newa, i_iret, i_zret, i_lret, i_aret, i_vret, i_raise, i_throw, i_recv, i_objinit, i_tsw3, lget, lset, lput1, lput2, lkil, ltrim, largs, isL, takev, dropv, nthv, pushO, catv, gd, true_and, and_true, Option.some.injEq, Prod.mk.injEq, exists_eq_left', if_true, if_false, reduceCtorEq, Bool.false_eq_true, lcmp_ge, lcmp_lt, lcmp_le, lcmp_gt, lcmp_eq, true_or, or_true, not_true_eq_false, not_false_eq_true, false_implies, true_implies, List.length_cons, List.length_nil]
          exact ⟨fun z => two _ _ _ _ v01' g2 ⟨lz, own, 1 - w, g3⟩ (F2.tr g4) 0 z.symm, fun z => two _ _ _ _ v01' g2 ⟨lz, own, 1 - w, g3⟩ (F2.tr g4) 1 (by omega)⟩
        have q7x := q7
        have h17 : D2 (C + 65) 17 = (m : Int) := (j2.sp.2.2 c g d (m, I) st σ hx).2.1
        simp only [P_X0_member, i_kil, i_icon, i_lcon, i_null, i_loadI, i_loadL, i_loadR, i_istore, i_lstore, i_astore, i_iinc, i_dup, i_dup2, i_pop, i_iadd, i_isub, i_imul, i_idiv, i_irem, i_ineg, i_iand, i_ior, i_ishl, i_ishr, i_lxor, i_ladd, i_lsub, i_lmul, i_ldiv, i_lrem, i_lneg, i_lshl, i_lcmp, i_i2l, i_l2i, i_i2b, i_i2s, i_ifeq, i_ifne, i_iflt, i_ifge, i_ifgt, i_ifle, i_cmpeq, i_cmpne, i_cmplt, i_cmpge, i_cmpgt, i_cmple, i_acmpeq, i_acmpne, i_ifnull, i_ifnonnull, i_getI, i_getR, i_putI, i_putZ, i_putR, i_ald, i_ldL, i_ldR, i_ast, i_stL, i_stR, i_alen, i_new, i_newa, i_iret, i_zret, i_lret, i_aret, i_vret, i_raise, i_throw, i_recv, i_objinit, i_tsw3, lget, lset, lput1, lput2, lkil, ltrim, largs, isL, takev, dropv, nthv, pushO, catv, gd, true_and, and_true, Option.some.injEq, Prod.mk.injEq, exists_eq_left', if_true, if_false, reduceCtorEq, Bool.false_eq_true, lcmp_ge, lcmp_lt, lcmp_le, lcmp_gt, lcmp_eq, true_or, or_true, not_true_eq_false, not_false_eq_true, false_implies, true_implies, List.length_cons, List.length_nil, o, q1, q7, h17]
        refine ⟨fun z => one _ 0 (fun _ _ => 0) (fun k hk => absurd hk (Nat.not_lt_zero _)) (rR_q hl ⟨φ, ht, .inr ⟨c, g, d, m, I, st, σ, hx, .inr ⟨hcond.1, hcond.2, .inr ⟨fun y => by have := hv.mpr y; omega, rfl, z⟩⟩⟩⟩), fun z => one _ m (fun j => spWay st φ st.1 j) (m3 (by omega)) (rR_q hl ⟨φ, ht, .inr ⟨c, g, d, m, I, st, σ, hx, .inr ⟨hcond.1, hcond.2, .inl ⟨hv.mp (by omega), rfl, by omega⟩⟩⟩⟩)⟩
      · simp only [P_X0_member, i_kil, i_icon, i_lcon, i_null, i_loadI, i_loadL, i_loadR, i_istore, i_lstore, i_astore, i_iinc, i_dup, i_dup2, i_pop, i_iadd, i_isub, i_imul, i_idiv, i_irem, i_ineg, i_iand, i_ior, i_ishl, i_ishr, i_lxor, i_ladd, i_lsub, i_lmul, i_ldiv, i_lrem, i_lneg, i_lshl, i_lcmp, i_i2l, i_l2i, i_i2b, i_i2s, i_ifeq, i_ifne, i_iflt, i_ifge, i_ifgt, i_ifle, i_cmpeq, i_cmpne, i_cmplt, i_cmpge, i_cmpgt, i_cmple, i_acmpeq, i_acmpne, i_ifnull, i_ifnonnull, i_getI, i_getR, i_putI, i_putZ, i_putR, i_ald, i_ldL, i_ldR, i_ast, i_stL, i_stR, i_alen, i_new, i_newa, i_iret, i_zret, i_lret, i_aret, i_vret, i_raise, i_throw, i_recv, i_objinit, i_tsw3, lget, lset, lput1, lput2, lkil, ltrim, largs, isL, takev, dropv, nthv, pushO, catv, gd, true_and, and_true, Option.some.injEq, Prod.mk.injEq, exists_eq_left', if_true, if_false, reduceCtorEq, Bool.false_eq_true, lcmp_ge, lcmp_lt, lcmp_le, lcmp_gt, lcmp_eq, true_or, or_true, not_true_eq_false, not_false_eq_true, false_implies, true_implies, List.length_cons, List.length_nil]
        exact err 6 _ _ _ _ _ _ (by decide) j1 F1 (rR_q hl ⟨φ, ht, .inr ⟨c, g, d, m, I, st, σ, hx, .inl ⟨fun y => by have := v1.mpr y; omega, rfl, rfl⟩⟩⟩)
    · have hx : sSp s = none := by
        rcases hs : sSp s with _ | ⟨⟨c, g, d⟩, m, st, σ⟩
        · rfl
        · have := (s3 c g d m st σ hs).1
          omega
      simp only [P_X0_member, i_kil, i_icon, i_lcon, i_null, i_loadI, i_loadL, i_loadR, i_istore, i_lstore, i_astore, i_iinc, i_dup, i_dup2, i_pop, i_iadd, i_isub, i_imul, i_idiv, i_irem, i_ineg, i_iand, i_ior, i_ishl, i_ishr, i_lxor, i_ladd, i_lsub, i_lmul, i_ldiv, i_lrem, i_lneg, i_lshl, i_lcmp, i_i2l, i_l2i, i_i2b, i_i2s, i_ifeq, i_ifne, i_iflt, i_ifge, i_ifgt, i_ifle, i_cmpeq, i_cmpne, i_cmplt, i_cmpge, i_cmpgt, i_cmple, i_acmpeq, i_acmpne, i_ifnull, i_ifnonnull, i_getI, i_getR, i_putI, i_putZ, i_putR, i_ald, i_ldL, i_ldR, i_ast, i_stL, i_stR, i_alen, i_new, i_newa, i_iret, i_zret, i_lret, i_aret, i_vret, i_raise, i_throw, i_recv, i_objinit, i_tsw3, lget, lset, lput1, lput2, lkil, ltrim, largs, isL, takev, dropv, nthv, pushO, catv, gd, true_and, and_true, Option.some.injEq, Prod.mk.injEq, exists_eq_left', if_true, if_false, reduceCtorEq, Bool.false_eq_true, lcmp_ge, lcmp_lt, lcmp_le, lcmp_gt, lcmp_eq, true_or, or_true, not_true_eq_false, not_false_eq_true, false_implies, true_implies, List.length_cons, List.length_nil]
      exact err 7 _ _ _ _ _ _ (by decide) h cFr.rfl (rR_q hl ⟨φ, ht, .inl ⟨hx, rfl, rfl⟩⟩)
  · simp only [P_X0_member, i_kil, i_icon, i_lcon, i_null, i_loadI, i_loadL, i_loadR, i_istore, i_lstore, i_astore, i_iinc, i_dup, i_dup2, i_pop, i_iadd, i_isub, i_imul, i_idiv, i_irem, i_ineg, i_iand, i_ior, i_ishl, i_ishr, i_lxor, i_ladd, i_lsub, i_lmul, i_ldiv, i_lrem, i_lneg, i_lshl, i_lcmp, i_i2l, i_l2i, i_i2b, i_i2s, i_ifeq, i_ifne, i_iflt, i_ifge, i_ifgt, i_ifle, i_cmpeq, i_cmpne, i_cmplt, i_cmpge, i_cmpgt, i_cmple, i_acmpeq, i_acmpne, i_ifnull, i_ifnonnull, i_getI, i_getR, i_putI, i_putZ, i_putR, i_ald, i_ldL, i_ldR, i_ast, i_stL, i_stR, i_alen, i_new, i_newa, i_iret, i_zret, i_lret, i_aret, i_vret, i_raise, i_throw, i_recv, i_objinit, i_tsw3, lget, lset, lput1, lput2, lkil, ltrim, largs, isL, takev, dropv, nthv, pushO, catv, gd, true_and, and_true, Option.some.injEq, Prod.mk.injEq, exists_eq_left', if_true, if_false, reduceCtorEq, Bool.false_eq_true, lcmp_ge, lcmp_lt, lcmp_le, lcmp_gt, lcmp_eq, true_or, or_true, not_true_eq_false, not_false_eq_true, false_implies, true_implies, List.length_cons, List.length_nil]
    have := lkN_le s x 1
    exact err _ _ _ _ _ _ _ (by omega) (nx n hn).1 (nx n hn).2 (rR_f hx rfl)
end COU
