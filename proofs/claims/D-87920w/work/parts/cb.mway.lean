/-! the way of a member in the model -/
set_option maxRecDepth 100000
set_option linter.unusedVariables false
def mvS (S : Stat) (M : Nat) : Prop := mtS S M ∧ (S.2.1 M 35 = some (M + 4221) ∧ wS 17 S (M + 4221) 260) ∧ (S.2.1 M 24 = some (M + 79) ∧ S.1 (M + 79) = some (116, 6) ∧ ∀ k : Nat, k < 6 → S.2.1 (M + 79) k = some (M + 16343 + 488 * k) ∧ mpS S (M + 16343 + 488 * k)) ∧ (S.2.1 M 26 = some (M + 80) ∧ mpS S (M + 80))
def mvW (M : Nat) (D D' : Dat) : Prop := ∀ c i, (c ≤ M ∨ M + 20 < c) → (c < M + 568 ∨ M + 2392 < c) → (c < M + 4221 ∨ M + 4222 < c) → D' c i = D c i
theorem mvW.trans {M : Nat} {D D1 D2 : Dat} (h1 : mvW M D D1) (h2 : mvW M D1 D2) : mvW M D D2 := fun c i a b e => by rw [h2 c i a b e]; exact h1 c i a b e
theorem msE.congrA {D D' : Dat} {M c g d n : Nat} {tc : Nat → Nat} {st : spst} {σ : Nat → Nat} (h : msE D M c g d n tc st σ) (e : ∀ x y, (x = M ∧ (y = 49 ∨ y = 52 ∨ y = 57) ∨ M + 5697 ≤ x ∧ x ≤ M + 10780 ∨ M + 19027 ≤ x) → D' x y = D x y) : msE D' M c g d n tc st σ := by
  obtain ⟨⟨c1, c2, c3⟩, h2, h3, h4, ⟨V, pm, s1, s2, s3, s4⟩, h6⟩ := h
  have hk := h2.1
  refine ⟨⟨c1, by rw [e _ _ (by omega)]; exact c2, fun i hi => by rw [e _ _ (by omega), e _ _ (by omega)]; exact c3 i hi⟩, h2, h3, h4, ⟨V, pm, by rw [e _ _ (by omega)]; exact s1, by rw [e _ _ (by omega)]; exact s2, s3, fun r hr => ?_⟩, fun k hk => ?_⟩
  · obtain ⟨x1, x2, x3, x4, x5, x6⟩ := s4 r hr
    exact ⟨x1.congr fun x y b1 b2 => e x y (by omega), x2, x3, by rw [e _ _ (by omega)]; exact x4, by rw [e _ _ (by omega)]; exact x5, by rw [e _ _ (by omega)]; exact x6⟩
  · obtain ⟨x1, x2⟩ := h6 k hk
    exact ⟨by rw [e _ _ (by omega)]; exact x1, x2.congr fun x y b1 b2 => e x y (by omega)⟩
/-- the used multiples' terms are small -/
def spU4 (st : spst) : Prop := ∀ u, u < st.1 → tdg (st.2.2.2.2 u).2 ≤ 4
theorem spF_U4 {c g : Nat} {I : Nat → Int} {k : Nat} : ∀ (L : List Nat) (st : spst), (∀ t, t ∈ L → tdg t ≤ 4) → spU4 st → spU4 (spF c g I k L st) := by
  intro L
  induction L with
  | nil => intro st _ h; exact h
  | cons a L ih =>
    intro st h1 h2
    refine ih _ (fun t ht => h1 t (List.mem_cons_of_mem _ ht)) ?_
    rcases spTake_U (c := c) (g := g) (st := st) (v := mulV I a) (u := (k, a)) with ⟨e1, e2⟩ | ⟨e1, e2⟩
    · intro u hu
      show tdg ((spTake c g st (mulV I a) (k, a)).2.2.2.2 u).2 ≤ 4
      rw [e2]; exact h2 u (by rw [← e1]; exact hu)
    · intro u hu
      show tdg ((spTake c g st (mulV I a) (k, a)).2.2.2.2 u).2 ≤ 4
      have hu' : u < st.1 + 1 := by rw [← e1]; exact hu
      rw [e2]
      unfold uup
      by_cases w : u = st.1
      · rw [if_pos w]; exact h1 a (List.mem_cons_self)
      · rw [if_neg w]; exact h2 u (by omega)
theorem spR_U4 {c g : Nat} {I : Nat → Nat → Int} {d : Int} : ∀ k st, spR c g I d k st → spU4 st := by
  intro k
  induction k with
  | zero => intro st h u hu; have h' : st = spst0 := h; rw [h'] at hu; exact absurd hu (Nat.not_lt_zero u)
  | succ k ih =>
    rintro st ⟨s0, L, h1, h2, h3, rfl⟩
    exact spF_U4 L s0 (fun t ht => ((h3 t).mp ht).2.1) (ih s0 h1)
theorem spWay_none {st : spst} {φ : Nat → Rat} {q t : Nat} : ∀ u, (∀ v, v < u → st.2.2.2.2 v ≠ (q, t)) → spWay st φ u q t = 0 := by
  intro u
  induction u with
  | zero => intro _; rfl
  | succ u ih =>
    intro h
    simp only [spWay, xupd]
    have h1 := ih fun v hv => h v (by omega)
    by_cases w1 : q = (st.2.2.2.2 u).1
    · rw [if_pos w1]
      have w2 : t ≠ (st.2.2.2.2 u).2 := fun w2 => h u (by omega) (Prod.ext w1.symm w2.symm)
      simp only [pupd]
      rw [if_neg w2, ← w1]; exact h1
    · rw [if_neg w1]; exact h1
set_option maxHeartbeats 4000000 in
theorem sp_X16_tellWay {E : Ex} {B : Nat × Nat} {S : Stat} {D : Dat} {M c g d n m pa q : Nat} {tc : Nat → Nat} {st : spst} {σ : Nat → Nat} {φ χ : Nat → Rat} {xq : Int} (hM : mvS S M) (ho : ordOK c g) (h : msE D M c g d n tc st σ) (hU : spU m st) (hU4 : spU4 st) (hpS : mpS S pa) (hpa : M + 12195 ≤ pa ∧ pa + 243 < M + 16099) (hp : mpP D pa φ) (hφ : spSm φ) (hq : q < 6) (hxq : xq = q) (hsm : ∃ ψ, smP D (M + 568) ψ) (hχ : mpP D (M + 16343 + 488 * q) χ)
    (K : ∀ D' : Dat, (∀ x y, (x ≤ M ∨ M + 20 < x) → (x < M + 568 ∨ M + 2392 < x) → (x < M + 4221 ∨ M + 4222 < x) → (x < M + 16343 + 488 * q ∨ M + 16343 + 488 * q + 243 < x) → D' x y = D x y) → (∃ ψ, smP D' (M + 568) ψ) → mpP D' (M + 16343 + 488 * q) (spWay st φ st.1 q) → E (.inl none) B S D') : Wp P_X16_tellWay E 0 [some (aR M), some (aR pa), some (aI xq)] [] B S D := by
  subst hxq
  obtain ⟨hMt, ⟨t1, t2⟩, ⟨w1, w2, w3⟩, -⟩ := hM
  obtain ⟨hm, hg, ⟨sm1, sm2⟩, ⟨l1, l2, l3⟩, ⟨o1, o2⟩⟩ := id hMt
  obtain ⟨hms, -, hcs, ⟨r1, r2, r3⟩, ⟨p1, p2⟩, ⟨u1, u2⟩, ⟨v1, v2⟩, -⟩ := hm
  have M1 := hms.1
  have ms2 := hms.2.1
  have ms3 := hms.2.2.1
  have hO := h.2.1
  have hSo := h.2.2.2.1
  have hk35 := hO.1
  have pS := hpS
  obtain ⟨a1, a2, a3, a4, a5, a6, a7⟩ := pS
  obtain ⟨na, ea, hpD⟩ := hp
  obtain ⟨⟨C1, C2, C3⟩, -, -, -, ⟨V, pm, s1, s2, s3, s4⟩, hel⟩ := id h
  have hn := C1.2.2.2
  have size : ∀ r, r < st.1 → ∀ j, j < 70 → ((V r j).natAbs : Int) < 1000000000 ^ 11 := fun r hr => by
    refine (s4 r hr).2.1.le (spd_ne hO) (pw_pos 11) fun j hj => ?_
    by_cases q : n ≤ j ∧ j < 35
    · exact .inl q
    · refine .inr (hO.cell hr ?_)
      unfold sqx
      split
      · have := (C1.1 j (by omega)).1; omega
      · omega
  have outer : ∀ (L u : Nat) (D1 : Dat), u + L = st.1 → mvW M D D1 → smP D1 (M + 568) (spWay st φ u q) → Wp P_X16_tellWay E 1 [some (aR M), some (aR pa), some (aI q), some (aI u)] [] B S D1 := by
    intro L
    induction L with
    | zero =>
      intro u D1 hu f1 f2
      have : u = st.1 := by omega
      subst this
      have e52 : D1 M 52 = st.1 := by rw [f1 _ _ (by omega) (by omega) (by omega)]; exact s1
      obtain ⟨b1, b2⟩ := w3 q hq
      have sg1 := sm2.1
      have hcnt : pcnt (spWay st φ st.1 q) 455 ≤ 60 := by
        have := pcnt_c4 (φ := spWay st φ st.1 q) (fun t ht hd => spWay_none _ fun v hv e => by
          have := hU4 v hv
          rw [e] at this
          have h2 : tdg t ≤ 4 := this
          omega) 455 (Nat.le_refl _)
        rw [c4_all] at this; omega
      refine wp_in ?_
      simp only [P_X16_tellWay, i_kil, i_icon, i_lcon, i_null, i_loadI, i_loadL, i_loadR, i_istore, i_lstore, i_astore, i_iinc, i_dup, i_dup2, i_pop, i_iadd, i_isub, i_imul, i_idiv, i_irem, i_ineg, i_iand, i_ior, i_ishl, i_ishr, i_lxor, i_ladd, i_lsub, i_lmul, i_ldiv, i_lrem, i_lneg, i_lshl, i_lcmp, i_i2l, i_l2i, i_i2b, i_i2s, i_ifeq, i_ifne, i_iflt, i_ifge, i_ifgt, i_ifle, i_cmpeq, i_cmpne, i_cmplt, i_cmpge, i_cmpgt, i_cmple, i_acmpeq, i_acmpne, i_ifnull, i_ifnonnull, i_getI, i_getR, i_putI, i_putZ, i_putR, i_ald, i_ldL, i_ldR, i_ast, i_stL, i_stR, i_alen, i_new, i_newa, i_iret, i_zret, i_lret, i_aret, i_vret, i_raise, i_throw, i_recv, i_objinit, i_tsw3, lget, lset, lput1, lput2, lkil, ltrim, largs, isL, takev, dropv, nthv, pushO, catv, gd, true_and, and_true, Option.some.injEq, Prod.mk.injEq, exists_eq_left', if_true, if_false, reduceCtorEq, Bool.false_eq_true, lcmp_ge, lcmp_lt, lcmp_le, lcmp_gt, lcmp_eq, true_or, or_true, not_true_eq_false, not_false_eq_true, false_implies, true_implies, List.length_cons, List.length_nil, M1, e52, sm1, w1, w2, b1]
      repeat (first | refine ⟨in_small (by omega) (by omega), ?_⟩ | (show (_ → _) ∧ (_ → _); first | refine ⟨by omega, fun _ => ?_⟩ | refine ⟨fun _ => ?_, by omega⟩) | refine ⟨by omega, ?_⟩ | refine ⟨⟨_, rfl, by assumption⟩, ?_⟩ | refine ⟨okT_I _, ?_⟩ | refine ⟨okT_S (by omega) (by omega), ?_⟩ | refine ⟨okT_B (by omega) (by omega), ?_⟩ | refine call0 (gd_of rfl) ?_)
      refine sp_X19_to sm2 b2 (by omega) f2 hcnt fun D2 g1 g2 => ?_
      simp only [P_X16_tellWay, i_kil, i_icon, i_lcon, i_null, i_loadI, i_loadL, i_loadR, i_istore, i_lstore, i_astore, i_iinc, i_dup, i_dup2, i_pop, i_iadd, i_isub, i_imul, i_idiv, i_irem, i_ineg, i_iand, i_ior, i_ishl, i_ishr, i_lxor, i_ladd, i_lsub, i_lmul, i_ldiv, i_lrem, i_lneg, i_lshl, i_lcmp, i_i2l, i_l2i, i_i2b, i_i2s, i_ifeq, i_ifne, i_iflt, i_ifge, i_ifgt, i_ifle, i_cmpeq, i_cmpne, i_cmplt, i_cmpge, i_cmpgt, i_cmple, i_acmpeq, i_acmpne, i_ifnull, i_ifnonnull, i_getI, i_getR, i_putI, i_putZ, i_putR, i_ald, i_ldL, i_ldR, i_ast, i_stL, i_stR, i_alen, i_new, i_newa, i_iret, i_zret, i_lret, i_aret, i_vret, i_raise, i_throw, i_recv, i_objinit, i_tsw3, lget, lset, lput1, lput2, lkil, ltrim, largs, isL, takev, dropv, nthv, pushO, catv, gd, true_and, and_true, Option.some.injEq, Prod.mk.injEq, exists_eq_left', if_true, if_false, reduceCtorEq, Bool.false_eq_true, lcmp_ge, lcmp_lt, lcmp_le, lcmp_gt, lcmp_eq, true_or, or_true, not_true_eq_false, not_false_eq_true, false_implies, true_implies, List.length_cons, List.length_nil]
      exact K D2 (fun x y y1 y2 y3 y4 => by rw [g1 x y (by omega)]; exact f1 x y y1 y2 y3) ⟨_, f2.congr fun x y b1 b2 => g1 x y (by omega)⟩ g2
    | succ L ih =>
      intro u D1 hu f1 f2
      have e52 : D1 M 52 = st.1 := by rw [f1 _ _ (by omega) (by omega) (by omega)]; exact s1
      have hus : u < st.1 := by omega
      obtain ⟨-, -, -, -, x6, x7⟩ := s4 u hus
      have e6 : D1 (M + 5699) u = (st.2.2.2.2 u).1 := by rw [f1 _ _ (by omega) (by omega) (by omega)]; exact x6
      obtain ⟨hu1, hu2⟩ := hU.1 u hus
      have four : ∀ D2 : Dat, mvW M D D2 → smP D2 (M + 568) (spWay st φ (u + 1) q) → Wp P_X16_tellWay E 4 [some (aR M), some (aR pa), some (aI q), some (aI u)] [] B S D2 := fun D2 g1 g2 => by
        refine wp_in ?_
        simp only [P_X16_tellWay, i_kil, i_icon, i_lcon, i_null, i_loadI, i_loadL, i_loadR, i_istore, i_lstore, i_astore, i_iinc, i_dup, i_dup2, i_pop, i_iadd, i_isub, i_imul, i_idiv, i_irem, i_ineg, i_iand, i_ior, i_ishl, i_ishr, i_lxor, i_ladd, i_lsub, i_lmul, i_ldiv, i_lrem, i_lneg, i_lshl, i_lcmp, i_i2l, i_l2i, i_i2b, i_i2s, i_ifeq, i_ifne, i_iflt, i_ifge, i_ifgt, i_ifle, i_cmpeq, i_cmpne, i_cmplt, i_cmpge, i_cmpgt, i_cmple, i_acmpeq, i_acmpne, i_ifnull, i_ifnonnull, i_getI, i_getR, i_putI, i_putZ, i_putR, i_ald, i_ldL, i_ldR, i_ast, i_stL, i_stR, i_alen, i_new, i_newa, i_iret, i_zret, i_lret, i_aret, i_vret, i_raise, i_throw, i_recv, i_objinit, i_tsw3, lget, lset, lput1, lput2, lkil, ltrim, largs, isL, takev, dropv, nthv, pushO, catv, gd, true_and, and_true, Option.some.injEq, Prod.mk.injEq, exists_eq_left', if_true, if_false, reduceCtorEq, Bool.false_eq_true, lcmp_ge, lcmp_lt, lcmp_le, lcmp_gt, lcmp_eq, true_or, or_true, not_true_eq_false, not_false_eq_true, false_implies, true_implies, List.length_cons, List.length_nil]
        repeat (first | refine ⟨in_small (by omega) (by omega), ?_⟩ | (show (_ → _) ∧ (_ → _); first | refine ⟨by omega, fun _ => ?_⟩ | refine ⟨fun _ => ?_, by omega⟩) | refine ⟨by omega, ?_⟩ | refine ⟨⟨_, rfl, by assumption⟩, ?_⟩ | refine ⟨okT_I _, ?_⟩ | refine ⟨okT_S (by omega) (by omega), ?_⟩ | refine ⟨okT_B (by omega) (by omega), ?_⟩ | refine call0 (gd_of rfl) ?_)
        exact ih (u + 1) D2 (by omega) g1 g2
      refine wp_in ?_
      simp only [P_X16_tellWay, i_kil, i_icon, i_lcon, i_null, i_loadI, i_loadL, i_loadR, i_istore, i_lstore, i_astore, i_iinc, i_dup, i_dup2, i_pop, i_iadd, i_isub, i_imul, i_idiv, i_irem, i_ineg, i_iand, i_ior, i_ishl, i_ishr, i_lxor, i_ladd, i_lsub, i_lmul, i_ldiv, i_lrem, i_lneg, i_lshl, i_lcmp, i_i2l, i_l2i, i_i2b, i_i2s, i_ifeq, i_ifne, i_iflt, i_ifge, i_ifgt, i_ifle, i_cmpeq, i_cmpne, i_cmplt, i_cmpge, i_cmpgt, i_cmple, i_acmpeq, i_acmpne, i_ifnull, i_ifnonnull, i_getI, i_getR, i_putI, i_putZ, i_putR, i_ald, i_ldL, i_ldR, i_ast, i_stL, i_stR, i_alen, i_new, i_newa, i_iret, i_zret, i_lret, i_aret, i_vret, i_raise, i_throw, i_recv, i_objinit, i_tsw3, lget, lset, lput1, lput2, lkil, ltrim, largs, isL, takev, dropv, nthv, pushO, catv, gd, true_and, and_true, Option.some.injEq, Prod.mk.injEq, exists_eq_left', if_true, if_false, reduceCtorEq, Bool.false_eq_true, lcmp_ge, lcmp_lt, lcmp_le, lcmp_gt, lcmp_eq, true_or, or_true, not_true_eq_false, not_false_eq_true, false_implies, true_implies, List.length_cons, List.length_nil, M1, e52, u1, u2, e6]
      repeat (first | refine ⟨in_small (by omega) (by omega), ?_⟩ | (show (_ → _) ∧ (_ → _); first | refine ⟨by omega, fun _ => ?_⟩ | refine ⟨fun _ => ?_, by omega⟩) | refine ⟨by omega, ?_⟩ | refine ⟨⟨_, rfl, by assumption⟩, ?_⟩ | refine ⟨okT_I _, ?_⟩ | refine ⟨okT_S (by omega) (by omega), ?_⟩ | refine ⟨okT_B (by omega) (by omega), ?_⟩ | refine call0 (gd_of rfl) ?_)
      refine ⟨fun heq => ?_, fun hne => ?_⟩
      · have hqu : (st.2.2.2.2 u).1 = q := by omega
        have hz : spWay st φ u q (st.2.2.2.2 u).2 = 0 := spWay_none _ fun v hv e => by
          have e' : st.2.2.2.2 v = st.2.2.2.2 u := by rw [e, ← hqu]
          have := hU.2 v u (by omega) hus e'
          omega
        have rows : ∀ (L2 k : Nat) (D2 : Dat), k + L2 = st.1 → mvW M D D2 → smP D2 (M + 568) (pupd (spWay st φ u q) (st.2.2.2.2 u).2 (mway st σ φ u k)) → Wp P_X16_tellWay E 2 [some (aR M), some (aR pa), some (aI q), some (aI u), some (aI k)] [] B S D2 := by
          intro L2
          induction L2 with
          | zero =>
            intro k D2 hk g1 g2
            have : k = st.1 := by omega
            subst this
            have e57 : D2 M 57 = st.1 := by rw [g1 _ _ (by omega) (by omega) (by omega)]; exact s2
            refine wp_in ?_
            simp only [P_X16_tellWay, i_kil, i_icon, i_lcon, i_null, i_loadI, i_loadL, i_loadR, i_istore, i_lstore, i_astore, i_iinc, i_dup, i_dup2, i_pop, i_iadd, i_isub, i_imul, i_idiv, i_irem, i_ineg, i_iand, i_ior, i_ishl, i_ishr, i_lxor, i_ladd, i_lsub, i_lmul, i_ldiv, i_lrem, i_lneg, i_lshl, i_lcmp, i_i2l, i_l2i, i_i2b, i_i2s, i_ifeq, i_ifne, i_iflt, i_ifge, i_ifgt, i_ifle, i_cmpeq, i_cmpne, i_cmplt, i_cmpge, i_cmpgt, i_cmple, i_acmpeq, i_acmpne, i_ifnull, i_ifnonnull, i_getI, i_getR, i_putI, i_putZ, i_putR, i_ald, i_ldL, i_ldR, i_ast, i_stL, i_stR, i_alen, i_new, i_newa, i_iret, i_zret, i_lret, i_aret, i_vret, i_raise, i_throw, i_recv, i_objinit, i_tsw3, lget, lset, lput1, lput2, lkil, ltrim, largs, isL, takev, dropv, nthv, pushO, catv, gd, true_and, and_true, Option.some.injEq, Prod.mk.injEq, exists_eq_left', if_true, if_false, reduceCtorEq, Bool.false_eq_true, lcmp_ge, lcmp_lt, lcmp_le, lcmp_gt, lcmp_eq, true_or, or_true, not_true_eq_false, not_false_eq_true, false_implies, true_implies, List.length_cons, List.length_nil, M1, e57]
            repeat (first | refine ⟨in_small (by omega) (by omega), ?_⟩ | (show (_ → _) ∧ (_ → _); first | refine ⟨by omega, fun _ => ?_⟩ | refine ⟨fun _ => ?_, by omega⟩) | refine ⟨by omega, ?_⟩ | refine ⟨⟨_, rfl, by assumption⟩, ?_⟩ | refine ⟨okT_I _, ?_⟩ | refine ⟨okT_S (by omega) (by omega), ?_⟩ | refine ⟨okT_B (by omega) (by omega), ?_⟩ | refine call0 (gd_of rfl) ?_)
            refine four D2 g1 ?_
            have e : spWay st φ (u + 1) q = pupd (spWay st φ u q) (st.2.2.2.2 u).2 (mway st σ φ u st.1) := by
              simp only [spWay, xupd]
              rw [if_pos hqu.symm, hqu, mway_all ho hSo]
            rw [e]; exact g2
          | succ L2 ih2 =>
            intro k D2 hk g1 g2
            have e57 : D2 M 57 = st.1 := by rw [g1 _ _ (by omega) (by omega) (by omega)]; exact s2
            have hks : k < st.1 := by omega
            have hsk := hSo.1 k hks
            have h2 : msE D2 M c g d n tc st σ := h.congrA fun x y hx => g1 x y (by omega) (by omega) (by omega)
            have hpD2 : mpD D2 pa φ na ea := hpD.congr fun x y b1 b2 => g1 x y (by omega) (by omega) (by omega)
            have hlt := (spLd_lt hO hSo hks).1
            have eo : D2 (M + 10780) k = σ k := (h2.2.2.2.2.2 k hks).1
            obtain ⟨x1, x2, ⟨x3, x4⟩, x5, -, -⟩ := s4 (σ k) hsk
            have ep : D2 (M + 10778) (σ k) = pm (σ k) := by rw [g1 _ _ (by omega) (by omega) (by omega)]; exact x5
            have ev : D2 (M + 5700) u = tcode (st.2.2.2.2 u).2 := by rw [g1 _ _ (by omega) (by omega) (by omega)]; exact x7
            obtain ⟨rra, rrn⟩ := r3 (σ k) (by omega)
            have rr1 := rrn.1
            have zr : zrow D2 (M + 5703 + 141 * σ k) (V (σ k)) := x1.congr fun x y b1 b2 => g1 x y (by omega) (by omega) (by omega)
            have nxt : mway st σ φ u (k + 1) = mway st σ φ u k + φ (spLd st σ k) * st.2.1 (σ k) (455 + u) := rfl
            have three : ∀ D3 : Dat, mvW M D D3 → smP D3 (M + 568) (pupd (spWay st φ u q) (st.2.2.2.2 u).2 (mway st σ φ u (k + 1))) → Wp P_X16_tellWay E 3 [some (aR M), some (aR pa), some (aI q), some (aI u), some (aI k)] [] B S D3 := fun D3 b1 b2 => by
              refine wp_in ?_
              simp only [P_X16_tellWay, i_kil, i_icon, i_lcon, i_null, i_loadI, i_loadL, i_loadR, i_istore, i_lstore, i_astore, i_iinc, i_dup, i_dup2, i_pop, i_iadd, i_isub, i_imul, i_idiv, i_irem, i_ineg, i_iand, i_ior, i_ishl, i_ishr, i_lxor, i_ladd, i_lsub, i_lmul, i_ldiv, i_lrem, i_lneg, i_lshl, i_lcmp, i_i2l, i_l2i, i_i2b, i_i2s, i_ifeq, i_ifne, i_iflt, i_ifge, i_ifgt, i_ifle, i_cmpeq, i_cmpne, i_cmplt, i_cmpge, i_cmpgt, i_cmple, i_acmpeq, i_acmpne, i_ifnull, i_ifnonnull, i_getI, i_getR, i_putI, i_putZ, i_putR, i_ald, i_ldL, i_ldR, i_ast, i_stL, i_stR, i_alen, i_new, i_newa, i_iret, i_zret, i_lret, i_aret, i_vret, i_raise, i_throw, i_recv, i_objinit, i_tsw3, lget, lset, lput1, lput2, lkil, ltrim, largs, isL, takev, dropv, nthv, pushO, catv, gd, true_and, and_true, Option.some.injEq, Prod.mk.injEq, exists_eq_left', if_true, if_false, reduceCtorEq, Bool.false_eq_true, lcmp_ge, lcmp_lt, lcmp_le, lcmp_gt, lcmp_eq, true_or, or_true, not_true_eq_false, not_false_eq_true, false_implies, true_implies, List.length_cons, List.length_nil]
              repeat (first | refine ⟨in_small (by omega) (by omega), ?_⟩ | (show (_ → _) ∧ (_ → _); first | refine ⟨by omega, fun _ => ?_⟩ | refine ⟨fun _ => ?_, by omega⟩) | refine ⟨by omega, ?_⟩ | refine ⟨⟨_, rfl, by assumption⟩, ?_⟩ | refine ⟨okT_I _, ?_⟩ | refine ⟨okT_S (by omega) (by omega), ?_⟩ | refine ⟨okT_B (by omega) (by omega), ?_⟩ | refine call0 (gd_of rfl) ?_)
              exact ih2 (k + 1) D3 (by omega) b1 b2
            refine wp_in ?_
            simp only [P_X16_tellWay, i_kil, i_icon, i_lcon, i_null, i_loadI, i_loadL, i_loadR, i_istore, i_lstore, i_astore, i_iinc, i_dup, i_dup2, i_pop, i_iadd, i_isub, i_imul, i_idiv, i_irem, i_ineg, i_iand, i_ior, i_ishl, i_ishr, i_lxor, i_ladd, i_lsub, i_lmul, i_ldiv, i_lrem, i_lneg, i_lshl, i_lcmp, i_i2l, i_l2i, i_i2b, i_i2s, i_ifeq, i_ifne, i_iflt, i_ifge, i_ifgt, i_ifle, i_cmpeq, i_cmpne, i_cmplt, i_cmpge, i_cmpgt, i_cmple, i_acmpeq, i_acmpne, i_ifnull, i_ifnonnull, i_getI, i_getR, i_putI, i_putZ, i_putR, i_ald, i_ldL, i_ldR, i_ast, i_stL, i_stR, i_alen, i_new, i_newa, i_iret, i_zret, i_lret, i_aret, i_vret, i_raise, i_throw, i_recv, i_objinit, i_tsw3, lget, lset, lput1, lput2, lkil, ltrim, largs, isL, takev, dropv, nthv, pushO, catv, gd, true_and, and_true, Option.some.injEq, Prod.mk.injEq, exists_eq_left', if_true, if_false, reduceCtorEq, Bool.false_eq_true, lcmp_ge, lcmp_lt, lcmp_le, lcmp_gt, lcmp_eq, true_or, or_true, not_true_eq_false, not_false_eq_true, false_implies, true_implies, List.length_cons, List.length_nil, M1, e57]
            repeat (first | refine ⟨in_small (by omega) (by omega), ?_⟩ | (show (_ → _) ∧ (_ → _); first | refine ⟨by omega, fun _ => ?_⟩ | refine ⟨fun _ => ?_, by omega⟩) | refine ⟨by omega, ?_⟩ | refine ⟨⟨_, rfl, by assumption⟩, ?_⟩ | refine ⟨okT_I _, ?_⟩ | refine ⟨okT_S (by omega) (by omega), ?_⟩ | refine ⟨okT_B (by omega) (by omega), ?_⟩ | refine call0 (gd_of rfl) ?_)
            refine mlead_at (k := k) hMt h2 hks rfl ?_
            simp only [P_X16_tellWay, i_kil, i_icon, i_lcon, i_null, i_loadI, i_loadL, i_loadR, i_istore, i_lstore, i_astore, i_iinc, i_dup, i_dup2, i_pop, i_iadd, i_isub, i_imul, i_idiv, i_irem, i_ineg, i_iand, i_ior, i_ishl, i_ishr, i_lxor, i_ladd, i_lsub, i_lmul, i_ldiv, i_lrem, i_lneg, i_lshl, i_lcmp, i_i2l, i_l2i, i_i2b, i_i2s, i_ifeq, i_ifne, i_iflt, i_ifge, i_ifgt, i_ifle, i_cmpeq, i_cmpne, i_cmplt, i_cmpge, i_cmpgt, i_cmple, i_acmpeq, i_acmpne, i_ifnull, i_ifnonnull, i_getI, i_getR, i_putI, i_putZ, i_putR, i_ald, i_ldL, i_ldR, i_ast, i_stL, i_stR, i_alen, i_new, i_newa, i_iret, i_zret, i_lret, i_aret, i_vret, i_raise, i_throw, i_recv, i_objinit, i_tsw3, lget, lset, lput1, lput2, lkil, ltrim, largs, isL, takev, dropv, nthv, pushO, catv, gd, true_and, and_true, Option.some.injEq, Prod.mk.injEq, exists_eq_left', if_true, if_false, reduceCtorEq, Bool.false_eq_true, lcmp_ge, lcmp_lt, lcmp_le, lcmp_gt, lcmp_eq, true_or, or_true, not_true_eq_false, not_false_eq_true, false_implies, true_implies, List.length_cons, List.length_nil]
            repeat (first | refine ⟨in_small (by omega) (by omega), ?_⟩ | (show (_ → _) ∧ (_ → _); first | refine ⟨by omega, fun _ => ?_⟩ | refine ⟨fun _ => ?_, by omega⟩) | refine ⟨by omega, ?_⟩ | refine ⟨⟨_, rfl, by assumption⟩, ?_⟩ | refine ⟨okT_I _, ?_⟩ | refine ⟨okT_S (by omega) (by omega), ?_⟩ | refine ⟨okT_B (by omega) (by omega), ?_⟩ | refine call0 (gd_of rfl) ?_)
            refine find_at (t := spLd st σ k) hpS hpD2 hlt rfl (fun hf0 => ?_) (fun j hj hej => ?_)
            · simp only [P_X16_tellWay, i_kil, i_icon, i_lcon, i_null, i_loadI, i_loadL, i_loadR, i_istore, i_lstore, i_astore, i_iinc, i_dup, i_dup2, i_pop, i_iadd, i_isub, i_imul, i_idiv, i_irem, i_ineg, i_iand, i_ior, i_ishl, i_ishr, i_lxor, i_ladd, i_lsub, i_lmul, i_ldiv, i_lrem, i_lneg, i_lshl, i_lcmp, i_i2l, i_l2i, i_i2b, i_i2s, i_ifeq, i_ifne, i_iflt, i_ifge, i_ifgt, i_ifle, i_cmpeq, i_cmpne, i_cmplt, i_cmpge, i_cmpgt, i_cmple, i_acmpeq, i_acmpne, i_ifnull, i_ifnonnull, i_getI, i_getR, i_putI, i_putZ, i_putR, i_ald, i_ldL, i_ldR, i_ast, i_stL, i_stR, i_alen, i_new, i_newa, i_iret, i_zret, i_lret, i_aret, i_vret, i_raise, i_throw, i_recv, i_objinit, i_tsw3, lget, lset, lput1, lput2, lkil, ltrim, largs, isL, takev, dropv, nthv, pushO, catv, gd, true_and, and_true, Option.some.injEq, Prod.mk.injEq, exists_eq_left', if_true, if_false, reduceCtorEq, Bool.false_eq_true, lcmp_ge, lcmp_lt, lcmp_le, lcmp_gt, lcmp_eq, true_or, or_true, not_true_eq_false, not_false_eq_true, false_implies, true_implies, List.length_cons, List.length_nil, M1, r1, r2, o1, o2, eo, rra]
              repeat (first | refine ⟨in_small (by omega) (by omega), ?_⟩ | (show (_ → _) ∧ (_ → _); first | refine ⟨by omega, fun _ => ?_⟩ | refine ⟨fun _ => ?_, by omega⟩) | refine ⟨by omega, ?_⟩ | refine ⟨⟨_, rfl, by assumption⟩, ?_⟩ | refine ⟨okT_I _, ?_⟩ | refine ⟨okT_S (by omega) (by omega), ?_⟩ | refine ⟨okT_B (by omega) (by omega), ?_⟩ | refine call0 (gd_of rfl) ?_)
              refine three D2 g1 ?_
              rw [nxt, hf0]
              have : mway st σ φ u k + 0 * st.2.1 (σ k) (455 + u) = mway st σ φ u k := by grind
              rw [this]; exact g2
            · obtain ⟨ca1, ca2⟩ := rrn.2 (35 + u) (by omega)
              rw [show ((35 + u : Nat) : Int) = 35 + (u : Int) by omega] at ca1
              have ca3 := ca2.1
              obtain ⟨cp1, cp2⟩ := rrn.2 (pm (σ k)) (by omega)
              have hs := wD_nn (zr (35 + u) (by omega))
              obtain ⟨⟨ρ, k1, k2⟩, -⟩ := id x2
              have eu := k2 (35 + u) (by omega)
              have epv := k2 (pm (σ k)) (by omega)
              rw [mpx_mark] at eu
              rw [mpx_col x3 hn, x4] at epv
              have hpv := (hO.piv hsk).2.2 (σ k) hsk
              rw [if_pos rfl] at hpv
              rw [hpv, Rat.mul_one] at epv
              obtain ⟨y1, y2, y3, y4⟩ := hpD2.2.2.1 j hj
              have na60 := hpD2.1
              have num1 := (a5.2 j (by omega))
              have a51 := a5.1
              have n11 := num1.1
              have n12 := num1.2.1
              simp only [P_X16_tellWay, i_kil, i_icon, i_lcon, i_null, i_loadI, i_loadL, i_loadR, i_istore, i_lstore, i_astore, i_iinc, i_dup, i_dup2, i_pop, i_iadd, i_isub, i_imul, i_idiv, i_irem, i_ineg, i_iand, i_ior, i_ishl, i_ishr, i_lxor, i_ladd, i_lsub, i_lmul, i_ldiv, i_lrem, i_lneg, i_lshl, i_lcmp, i_i2l, i_l2i, i_i2b, i_i2s, i_ifeq, i_ifne, i_iflt, i_ifge, i_ifgt, i_ifle, i_cmpeq, i_cmpne, i_cmplt, i_cmpge, i_cmpgt, i_cmple, i_acmpeq, i_acmpne, i_ifnull, i_ifnonnull, i_getI, i_getR, i_putI, i_putZ, i_putR, i_ald, i_ldL, i_ldR, i_ast, i_stL, i_stR, i_alen, i_new, i_newa, i_iret, i_zret, i_lret, i_aret, i_vret, i_raise, i_throw, i_recv, i_objinit, i_tsw3, lget, lset, lput1, lput2, lkil, ltrim, largs, isL, takev, dropv, nthv, pushO, catv, gd, true_and, and_true, Option.some.injEq, Prod.mk.injEq, exists_eq_left', if_true, if_false, reduceCtorEq, Bool.false_eq_true, lcmp_ge, lcmp_lt, lcmp_le, lcmp_gt, lcmp_eq, true_or, or_true, not_true_eq_false, not_false_eq_true, false_implies, true_implies, List.length_cons, List.length_nil, M1, r1, r2, o1, o2, eo, rra, rr1, ca1, ca3, hs]
              repeat (first | refine ⟨in_small (by omega) (by omega), ?_⟩ | (show (_ → _) ∧ (_ → _); first | refine ⟨by omega, fun _ => ?_⟩ | refine ⟨fun _ => ?_, by omega⟩) | refine ⟨by omega, ?_⟩ | refine ⟨⟨_, rfl, by assumption⟩, ?_⟩ | refine ⟨okT_I _, ?_⟩ | refine ⟨okT_S (by omega) (by omega), ?_⟩ | refine ⟨okT_B (by omega) (by omega), ?_⟩ | refine call0 (gd_of rfl) ?_)
              refine ⟨fun z => ?_, fun z => ?_⟩
              · have hV0 : V (σ k) (35 + u) = 0 := Int.sign_eq_zero_iff_zero.mp z
                refine three D2 g1 ?_
                rw [hV0] at eu
                have hR0 : st.2.1 (σ k) (455 + u) = 0 := by
                  have e0 : ρ * st.2.1 (σ k) (455 + u) = 0 := eu.symm
                  rcases Rat.mul_eq_zero.mp e0 with w | w
                  · exact absurd w k1
                  · exact w
                rw [nxt, hR0]
                have : mway st σ φ u k + φ (spLd st σ k) * 0 = mway st σ φ u k := by grind
                rw [this]; exact g2
              · simp only [P_X16_tellWay, i_kil, i_icon, i_lcon, i_null, i_loadI, i_loadL, i_loadR, i_istore, i_lstore, i_astore, i_iinc, i_dup, i_dup2, i_pop, i_iadd, i_isub, i_imul, i_idiv, i_irem, i_ineg, i_iand, i_ior, i_ishl, i_ishr, i_lxor, i_ladd, i_lsub, i_lmul, i_ldiv, i_lrem, i_lneg, i_lshl, i_lcmp, i_i2l, i_l2i, i_i2b, i_i2s, i_ifeq, i_ifne, i_iflt, i_ifge, i_ifgt, i_ifle, i_cmpeq, i_cmpne, i_cmplt, i_cmpge, i_cmpgt, i_cmple, i_acmpeq, i_acmpne, i_ifnull, i_ifnonnull, i_getI, i_getR, i_putI, i_putZ, i_putR, i_ald, i_ldL, i_ldR, i_ast, i_stL, i_stR, i_alen, i_new, i_newa, i_iret, i_zret, i_lret, i_aret, i_vret, i_raise, i_throw, i_recv, i_objinit, i_tsw3, lget, lset, lput1, lput2, lkil, ltrim, largs, isL, takev, dropv, nthv, pushO, catv, gd, true_and, and_true, Option.some.injEq, Prod.mk.injEq, exists_eq_left', if_true, if_false, reduceCtorEq, Bool.false_eq_true, lcmp_ge, lcmp_lt, lcmp_le, lcmp_gt, lcmp_eq, true_or, or_true, not_true_eq_false, not_false_eq_true, false_implies, true_implies, List.length_cons, List.length_nil, M1, t1, a1, a4, a51, n11, rr1, ca1]
                repeat (first | refine ⟨in_small (by omega) (by omega), ?_⟩ | (show (_ → _) ∧ (_ → _); first | refine ⟨by omega, fun _ => ?_⟩ | refine ⟨fun _ => ?_, by omega⟩) | refine ⟨by omega, ?_⟩ | refine ⟨⟨_, rfl, by assumption⟩, ?_⟩ | refine ⟨okT_I _, ?_⟩ | refine ⟨okT_S (by omega) (by omega), ?_⟩ | refine ⟨okT_B (by omega) (by omega), ?_⟩ | refine call0 (gd_of rfl) ?_)
                obtain ⟨φd, φn⟩ := hφ.1 _ hlt
                have hnum : wD 2 1 D2 (pa + 3 + 2 * j) (φ (spLd st σ k)).num := by rw [← hej]; exact y3.1
                have hb1 : ((φ (spLd st σ k)).num.natAbs : Int) < 1000000000 ^ 1 := by
                  have : (1000000000 : Int) ^ 1 = 1000000000 := by decide
                  rw [this]; omega
                have hb2 := size (σ k) hsk (35 + u) (by omega)
                refine sp_X16_multiply (p := 1) (q := 11) t2 num1.2 ca2 M1 ms2 ms3 (by omega) (by omega) (by omega) hnum (zr _ (by omega)) hb1 hb2 (by omega) (by omega) (by omega) (by omega) (by omega) (by omega) (by omega) fun D3 b1 b2 => ?_
                have eo3 : D3 (M + 10780) k = σ k := by rw [b1 _ _ (by omega) (by omega) (by omega)]; exact eo
                have ep3 : D3 (M + 10778) (σ k) = pm (σ k) := by rw [b1 _ _ (by omega) (by omega) (by omega)]; exact ep
                have ev3 : D3 (M + 5700) u = tcode (st.2.2.2.2 u).2 := by rw [b1 _ _ (by omega) (by omega) (by omega)]; exact ev
                have zp : wD 2 1 D3 (M + 5703 + 141 * σ k + 2 * pm (σ k)) (V (σ k) (pm (σ k))) := (zr (pm (σ k)) (by omega)).congr (fun y => b1 _ _ (by omega) (by omega) (by omega)) (fun y => b1 _ _ (by omega) (by omega) (by omega))
                simp only [P_X16_tellWay, i_kil, i_icon, i_lcon, i_null, i_loadI, i_loadL, i_loadR, i_istore, i_lstore, i_astore, i_iinc, i_dup, i_dup2, i_pop, i_iadd, i_isub, i_imul, i_idiv, i_irem, i_ineg, i_iand, i_ior, i_ishl, i_ishr, i_lxor, i_ladd, i_lsub, i_lmul, i_ldiv, i_lrem, i_lneg, i_lshl, i_lcmp, i_i2l, i_l2i, i_i2b, i_i2s, i_ifeq, i_ifne, i_iflt, i_ifge, i_ifgt, i_ifle, i_cmpeq, i_cmpne, i_cmplt, i_cmpge, i_cmpgt, i_cmple, i_acmpeq, i_acmpne, i_ifnull, i_ifnonnull, i_getI, i_getR, i_putI, i_putZ, i_putR, i_ald, i_ldL, i_ldR, i_ast, i_stL, i_stR, i_alen, i_new, i_newa, i_iret, i_zret, i_lret, i_aret, i_vret, i_raise, i_throw, i_recv, i_objinit, i_tsw3, lget, lset, lput1, lput2, lkil, ltrim, largs, isL, takev, dropv, nthv, pushO, catv, gd, true_and, and_true, Option.some.injEq, Prod.mk.injEq, exists_eq_left', if_true, if_false, reduceCtorEq, Bool.false_eq_true, lcmp_ge, lcmp_lt, lcmp_le, lcmp_gt, lcmp_eq, true_or, or_true, not_true_eq_false, not_false_eq_true, false_implies, true_implies, List.length_cons, List.length_nil, M1, sm1, v1, v2, ev3, t1, o1, o2, eo3, p1, p2, ep3, rr1, cp1]
                repeat (first | refine ⟨in_small (by omega) (by omega), ?_⟩ | (show (_ → _) ∧ (_ → _); first | refine ⟨by omega, fun _ => ?_⟩ | refine ⟨fun _ => ?_, by omega⟩) | refine ⟨by omega, ?_⟩ | refine ⟨⟨_, rfl, by assumption⟩, ?_⟩ | refine ⟨okT_I _, ?_⟩ | refine ⟨okT_S (by omega) (by omega), ?_⟩ | refine ⟨okT_B (by omega) (by omega), ?_⟩ | refine call0 (gd_of rfl) ?_)
                have hVp : V (σ k) (pm (σ k)) ≠ 0 := fun w => by
                  rw [w] at epv
                  exact k1 epv.symm
                have hdv : Rat.divInt ((φ (spLd st σ k)).num * V (σ k) (35 + u)) (V (σ k) (pm (σ k))) = φ (spLd st σ k) * st.2.1 (σ k) (455 + u) := by
                  rw [Rat.divInt_eq_div, Rat.intCast_mul, eu, epv, ← rat_num φd, Rat.div_def]
                  have : ρ * ρ⁻¹ = 1 := Rat.mul_inv_cancel _ k1
                  grind
                have hsum : pupd (spWay st φ u q) (st.2.2.2.2 u).2 (mway st σ φ u k) (st.2.2.2.2 u).2 + ((1 : Int) : Rat) * Rat.divInt ((φ (spLd st σ k)).num * V (σ k) (35 + u)) (V (σ k) (pm (σ k))) = mway st σ φ u (k + 1) := by
                  simp only [pupd]
                  rw [if_pos trivial, hdv, nxt]
                  have : ((1 : Int) : Rat) = 1 := rfl
                  rw [this]; grind
                have hpr := pw_mul hb1 hb2
                rw [show 1 + 11 = 12 from rfl] at hpr
                refine sp_X16_gather (t := (st.2.2.2.2 u).2) (p := 12) (q := 11) hg sm2 (by omega) (g2.congr fun x y y1 y2 => b1 x y (by omega) (by omega) (by omega)) hu2 rfl t2 cp2 (by omega) (by omega) (by omega) (by omega) b2 zp hVp (.inl rfl) hpr (size _ hsk _ (by omega)) (by omega) (by omega) (by omega) (by omega) (by omega) (by omega) (fun D4 c1 c2 c3 => ?_) (fun D4 c1 c2 c3 => ?_)
                · simp only [P_X16_tellWay, i_kil, i_icon, i_lcon, i_null, i_loadI, i_loadL, i_loadR, i_istore, i_lstore, i_astore, i_iinc, i_dup, i_dup2, i_pop, i_iadd, i_isub, i_imul, i_idiv, i_irem, i_ineg, i_iand, i_ior, i_ishl, i_ishr, i_lxor, i_ladd, i_lsub, i_lmul, i_ldiv, i_lrem, i_lneg, i_lshl, i_lcmp, i_i2l, i_l2i, i_i2b, i_i2s, i_ifeq, i_ifne, i_iflt, i_ifge, i_ifgt, i_ifle, i_cmpeq, i_cmpne, i_cmplt, i_cmpge, i_cmpgt, i_cmple, i_acmpeq, i_acmpne, i_ifnull, i_ifnonnull, i_getI, i_getR, i_putI, i_putZ, i_putR, i_ald, i_ldL, i_ldR, i_ast, i_stL, i_stR, i_alen, i_new, i_newa, i_iret, i_zret, i_lret, i_aret, i_vret, i_raise, i_throw, i_recv, i_objinit, i_tsw3, lget, lset, lput1, lput2, lkil, ltrim, largs, isL, takev, dropv, nthv, pushO, catv, gd, true_and, and_true, Option.some.injEq, Prod.mk.injEq, exists_eq_left', if_true, if_false, reduceCtorEq, Bool.false_eq_true, lcmp_ge, lcmp_lt, lcmp_le, lcmp_gt, lcmp_eq, true_or, or_true, not_true_eq_false, not_false_eq_true, false_implies, true_implies, List.length_cons, List.length_nil]
                  refine three D4 (fun x y z1 z2 z3 => by rw [c1 x y (by omega) (by omega), b1 x y (by omega) (by omega) (by omega)]; exact g1 x y z1 z2 z3) ?_
                  rw [hsum] at c3
                  have e : pupd (pupd (spWay st φ u q) (st.2.2.2.2 u).2 (mway st σ φ u k)) (st.2.2.2.2 u).2 (mway st σ φ u (k + 1)) = pupd (spWay st φ u q) (st.2.2.2.2 u).2 (mway st σ φ u (k + 1)) := by
                    funext y
                    simp only [pupd]
                    split <;> rfl
                  rw [e] at c3; exact c3
                · rw [hsum] at c2
                  exact absurd (mway_fit hO hSo hφ (by omega) (by omega)) c2
        repeat (first | refine ⟨in_small (by omega) (by omega), ?_⟩ | (show (_ → _) ∧ (_ → _); first | refine ⟨by omega, fun _ => ?_⟩ | refine ⟨fun _ => ?_, by omega⟩) | refine ⟨by omega, ?_⟩ | refine ⟨⟨_, rfl, by assumption⟩, ?_⟩ | refine ⟨okT_I _, ?_⟩ | refine ⟨okT_S (by omega) (by omega), ?_⟩ | refine ⟨okT_B (by omega) (by omega), ?_⟩ | refine call0 (gd_of rfl) ?_)
        refine rows st.1 0 D1 (by omega) f1 ?_
        have e : pupd (spWay st φ u q) (st.2.2.2.2 u).2 (mway st σ φ u 0) = spWay st φ u q := by
          funext y
          simp only [pupd]
          split
          · rename_i w; rw [w, hz]; rfl
          · rfl
        rw [e]; exact f2
      · refine four D1 f1 ?_
        have e : spWay st φ (u + 1) q = spWay st φ u q := by
          simp only [spWay, xupd]
          rw [if_neg (fun w => hne (by omega))]
        rw [e]; exact f2
  obtain ⟨ψ, hψ⟩ := hsm
  have sg1 := sm2.1
  refine wp_in ?_
  simp only [P_X16_tellWay, i_kil, i_icon, i_lcon, i_null, i_loadI, i_loadL, i_loadR, i_istore, i_lstore, i_astore, i_iinc, i_dup, i_dup2, i_pop, i_iadd, i_isub, i_imul, i_idiv, i_irem, i_ineg, i_iand, i_ior, i_ishl, i_ishr, i_lxor, i_ladd, i_lsub, i_lmul, i_ldiv, i_lrem, i_lneg, i_lshl, i_lcmp, i_i2l, i_l2i, i_i2b, i_i2s, i_ifeq, i_ifne, i_iflt, i_ifge, i_ifgt, i_ifle, i_cmpeq, i_cmpne, i_cmplt, i_cmpge, i_cmpgt, i_cmple, i_acmpeq, i_acmpne, i_ifnull, i_ifnonnull, i_getI, i_getR, i_putI, i_putZ, i_putR, i_ald, i_ldL, i_ldR, i_ast, i_stL, i_stR, i_alen, i_new, i_newa, i_iret, i_zret, i_lret, i_aret, i_vret, i_raise, i_throw, i_recv, i_objinit, i_tsw3, lget, lset, lput1, lput2, lkil, ltrim, largs, isL, takev, dropv, nthv, pushO, catv, gd, true_and, and_true, Option.some.injEq, Prod.mk.injEq, exists_eq_left', if_true, if_false, reduceCtorEq, Bool.false_eq_true, lcmp_ge, lcmp_lt, lcmp_le, lcmp_gt, lcmp_eq, true_or, or_true, not_true_eq_false, not_false_eq_true, false_implies, true_implies, List.length_cons, List.length_nil, M1, sm1]
  repeat (first | refine ⟨in_small (by omega) (by omega), ?_⟩ | (show (_ → _) ∧ (_ → _); first | refine ⟨by omega, fun _ => ?_⟩ | refine ⟨fun _ => ?_, by omega⟩) | refine ⟨by omega, ?_⟩ | refine ⟨⟨_, rfl, by assumption⟩, ?_⟩ | refine ⟨okT_I _, ?_⟩ | refine ⟨okT_S (by omega) (by omega), ?_⟩ | refine ⟨okT_B (by omega) (by omega), ?_⟩ | refine call0 (gd_of rfl) ?_)
  refine sp_X19_clear sm2 hψ fun D2 g1 g2 => ?_
  simp only [P_X16_tellWay, i_kil, i_icon, i_lcon, i_null, i_loadI, i_loadL, i_loadR, i_istore, i_lstore, i_astore, i_iinc, i_dup, i_dup2, i_pop, i_iadd, i_isub, i_imul, i_idiv, i_irem, i_ineg, i_iand, i_ior, i_ishl, i_ishr, i_lxor, i_ladd, i_lsub, i_lmul, i_ldiv, i_lrem, i_lneg, i_lshl, i_lcmp, i_i2l, i_l2i, i_i2b, i_i2s, i_ifeq, i_ifne, i_iflt, i_ifge, i_ifgt, i_ifle, i_cmpeq, i_cmpne, i_cmplt, i_cmpge, i_cmpgt, i_cmple, i_acmpeq, i_acmpne, i_ifnull, i_ifnonnull, i_getI, i_getR, i_putI, i_putZ, i_putR, i_ald, i_ldL, i_ldR, i_ast, i_stL, i_stR, i_alen, i_new, i_newa, i_iret, i_zret, i_lret, i_aret, i_vret, i_raise, i_throw, i_recv, i_objinit, i_tsw3, lget, lset, lput1, lput2, lkil, ltrim, largs, isL, takev, dropv, nthv, pushO, catv, gd, true_and, and_true, Option.some.injEq, Prod.mk.injEq, exists_eq_left', if_true, if_false, reduceCtorEq, Bool.false_eq_true, lcmp_ge, lcmp_lt, lcmp_le, lcmp_gt, lcmp_eq, true_or, or_true, not_true_eq_false, not_false_eq_true, false_implies, true_implies, List.length_cons, List.length_nil]
  exact outer st.1 0 D2 (by omega) (fun x y b1 b2 b3 => g1 x y (by omega)) g2
