/-! closed: pairs of minimal rows, as far as their leads are one -/
set_option maxRecDepth 100000
set_option linter.unusedVariables false
/-- the difference of two, each moved by a term -/
def spDf (ψ1 ψ2 : Nat → Rat) (b1 b2 : Nat) : Nat → Rat := sbm (sbm (fun _ => 0) ψ1 (-1) b1 455) ψ2 1 b2 455
def spDk (ψ1 ψ2 : Nat → Rat) (b1 b2 : Nat) : Prop := sok (fun _ => 0) ψ1 (-1) b1 455 ∧ sok (sbm (fun _ => 0) ψ1 (-1) b1 455) ψ2 1 b2 455 ∧ pcnt (spDf ψ1 ψ2 b1 b2) 455 ≤ 60
/-- what a pair says: -6 beyond, 0 something is left, 1 nothing is left -/
def clP (c g n : Nat) (ψ : Nat → Nat → Rat) (l : Nat → Nat) (i j : Nat) (v : Int) : Prop :=
  (¬ spDk (ψ i) (ψ j) (tqu (tjoin (l i) (l j)) (l i)) (tqu (tjoin (l i) (l j)) (l j)) ∧ v = -6) ∨
  (spDk (ψ i) (ψ j) (tqu (tjoin (l i) (l j)) (l i)) (tqu (tjoin (l i) (l j)) (l j)) ∧ ∃ k res, dvR c g n ψ k (spDf (ψ i) (ψ j) (tqu (tjoin (l i) (l j)) (l i)) (tqu (tjoin (l i) (l j)) (l j)), fun _ => 0, fun _ => 0, fun _ _ => 0) res ∧ ((res = none ∧ v = -6) ∨ (∃ s, res = some s ∧ ((v = 0 ∧ ¬ ∀ t, t < 455 → s.2.1 t = 0) ∨ (v = 1 ∧ ∀ t, t < 455 → s.2.1 t = 0)))))
/-- all pairs before (i, j) say 1 -/
def clB (c g n : Nat) (ψ : Nat → Nat → Rat) (l : Nat → Nat) (i j : Nat) : Prop := (∀ a b, a < i → a < b → b < n → clP c g n ψ l a b 1) ∧ ∀ b, i < b → b < j → clP c g n ψ l i b 1
def clR (c g n : Nat) (ψ : Nat → Nat → Rat) (l : Nat → Nat) (v : Int) : Prop := (v = 1 ∧ clB c g n ψ l n 0) ∨ ∃ i j, i < j ∧ j < n ∧ clB c g n ψ l i j ∧ clP c g n ψ l i j v ∧ v ≠ 1
theorem pcnt_z0 {φ : Nat → Rat} : ∀ n, pcnt φ n = 0 ↔ ∀ t, t < n → φ t = 0 := by
  intro n
  induction n with
  | zero => simp [pcnt]
  | succ n ih =>
    simp only [pcnt]
    constructor
    · intro h t ht
      by_cases w : φ n = 0
      · rw [if_pos w] at h
        by_cases y : t = n
        · rw [y]; exact w
        · exact ih.mp (by omega) t (by omega)
      · rw [if_neg w] at h; omega
    · intro h
      rw [if_pos (h n (by omega)), ih.mpr fun t ht => h t (by omega)]
theorem tjoin_dv {t u : Nat} (h : tdg t + tdg u ≤ 12) : tdv t (tjoin t u) ∧ tdv u (tjoin t u) := by
  obtain ⟨a1, a2, a3, -⟩ := tjoin_tx h
  unfold tdv
  rw [a1, a2, a3]
  exact ⟨⟨by omega, by omega, by omega⟩, ⟨by omega, by omega, by omega⟩⟩
/-- the model's gathering twice is the difference -/
theorem gat_df {ψ : Nat → Rat} {n b : Nat} {e : Nat → Nat} {φ : Nat → Rat} {sg : Int} (hE : ∀ k, k < n → e k < 455 ∧ ψ (e k) ≠ 0) (hi : ∀ i j, i < n → j < n → e i = e j → i = j) (h5 : ∀ t, t < 455 → (∀ k, k < n → e k ≠ t) → ψ t = 0) (hdg : ∀ k, k < n → tdg (e k) + tdg b ≤ 12) : gat φ (fun k => tmu (e k) b) (fun k => (sg : Rat) * ψ (e k)) n = sbm φ ψ (-(sg : Rat)) b 455 ∧ (sok φ ψ (-(sg : Rat)) b 455 ↔ ∀ k, k < n → qfit (φ (tmu (e k) b) + (sg : Rat) * ψ (e k))) := by
  constructor
  · rw [sbm_gat hE hi h5 hdg]
    congr 1
    funext k
    grind
  · rw [sok_iff hE h5]
    have e1 : ∀ k, φ (tmu (e k) b) - ψ (e k) * -(sg : Rat) = φ (tmu (e k) b) + (sg : Rat) * ψ (e k) := fun k => by grind
    constructor
    · intro h k hk; rw [← e1]; exact (h k hk).2
    · intro h k hk; exact ⟨hdg k hk, by rw [e1]; exact h k hk⟩
section ASK
variable {D : Dat} {M c g d n : Nat} {tc : Nat → Nat} {st : spst} {σ : Nat → Nat}
def mcW (M : Nat) (D D' : Dat) : Prop := ∀ x y, (x ≤ M ∨ M + 20 < x) → (x < M + 568 ∨ M + 4217 < x) → (x < M + 4221 ∨ M + 4224 < x) → (x < M + 4227 ∨ M + 5696 < x) → D' x y = D x y
set_option maxHeartbeats 4000000 in
theorem sp_X16_closed1 {E : Ex} {B : Nat × Nat} {S : Stat} {r : Nat} {μ : Nat → Nat} {z : Int} (hM : mdS S M) (hMt : mtS S M) (hm : S.2.1 M 64 = some (M + 10789) ∧ S.1 (M + 10789) = some (116, 35) ∧ S.2.1 M 65 = some (M + 10790) ∧ S.1 (M + 10790) = some (100, 35)) (ho : ordOK c g) (h : msE D M c g d n tc st σ) (hμ : isMinL st σ st.1 r μ) (hA : ∀ i : Nat, i < r → S.2.1 (M + 10789) i = some (M + 19027 + 244 * μ i) ∧ D (M + 10790) i = tcode (spLd st σ (μ i))) (h45 : D M 45 = (c : Int) - 9) (h46 : D M 46 = z) (hz : z = g ∨ c ≠ 12) (hs1 : ∃ φ, smP D (M + 568) φ) (hs2 : ∃ φ, smP D (M + 2393) φ) (hX : ∀ k, k < 6 → ∃ χ, mpP D (M + 4233 + 244 * k) χ)
    (K : ∀ (D' : Dat) (v : Int), mcW M D D' → (∃ φ, smP D' (M + 568) φ) → (∃ φ, smP D' (M + 2393) φ) → (∀ k, k < 6 → ∃ χ, mpP D' (M + 4233 + 244 * k) χ) → (v = 0 ∨ v = 1) → clR c g r (fun i => spEl st σ (μ i)) (fun i => spLd st σ (μ i)) v → E (.inl (some (.inl v))) B S D')
    (K6 : ∀ (D' : Dat), mcW M D D' → (∃ φ, smP D' (M + 568) φ) → (∃ φ, smP D' (M + 2393) φ) → (∀ k, k < 6 → ∃ χ, mpP D' (M + 4233 + 244 * k) χ) → clR c g r (fun i => spEl st σ (μ i)) (fun i => spLd st σ (μ i)) (-6) → Wp P_X16_closed E 5 [some (aR M)] [] B S D') : Wp P_X16_closed E 1 [some (aR M), some (aI r), some (aI 0)] [] B S D := by
  have M1 := hM.1.1.1
  have hMd := id hM
  obtain ⟨hg, s1, s2, s3, s4, -⟩ := hM
  obtain ⟨m1, m2, m3, m4⟩ := hm
  have hk35 := h.2.1.1
  have hr := hμ.le
  have sg1 := s2.1
  have sg2 := s4.1
  obtain ⟨l1, l2, l3⟩ := hMt.2.2.2.1
  have hO := h.2.1
  have hlt : ∀ k, k < st.1 → spLd st σ k < 455 ∧ tdg (spLd st σ k) ≤ 4 := fun k hk => spLd_lt h.2.1 h.2.2.2.1 hk
  have hst : ∀ D1, mcW M D D1 → msE D1 M c g d n tc st σ := fun D1 f => h.congrA fun x y hx => f x y (by omega) (by omega) (by omega) (by omega)
  have outer : ∀ (L i : Nat) (D1 : Dat), i + L = r → mcW M D D1 → (∃ φ, smP D1 (M + 568) φ) → (∃ φ, smP D1 (M + 2393) φ) → (∀ k, k < 6 → ∃ χ, mpP D1 (M + 4233 + 244 * k) χ) → clB c g r (fun i => spEl st σ (μ i)) (fun i => spLd st σ (μ i)) i 0 → Wp P_X16_closed E 1 [some (aR M), some (aI r), some (aI i)] [] B S D1 := by
    intro L
    induction L with
    | zero =>
      intro i D1 hi f1 f2 f3 f4 f5
      have : i = r := by omega
      subst this
      refine wp_in ?_
      simp only [P_X16_closed, i_kil, i_icon, i_lcon, i_null, i_loadI, i_loadL, i_loadR, i_istore, i_lstore, i_astore, i_iinc, i_dup, i_dup2, i_pop, i_iadd, i_isub, i_imul, i_idiv, i_irem, i_ineg, i_iand, i_ior, i_ishl, i_ishr, i_lxor, i_ladd, i_lsub, i_lmul, i_ldiv, i_lrem, i_lneg, i_lshl, i_lcmp, i_i2l, i_l2i, i_i2b, i_i2s, i_ifeq, i_ifne, i_iflt, i_ifge, i_ifgt, i_ifle, i_cmpeq, i_cmpne, i_cmplt, i_cmpge, i_cmpgt, i_cmple, i_acmpeq, i_acmpne, i_ifnull, i_ifnonnull, i_getI, i_getR, i_putI, i_putZ, i_putR, i_ald, i_ldL, i_ldR, i_ast, i_stL, i_stR, i_alen, i_new, i_newa, i_iret, i_zret, i_lret, i_aret, i_vret, i_raise, i_throw, i_recv, i_objinit, i_tsw3, lget, lset, lput1, lput2, lkil, ltrim, largs, isL, takev, dropv, nthv, pushO, catv, gd, true_and, and_true, Option.some.injEq, Prod.mk.injEq, exists_eq_left', if_true, if_false, reduceCtorEq, Bool.false_eq_true, lcmp_ge, lcmp_lt, lcmp_le, lcmp_gt, lcmp_eq, true_or, or_true, not_true_eq_false, not_false_eq_true, false_implies, true_implies, List.length_cons, List.length_nil]
      repeat (first | refine ⟨in_small (by omega) (by omega), ?_⟩ | (show (_ → _) ∧ (_ → _); first | refine ⟨by omega, fun _ => ?_⟩ | refine ⟨fun _ => ?_, by omega⟩) | refine ⟨by omega, ?_⟩ | refine ⟨⟨_, rfl, by assumption⟩, ?_⟩ | refine ⟨okT_I _, ?_⟩ | refine ⟨okT_S (by omega) (by omega), ?_⟩ | refine ⟨okT_B (by omega) (by omega), ?_⟩ | refine call0 (gd_of rfl) ?_)
      exact K D1 1 f1 f2 f3 f4 (.inr rfl) (.inl ⟨rfl, f5⟩)
    | succ L ih =>
      intro i D1 hi f1 f2 f3 f4 f5
      have inner : ∀ (L2 j : Nat) (D2 : Dat), j + L2 = r → i < j → mcW M D D2 → (∃ φ, smP D2 (M + 568) φ) → (∃ φ, smP D2 (M + 2393) φ) → (∀ k, k < 6 → ∃ χ, mpP D2 (M + 4233 + 244 * k) χ) → clB c g r (fun i => spEl st σ (μ i)) (fun i => spLd st σ (μ i)) i j → Wp P_X16_closed E 2 [some (aR M), some (aI r), some (aI i), some (aI j)] [] B S D2 := by
        intro L2
        induction L2 with
        | zero =>
          intro j D2 hj hij g1 g2 g3 g4 g5
          refine wp_in ?_
          simp only [P_X16_closed, i_kil, i_icon, i_lcon, i_null, i_loadI, i_loadL, i_loadR, i_istore, i_lstore, i_astore, i_iinc, i_dup, i_dup2, i_pop, i_iadd, i_isub, i_imul, i_idiv, i_irem, i_ineg, i_iand, i_ior, i_ishl, i_ishr, i_lxor, i_ladd, i_lsub, i_lmul, i_ldiv, i_lrem, i_lneg, i_lshl, i_lcmp, i_i2l, i_l2i, i_i2b, i_i2s, i_ifeq, i_ifne, i_iflt, i_ifge, i_ifgt, i_ifle, i_cmpeq, i_cmpne, i_cmplt, i_cmpge, i_cmpgt, i_cmple, i_acmpeq, i_acmpne, i_ifnull, i_ifnonnull, i_getI, i_getR, i_putI, i_putZ, i_putR, i_ald, i_ldL, i_ldR, i_ast, i_stL, i_stR, i_alen, i_new, i_newa, i_iret, i_zret, i_lret, i_aret, i_vret, i_raise, i_throw, i_recv, i_objinit, i_tsw3, lget, lset, lput1, lput2, lkil, ltrim, largs, isL, takev, dropv, nthv, pushO, catv, gd, true_and, and_true, Option.some.injEq, Prod.mk.injEq, exists_eq_left', if_true, if_false, reduceCtorEq, Bool.false_eq_true, lcmp_ge, lcmp_lt, lcmp_le, lcmp_gt, lcmp_eq, true_or, or_true, not_true_eq_false, not_false_eq_true, false_implies, true_implies, List.length_cons, List.length_nil]
          repeat (first | refine ⟨in_small (by omega) (by omega), ?_⟩ | (show (_ → _) ∧ (_ → _); first | refine ⟨by omega, fun _ => ?_⟩ | refine ⟨fun _ => ?_, by omega⟩) | refine ⟨by omega, ?_⟩ | refine ⟨⟨_, rfl, by assumption⟩, ?_⟩ | refine ⟨okT_I _, ?_⟩ | refine ⟨okT_S (by omega) (by omega), ?_⟩ | refine ⟨okT_B (by omega) (by omega), ?_⟩ | refine call0 (gd_of rfl) ?_)
          refine ih (i + 1) D2 (by omega) g1 g2 g3 g4 ⟨fun a b ha hab hb => ?_, fun b hb hb2 => by omega⟩
          by_cases w : a = i
          · rw [w] at hab ⊢; exact g5.2 b hab (by omega)
          · exact g5.1 a b (by omega) hab hb
        | succ L2 ih2 =>
          intro j D2 hj hij g1 g2 g3 g4 g5
          obtain ⟨φ0, g2'⟩ := g2
          have hμi := (hμ.1 i (by omega)).1
          have hμj := (hμ.1 j (by omega)).1
          obtain ⟨ti, di⟩ := hlt _ hμi
          obtain ⟨tj, dj⟩ := hlt _ hμj
          obtain ⟨A1, A2⟩ := hA i (by omega)
          obtain ⟨A3, A4⟩ := hA j (by omega)
          have A2' : D2 (M + 10790) i = tcode (spLd st σ (μ i)) := by rw [g1 _ _ (by omega) (by omega) (by omega) (by omega)]; exact A2
          have A4' : D2 (M + 10790) j = tcode (spLd st σ (μ j)) := by rw [g1 _ _ (by omega) (by omega) (by omega) (by omega)]; exact A4
          refine wp_in ?_
          simp only [P_X16_closed, i_kil, i_icon, i_lcon, i_null, i_loadI, i_loadL, i_loadR, i_istore, i_lstore, i_astore, i_iinc, i_dup, i_dup2, i_pop, i_iadd, i_isub, i_imul, i_idiv, i_irem, i_ineg, i_iand, i_ior, i_ishl, i_ishr, i_lxor, i_ladd, i_lsub, i_lmul, i_ldiv, i_lrem, i_lneg, i_lshl, i_lcmp, i_i2l, i_l2i, i_i2b, i_i2s, i_ifeq, i_ifne, i_iflt, i_ifge, i_ifgt, i_ifle, i_cmpeq, i_cmpne, i_cmplt, i_cmpge, i_cmpgt, i_cmple, i_acmpeq, i_acmpne, i_ifnull, i_ifnonnull, i_getI, i_getR, i_putI, i_putZ, i_putR, i_ald, i_ldL, i_ldR, i_ast, i_stL, i_stR, i_alen, i_new, i_newa, i_iret, i_zret, i_lret, i_aret, i_vret, i_raise, i_throw, i_recv, i_objinit, i_tsw3, lget, lset, lput1, lput2, lkil, ltrim, largs, isL, takev, dropv, nthv, pushO, catv, gd, true_and, and_true, Option.some.injEq, Prod.mk.injEq, exists_eq_left', if_true, if_false, reduceCtorEq, Bool.false_eq_true, lcmp_ge, lcmp_lt, lcmp_le, lcmp_gt, lcmp_eq, true_or, or_true, not_true_eq_false, not_false_eq_true, false_implies, true_implies, List.length_cons, List.length_nil, M1, m3, m4, A2', A4']
          repeat (first | refine ⟨in_small (by omega) (by omega), ?_⟩ | (show (_ → _) ∧ (_ → _); first | refine ⟨by omega, fun _ => ?_⟩ | refine ⟨fun _ => ?_, by omega⟩) | refine ⟨by omega, ?_⟩ | refine ⟨⟨_, rfl, by assumption⟩, ?_⟩ | refine ⟨okT_I _, ?_⟩ | refine ⟨okT_S (by omega) (by omega), ?_⟩ | refine ⟨okT_B (by omega) (by omega), ?_⟩ | refine call0 (gd_of rfl) ?_)
          refine join_at ti tj (by omega) rfl rfl ?_
          simp only [P_X16_closed, i_kil, i_icon, i_lcon, i_null, i_loadI, i_loadL, i_loadR, i_istore, i_lstore, i_astore, i_iinc, i_dup, i_dup2, i_pop, i_iadd, i_isub, i_imul, i_idiv, i_irem, i_ineg, i_iand, i_ior, i_ishl, i_ishr, i_lxor, i_ladd, i_lsub, i_lmul, i_ldiv, i_lrem, i_lneg, i_lshl, i_lcmp, i_i2l, i_l2i, i_i2b, i_i2s, i_ifeq, i_ifne, i_iflt, i_ifge, i_ifgt, i_ifle, i_cmpeq, i_cmpne, i_cmplt, i_cmpge, i_cmpgt, i_cmple, i_acmpeq, i_acmpne, i_ifnull, i_ifnonnull, i_getI, i_getR, i_putI, i_putZ, i_putR, i_ald, i_ldL, i_ldR, i_ast, i_stL, i_stR, i_alen, i_new, i_newa, i_iret, i_zret, i_lret, i_aret, i_vret, i_raise, i_throw, i_recv, i_objinit, i_tsw3, lget, lset, lput1, lput2, lkil, ltrim, largs, isL, takev, dropv, nthv, pushO, catv, gd, true_and, and_true, Option.some.injEq, Prod.mk.injEq, exists_eq_left', if_true, if_false, reduceCtorEq, Bool.false_eq_true, lcmp_ge, lcmp_lt, lcmp_le, lcmp_gt, lcmp_eq, true_or, or_true, not_true_eq_false, not_false_eq_true, false_implies, true_implies, List.length_cons, List.length_nil, M1, s1]
          repeat (first | refine ⟨in_small (by omega) (by omega), ?_⟩ | (show (_ → _) ∧ (_ → _); first | refine ⟨by omega, fun _ => ?_⟩ | refine ⟨fun _ => ?_, by omega⟩) | refine ⟨by omega, ?_⟩ | refine ⟨⟨_, rfl, by assumption⟩, ?_⟩ | refine ⟨okT_I _, ?_⟩ | refine ⟨okT_S (by omega) (by omega), ?_⟩ | refine ⟨okT_B (by omega) (by omega), ?_⟩ | refine call0 (gd_of rfl) ?_)
          refine sp_X19_clear s2 g2' fun D3 j1 j2 => ?_
          have hd8 : tdg (spLd st σ (μ i)) + tdg (spLd st σ (μ j)) ≤ 12 := by omega
          obtain ⟨v1, v2⟩ := tjoin_dv hd8
          obtain ⟨-, -, -, jl, jd⟩ := tjoin_tx hd8
          obtain ⟨x1, x2, x3, x4⟩ := tqu_tx jl v1
          obtain ⟨y1, y2, y3, y4⟩ := tqu_tx jl v2
          have q1 := tcode_qu jl v1
          have q2 := tcode_qu jl v2
          have dB1 : tdg (tqu (tjoin (spLd st σ (μ i)) (spLd st σ (μ j))) (spLd st σ (μ i))) ≤ 8 := by unfold tdg at *; omega
          have dB2 : tdg (tqu (tjoin (spLd st σ (μ i)) (spLd st σ (μ j))) (spLd st σ (μ j))) ≤ 8 := by unfold tdg at *; omega
          have eJ := fun w : clP c g r (fun i => spEl st σ (μ i)) (fun i => spLd st σ (μ i)) i j 1 => w
          unfold clP spDk at eJ
          have f3' : ∀ x y, (x < M + 568 ∨ M + 2392 < x) → D3 x y = D2 x y := fun x y hx => j1 x y (by omega)
          have W3 : mcW M D D3 := fun x y k1 k2 k3 k4 => by rw [f3' x y (by omega)]; exact g1 x y k1 k2 k3 k4
          -- the outcomes
          have bad : ∀ D5 : Dat, mcW M D D5 → (∃ φ, smP D5 (M + 568) φ) → (∃ φ, smP D5 (M + 2393) φ) → (∀ k, k < 6 → ∃ χ, mpP D5 (M + 4233 + 244 * k) χ) → clP c g r (fun i => spEl st σ (μ i)) (fun i => spLd st σ (μ i)) i j (-6) → Wp P_X16_closed E 5 [some (aR M)] [] B S D5 := fun D5 a1 a2 a3 a4 a5 => K6 D5 a1 a2 a3 a4 (.inr ⟨i, j, hij, by omega, g5, a5, by decide⟩)
          have three : ∀ D5 : Dat, mcW M D D5 → (∃ φ, smP D5 (M + 568) φ) → (∃ φ, smP D5 (M + 2393) φ) → (∀ k, k < 6 → ∃ χ, mpP D5 (M + 4233 + 244 * k) χ) → clP c g r (fun i => spEl st σ (μ i)) (fun i => spLd st σ (μ i)) i j (-6) → Wp P_X16_closed E 3 [some (aR M), some (aI r), some (aI i), some (aI j)] [] B S D5 := fun D5 a1 a2 a3 a4 a5 => by
            refine wp_in ?_
            simp only [P_X16_closed, i_kil, i_icon, i_lcon, i_null, i_loadI, i_loadL, i_loadR, i_istore, i_lstore, i_astore, i_iinc, i_dup, i_dup2, i_pop, i_iadd, i_isub, i_imul, i_idiv, i_irem, i_ineg, i_iand, i_ior, i_ishl, i_ishr, i_lxor, i_ladd, i_lsub, i_lmul, i_ldiv, i_lrem, i_lneg, i_lshl, i_lcmp, i_i2l, i_l2i, i_i2b, i_i2s, i_ifeq, i_ifne, i_iflt, i_ifge, i_ifgt, i_ifle, i_cmpeq, i_cmpne, i_cmplt, i_cmpge, i_cmpgt, i_cmple, i_acmpeq, i_acmpne, i_ifnull, i_ifnonnull, i_getI, i_getR, i_putI, i_putZ, i_putR, i_ald, i_ldL, i_ldR, i_ast, i_stL, i_stR, i_alen, i_new, i_newa, i_iret, i_zret, i_lret, i_aret, i_vret, i_raise, i_throw, i_recv, i_objinit, i_tsw3, lget, lset, lput1, lput2, lkil, ltrim, largs, isL, takev, dropv, nthv, pushO, catv, gd, true_and, and_true, Option.some.injEq, Prod.mk.injEq, exists_eq_left', if_true, if_false, reduceCtorEq, Bool.false_eq_true, lcmp_ge, lcmp_lt, lcmp_le, lcmp_gt, lcmp_eq, true_or, or_true, not_true_eq_false, not_false_eq_true, false_implies, true_implies, List.length_cons, List.length_nil]
            refine wp_in ?_
            simp only [P_X16_closed, i_kil, i_icon, i_lcon, i_null, i_loadI, i_loadL, i_loadR, i_istore, i_lstore, i_astore, i_iinc, i_dup, i_dup2, i_pop, i_iadd, i_isub, i_imul, i_idiv, i_irem, i_ineg, i_iand, i_ior, i_ishl, i_ishr, i_lxor, i_ladd, i_lsub, i_lmul, i_ldiv, i_lrem, i_lneg, i_lshl, i_lcmp, i_i2l, i_l2i, i_i2b, i_i2s, i_ifeq, i_ifne, i_iflt, i_ifge, i_ifgt, i_ifle, i_cmpeq, i_cmpne, i_cmplt, i_cmpge, i_cmpgt, i_cmple, i_acmpeq, i_acmpne, i_ifnull, i_ifnonnull, i_getI, i_getR, i_putI, i_putZ, i_putR, i_ald, i_ldL, i_ldR, i_ast, i_stL, i_stR, i_alen, i_new, i_newa, i_iret, i_zret, i_lret, i_aret, i_vret, i_raise, i_throw, i_recv, i_objinit, i_tsw3, lget, lset, lput1, lput2, lkil, ltrim, largs, isL, takev, dropv, nthv, pushO, catv, gd, true_and, and_true, Option.some.injEq, Prod.mk.injEq, exists_eq_left', if_true, if_false, reduceCtorEq, Bool.false_eq_true, lcmp_ge, lcmp_lt, lcmp_le, lcmp_gt, lcmp_eq, true_or, or_true, not_true_eq_false, not_false_eq_true, false_implies, true_implies, List.length_cons, List.length_nil]
            repeat (first | refine ⟨in_small (by omega) (by omega), ?_⟩ | (show (_ → _) ∧ (_ → _); first | refine ⟨by omega, fun _ => ?_⟩ | refine ⟨fun _ => ?_, by omega⟩) | refine ⟨by omega, ?_⟩ | refine ⟨⟨_, rfl, by assumption⟩, ?_⟩ | refine ⟨okT_I _, ?_⟩ | refine ⟨okT_S (by omega) (by omega), ?_⟩ | refine ⟨okT_B (by omega) (by omega), ?_⟩ | refine call0 (gd_of rfl) ?_)
            exact bad D5 a1 a2 a3 a4 a5
          have elt : ∀ a, a < st.1 → ∀ D5, mcW M D D5 → ∃ ne ee, mpD D5 (M + 19027 + 244 * a) (spEl st σ a) ne ee ∧ (∀ k, k < ne → ee k < 455 ∧ spEl st σ a (ee k) ≠ 0 ∧ tdg (ee k) ≤ 4) ∧ (∀ x y, x < ne → y < ne → ee x = ee y → x = y) := fun a ha D5 a1 => by
            obtain ⟨ne, ee, hel⟩ := ((hst D5 a1).2.2.2.2.2 a ha).2
            refine ⟨ne, ee, hel, fun k hk => ?_, fun x y hx hy e => ?_⟩
            · obtain ⟨z1, z2, z3, z4⟩ := hel.2.2.1 k hk
              refine ⟨z1, z4, ?_⟩
              rcases Nat.lt_or_ge 4 (tdg (ee k)) with w | w
              · exfalso
                refine z4 ?_
                unfold spEl
                rw [if_pos z1]
                exact (hO.2.2 _ (h.2.2.2.1.1 a ha)).2 _ z1 w
              · exact w
            · rcases Nat.lt_trichotomy x y with w | w | w
              · have := hel.2.2.2.1 x y w hy; omega
              · exact w
              · have := hel.2.2.2.1 y x w hx; omega
          obtain ⟨n1, e1, el1, el1b, el1c⟩ := elt (μ i) hμi D3 W3
          obtain ⟨k1, k2⟩ := l3 (μ i) (by omega)
          obtain ⟨k3, k4⟩ := l3 (μ j) (by omega)
          have gd1 := gat_df (ψ := spEl st σ (μ i)) (n := n1) (b := tqu (tjoin (spLd st σ (μ i)) (spLd st σ (μ j))) (spLd st σ (μ i))) (e := e1) (φ := fun _ => 0) (sg := 1) (fun k hk => ⟨(el1b k hk).1, (el1b k hk).2.1⟩) el1c el1.2.2.2.2.1 (fun k hk => by have := (el1b k hk).2.2; omega)
          rw [show -(((1 : Int)) : Rat) = -1 by decide +kernel] at gd1
          have lJ := tcode_lim jl
          have la := tcode_lim ti
          have lb := tcode_lim tj
          have A2'' : D3 (M + 10790) i = tcode (spLd st σ (μ i)) := by rw [f3' _ _ (by omega)]; exact A2'
          simp only [P_X16_closed, i_kil, i_icon, i_lcon, i_null, i_loadI, i_loadL, i_loadR, i_istore, i_lstore, i_astore, i_iinc, i_dup, i_dup2, i_pop, i_iadd, i_isub, i_imul, i_idiv, i_irem, i_ineg, i_iand, i_ior, i_ishl, i_ishr, i_lxor, i_ladd, i_lsub, i_lmul, i_ldiv, i_lrem, i_lneg, i_lshl, i_lcmp, i_i2l, i_l2i, i_i2b, i_i2s, i_ifeq, i_ifne, i_iflt, i_ifge, i_ifgt, i_ifle, i_cmpeq, i_cmpne, i_cmplt, i_cmpge, i_cmpgt, i_cmple, i_acmpeq, i_acmpne, i_ifnull, i_ifnonnull, i_getI, i_getR, i_putI, i_putZ, i_putR, i_ald, i_ldL, i_ldR, i_ast, i_stL, i_stR, i_alen, i_new, i_newa, i_iret, i_zret, i_lret, i_aret, i_vret, i_raise, i_throw, i_recv, i_objinit, i_tsw3, lget, lset, lput1, lput2, lkil, ltrim, largs, isL, takev, dropv, nthv, pushO, catv, gd, true_and, and_true, Option.some.injEq, Prod.mk.injEq, exists_eq_left', if_true, if_false, reduceCtorEq, Bool.false_eq_true, lcmp_ge, lcmp_lt, lcmp_le, lcmp_gt, lcmp_eq, true_or, or_true, not_true_eq_false, not_false_eq_true, false_implies, true_implies, List.length_cons, List.length_nil, M1, m1, m2, A1, m3, m4, A2'']
          repeat (first | refine ⟨in_small (by omega) (by omega), ?_⟩ | (show (_ → _) ∧ (_ → _); first | refine ⟨by omega, fun _ => ?_⟩ | refine ⟨fun _ => ?_, by omega⟩) | refine ⟨by omega, ?_⟩ | refine ⟨⟨_, rfl, by assumption⟩, ?_⟩ | refine ⟨okT_I _, ?_⟩ | refine ⟨okT_S (by omega) (by omega), ?_⟩ | refine ⟨okT_B (by omega) (by omega), ?_⟩ | refine call0 (gd_of rfl) ?_)
          refine sp_X16_gatherTimes (b := tqu (tjoin (spLd st σ (μ i)) (spLd st σ (μ j))) (spLd st σ (μ i))) (sg := 1) (y := tcode (tjoin (spLd st σ (μ i)) (spLd st σ (μ j))) - tcode (spLd st σ (μ i))) hg s1 s2 k2 (by omega) j2 el1 (.inl rfl) x4 (by omega) (fun k hk => by have := (el1b k hk).2.2; omega) (fun D4 o1 o2 o3 => ?_) (fun D4 o1 o2 o3 => ?_)
          · have W4 : mcW M D D4 := fun x y z1 z2 z3 z4 => by rw [o1 x y (by omega) (by omega)]; exact W3 x y z1 z2 z3 z4
            have ok1 := gd1.2.mpr o2
            rw [gd1.1] at o3
            obtain ⟨n2, e2, el2, el2b, el2c⟩ := elt (μ j) hμj D4 W4
            have gd2 := gat_df (ψ := spEl st σ (μ j)) (n := n2) (b := tqu (tjoin (spLd st σ (μ i)) (spLd st σ (μ j))) (spLd st σ (μ j))) (e := e2) (φ := sbm (fun _ => 0) (spEl st σ (μ i)) (-1) (tqu (tjoin (spLd st σ (μ i)) (spLd st σ (μ j))) (spLd st σ (μ i))) 455) (sg := -1) (fun k hk => ⟨(el2b k hk).1, (el2b k hk).2.1⟩) el2c el2.2.2.2.2.1 (fun k hk => by have := (el2b k hk).2.2; omega)
            rw [show -(((-1 : Int)) : Rat) = 1 by decide +kernel] at gd2
            have A4'' : D4 (M + 10790) j = tcode (spLd st σ (μ j)) := by rw [W4 _ _ (by omega) (by omega) (by omega) (by omega)]; exact A4
            have g3' : ∃ φ, smP D4 (M + 2393) φ := by
              obtain ⟨φ, hφ⟩ := g3
              exact ⟨φ, hφ.congr fun x y z1 z2 => by rw [o1 x y (by omega) (by omega), f3' x y (by omega)]⟩
            have g4' : ∀ k, k < 6 → ∃ χ, mpP D4 (M + 4233 + 244 * k) χ := fun k hk => by
              obtain ⟨χ, hχ⟩ := g4 k hk
              exact ⟨χ, hχ.congr fun x y z1 z2 => by rw [o1 x y (by omega) (by omega), f3' x y (by omega)]⟩
            simp only [P_X16_closed, i_kil, i_icon, i_lcon, i_null, i_loadI, i_loadL, i_loadR, i_istore, i_lstore, i_astore, i_iinc, i_dup, i_dup2, i_pop, i_iadd, i_isub, i_imul, i_idiv, i_irem, i_ineg, i_iand, i_ior, i_ishl, i_ishr, i_lxor, i_ladd, i_lsub, i_lmul, i_ldiv, i_lrem, i_lneg, i_lshl, i_lcmp, i_i2l, i_l2i, i_i2b, i_i2s, i_ifeq, i_ifne, i_iflt, i_ifge, i_ifgt, i_ifle, i_cmpeq, i_cmpne, i_cmplt, i_cmpge, i_cmpgt, i_cmple, i_acmpeq, i_acmpne, i_ifnull, i_ifnonnull, i_getI, i_getR, i_putI, i_putZ, i_putR, i_ald, i_ldL, i_ldR, i_ast, i_stL, i_stR, i_alen, i_new, i_newa, i_iret, i_zret, i_lret, i_aret, i_vret, i_raise, i_throw, i_recv, i_objinit, i_tsw3, lget, lset, lput1, lput2, lkil, ltrim, largs, isL, takev, dropv, nthv, pushO, catv, gd, true_and, and_true, Option.some.injEq, Prod.mk.injEq, exists_eq_left', if_true, if_false, reduceCtorEq, Bool.false_eq_true, lcmp_ge, lcmp_lt, lcmp_le, lcmp_gt, lcmp_eq, true_or, or_true, not_true_eq_false, not_false_eq_true, false_implies, true_implies, List.length_cons, List.length_nil, M1, m1, m2, A3, m3, m4, A4'']
            repeat (first | refine ⟨in_small (by omega) (by omega), ?_⟩ | (show (_ → _) ∧ (_ → _); first | refine ⟨by omega, fun _ => ?_⟩ | refine ⟨fun _ => ?_, by omega⟩) | refine ⟨by omega, ?_⟩ | refine ⟨⟨_, rfl, by assumption⟩, ?_⟩ | refine ⟨okT_I _, ?_⟩ | refine ⟨okT_S (by omega) (by omega), ?_⟩ | refine ⟨okT_B (by omega) (by omega), ?_⟩ | refine call0 (gd_of rfl) ?_)
            refine sp_X16_gatherTimes (b := tqu (tjoin (spLd st σ (μ i)) (spLd st σ (μ j))) (spLd st σ (μ j))) (sg := -1) (y := tcode (tjoin (spLd st σ (μ i)) (spLd st σ (μ j))) - tcode (spLd st σ (μ j))) hg s1 s2 k4 (by omega) o3 el2 (.inr rfl) y4 (by omega) (fun k hk => by have := (el2b k hk).2.2; omega) (fun D5 p1 p2 p3 => ?_) (fun D5 p1 p2 p3 => ?_)
            · have W5 : mcW M D D5 := fun x y z1 z2 z3 z4 => by rw [p1 x y (by omega) (by omega)]; exact W4 x y z1 z2 z3 z4
              have ok2 := gd2.2.mpr p2
              rw [gd2.1] at p3
              have p3' : smP D5 (M + 568) (spDf (spEl st σ (μ i)) (spEl st σ (μ j)) (tqu (tjoin (spLd st σ (μ i)) (spLd st σ (μ j))) (spLd st σ (μ i))) (tqu (tjoin (spLd st σ (μ i)) (spLd st σ (μ j))) (spLd st σ (μ j)))) := p3
              have g3'' : ∃ φ, smP D5 (M + 2393) φ := by
                obtain ⟨φ, hφ⟩ := g3'
                exact ⟨φ, hφ.congr fun x y z1 z2 => p1 x y (by omega) (by omega)⟩
              have g4'' : ∀ k, k < 6 → ∃ χ, mpP D5 (M + 4233 + 244 * k) χ := fun k hk => by
                obtain ⟨χ, hχ⟩ := g4' k hk
                exact ⟨χ, hχ.congr fun x y z1 z2 => p1 x y (by omega) (by omega)⟩
              simp only [P_X16_closed, i_kil, i_icon, i_lcon, i_null, i_loadI, i_loadL, i_loadR, i_istore, i_lstore, i_astore, i_iinc, i_dup, i_dup2, i_pop, i_iadd, i_isub, i_imul, i_idiv, i_irem, i_ineg, i_iand, i_ior, i_ishl, i_ishr, i_lxor, i_ladd, i_lsub, i_lmul, i_ldiv, i_lrem, i_lneg, i_lshl, i_lcmp, i_i2l, i_l2i, i_i2b, i_i2s, i_ifeq, i_ifne, i_iflt, i_ifge, i_ifgt, i_ifle, i_cmpeq, i_cmpne, i_cmplt, i_cmpge, i_cmpgt, i_cmple, i_acmpeq, i_acmpne, i_ifnull, i_ifnonnull, i_getI, i_getR, i_putI, i_putZ, i_putR, i_ald, i_ldL, i_ldR, i_ast, i_stL, i_stR, i_alen, i_new, i_newa, i_iret, i_zret, i_lret, i_aret, i_vret, i_raise, i_throw, i_recv, i_objinit, i_tsw3, lget, lset, lput1, lput2, lkil, ltrim, largs, isL, takev, dropv, nthv, pushO, catv, gd, true_and, and_true, Option.some.injEq, Prod.mk.injEq, exists_eq_left', if_true, if_false, reduceCtorEq, Bool.false_eq_true, lcmp_ge, lcmp_lt, lcmp_le, lcmp_gt, lcmp_eq, true_or, or_true, not_true_eq_false, not_false_eq_true, false_implies, true_implies, List.length_cons, List.length_nil]
              refine ⟨fun w => absurd w (by decide), fun _ => ?_⟩
              refine wp_in ?_
              simp only [P_X16_closed, i_kil, i_icon, i_lcon, i_null, i_loadI, i_loadL, i_loadR, i_istore, i_lstore, i_astore, i_iinc, i_dup, i_dup2, i_pop, i_iadd, i_isub, i_imul, i_idiv, i_irem, i_ineg, i_iand, i_ior, i_ishl, i_ishr, i_lxor, i_ladd, i_lsub, i_lmul, i_ldiv, i_lrem, i_lneg, i_lshl, i_lcmp, i_i2l, i_l2i, i_i2b, i_i2s, i_ifeq, i_ifne, i_iflt, i_ifge, i_ifgt, i_ifle, i_cmpeq, i_cmpne, i_cmplt, i_cmpge, i_cmpgt, i_cmple, i_acmpeq, i_acmpne, i_ifnull, i_ifnonnull, i_getI, i_getR, i_putI, i_putZ, i_putR, i_ald, i_ldL, i_ldR, i_ast, i_stL, i_stR, i_alen, i_new, i_newa, i_iret, i_zret, i_lret, i_aret, i_vret, i_raise, i_throw, i_recv, i_objinit, i_tsw3, lget, lset, lput1, lput2, lkil, ltrim, largs, isL, takev, dropv, nthv, pushO, catv, gd, true_and, and_true, Option.some.injEq, Prod.mk.injEq, exists_eq_left', if_true, if_false, reduceCtorEq, Bool.false_eq_true, lcmp_ge, lcmp_lt, lcmp_le, lcmp_gt, lcmp_eq, true_or, or_true, not_true_eq_false, not_false_eq_true, false_implies, true_implies, List.length_cons, List.length_nil, M1, s1]
              repeat (first | refine ⟨in_small (by omega) (by omega), ?_⟩ | (show (_ → _) ∧ (_ → _); first | refine ⟨by omega, fun _ => ?_⟩ | refine ⟨fun _ => ?_, by omega⟩) | refine ⟨by omega, ?_⟩ | refine ⟨⟨_, rfl, by assumption⟩, ?_⟩ | refine ⟨okT_I _, ?_⟩ | refine ⟨okT_S (by omega) (by omega), ?_⟩ | refine ⟨okT_B (by omega) (by omega), ?_⟩ | refine call0 (gd_of rfl) ?_)
              refine sp_X19_terms s2 p3' ?_
              simp only [P_X16_closed, i_kil, i_icon, i_lcon, i_null, i_loadI, i_loadL, i_loadR, i_istore, i_lstore, i_astore, i_iinc, i_dup, i_dup2, i_pop, i_iadd, i_isub, i_imul, i_idiv, i_irem, i_ineg, i_iand, i_ior, i_ishl, i_ishr, i_lxor, i_ladd, i_lsub, i_lmul, i_ldiv, i_lrem, i_lneg, i_lshl, i_lcmp, i_i2l, i_l2i, i_i2b, i_i2s, i_ifeq, i_ifne, i_iflt, i_ifge, i_ifgt, i_ifle, i_cmpeq, i_cmpne, i_cmplt, i_cmpge, i_cmpgt, i_cmple, i_acmpeq, i_acmpne, i_ifnull, i_ifnonnull, i_getI, i_getR, i_putI, i_putZ, i_putR, i_ald, i_ldL, i_ldR, i_ast, i_stL, i_stR, i_alen, i_new, i_newa, i_iret, i_zret, i_lret, i_aret, i_vret, i_raise, i_throw, i_recv, i_objinit, i_tsw3, lget, lset, lput1, lput2, lkil, ltrim, largs, isL, takev, dropv, nthv, pushO, catv, gd, true_and, and_true, Option.some.injEq, Prod.mk.injEq, exists_eq_left', if_true, if_false, reduceCtorEq, Bool.false_eq_true, lcmp_ge, lcmp_lt, lcmp_le, lcmp_gt, lcmp_eq, true_or, or_true, not_true_eq_false, not_false_eq_true, false_implies, true_implies, List.length_cons, List.length_nil]
              refine ⟨fun w => ?_, fun w => ?_⟩
              · refine bad D5 W5 ⟨_, p3'⟩ g3'' g4'' (.inl ⟨fun q => ?_, rfl⟩)
                have q3 : pcnt (spDf (spEl st σ (μ i)) (spEl st σ (μ j)) (tqu (tjoin (spLd st σ (μ i)) (spLd st σ (μ j))) (spLd st σ (μ i))) (tqu (tjoin (spLd st σ (μ i)) (spLd st σ (μ j))) (spLd st σ (μ j)))) 455 ≤ 60 := q.2.2
                omega
              · have hk := (show spDk (spEl st σ (μ i)) (spEl st σ (μ j)) (tqu (tjoin (spLd st σ (μ i)) (spLd st σ (μ j))) (spLd st σ (μ i))) (tqu (tjoin (spLd st σ (μ i)) (spLd st σ (μ j))) (spLd st σ (μ j))) from ⟨ok1, ok2, by omega⟩)
                have e45 : D5 M 45 = (c : Int) - 9 := by rw [W5 _ _ (by omega) (by omega) (by omega) (by omega)]; exact h45
                have e46 : D5 M 46 = z := by rw [W5 _ _ (by omega) (by omega) (by omega) (by omega)]; exact h46
                obtain ⟨ρ, hρ⟩ := g3''
                have hχ : ∀ k, ∃ χ, k < 6 → mpP D5 (M + 4233 + 244 * k) χ := fun k => by
                  by_cases q : k < 6
                  · obtain ⟨χ, h1⟩ := g4'' k q
                    exact ⟨χ, fun _ => h1⟩
                  · exact ⟨fun _ => 0, fun x => absurd x q⟩
                obtain ⟨χ, hχ⟩ := Classical.skolem.mp hχ
                simp only [P_X16_closed, i_kil, i_icon, i_lcon, i_null, i_loadI, i_loadL, i_loadR, i_istore, i_lstore, i_astore, i_iinc, i_dup, i_dup2, i_pop, i_iadd, i_isub, i_imul, i_idiv, i_irem, i_ineg, i_iand, i_ior, i_ishl, i_ishr, i_lxor, i_ladd, i_lsub, i_lmul, i_ldiv, i_lrem, i_lneg, i_lshl, i_lcmp, i_i2l, i_l2i, i_i2b, i_i2s, i_ifeq, i_ifne, i_iflt, i_ifge, i_ifgt, i_ifle, i_cmpeq, i_cmpne, i_cmplt, i_cmpge, i_cmpgt, i_cmple, i_acmpeq, i_acmpne, i_ifnull, i_ifnonnull, i_getI, i_getR, i_putI, i_putZ, i_putR, i_ald, i_ldL, i_ldR, i_ast, i_stL, i_stR, i_alen, i_new, i_newa, i_iret, i_zret, i_lret, i_aret, i_vret, i_raise, i_throw, i_recv, i_objinit, i_tsw3, lget, lset, lput1, lput2, lkil, ltrim, largs, isL, takev, dropv, nthv, pushO, catv, gd, true_and, and_true, Option.some.injEq, Prod.mk.injEq, exists_eq_left', if_true, if_false, reduceCtorEq, Bool.false_eq_true, lcmp_ge, lcmp_lt, lcmp_le, lcmp_gt, lcmp_eq, true_or, or_true, not_true_eq_false, not_false_eq_true, false_implies, true_implies, List.length_cons, List.length_nil, M1, m1, e45, e46]
                repeat (first | refine ⟨in_small (by omega) (by omega), ?_⟩ | (show (_ → _) ∧ (_ → _); first | refine ⟨by omega, fun _ => ?_⟩ | refine ⟨fun _ => ?_, by omega⟩) | refine ⟨by omega, ?_⟩ | refine ⟨⟨_, rfl, by assumption⟩, ?_⟩ | refine ⟨okT_I _, ?_⟩ | refine ⟨okT_S (by omega) (by omega), ?_⟩ | refine ⟨okT_B (by omega) (by omega), ?_⟩ | refine call0 (gd_of rfl) ?_)
                refine sp_X16_isDivided (Lm := M + 10789) (N := 35) (m := r) (c := c) (g := g) (gA := fun k => M + 19027 + 244 * μ k) (wi := 0) (ψ := fun k => spEl st σ (μ k)) hMd m2 (by omega) (by omega) ho hz (.inl rfl) (fun k hk => ⟨(hA k hk).1, (l3 (μ k) (by have := (hμ.1 k hk).1; omega)).2, by show M + 5696 < M + 19027 + 244 * μ k; omega⟩) p3' hρ (fun k hk => ((hst D5 W5).2.2.2.2.2 (μ k) (hμ.1 k hk).1).2) (fun k hk => hχ k hk) fun D6 v nn res t1 t2 t3 t4 t5 t6 t7 t8 => ?_
                have W6 : mcW M D D6 := fun x y z1 z2 z3 z4 => by rw [t1 x y z1 z2 z3 z4]; exact W5 x y z1 z2 z3 z4
                have out : ∀ x : Int, ((res = none ∧ x = -6) ∨ (∃ s, res = some s ∧ ((x = 0 ∧ ¬ ∀ t, t < 455 → s.2.1 t = 0) ∨ (x = 1 ∧ ∀ t, t < 455 → s.2.1 t = 0)))) → clP c g r (fun i => spEl st σ (μ i)) (fun i => spLd st σ (μ i)) i j x := fun x hx => .inr ⟨hk, nn, res, t2, hx⟩
                simp only [P_X16_closed, i_kil, i_icon, i_lcon, i_null, i_loadI, i_loadL, i_loadR, i_istore, i_lstore, i_astore, i_iinc, i_dup, i_dup2, i_pop, i_iadd, i_isub, i_imul, i_idiv, i_irem, i_ineg, i_iand, i_ior, i_ishl, i_ishr, i_lxor, i_ladd, i_lsub, i_lmul, i_ldiv, i_lrem, i_lneg, i_lshl, i_lcmp, i_i2l, i_l2i, i_i2b, i_i2s, i_ifeq, i_ifne, i_iflt, i_ifge, i_ifgt, i_ifle, i_cmpeq, i_cmpne, i_cmplt, i_cmpge, i_cmpgt, i_cmple, i_acmpeq, i_acmpne, i_ifnull, i_ifnonnull, i_getI, i_getR, i_putI, i_putZ, i_putR, i_ald, i_ldL, i_ldR, i_ast, i_stL, i_stR, i_alen, i_new, i_newa, i_iret, i_zret, i_lret, i_aret, i_vret, i_raise, i_throw, i_recv, i_objinit, i_tsw3, lget, lset, lput1, lput2, lkil, ltrim, largs, isL, takev, dropv, nthv, pushO, catv, gd, true_and, and_true, Option.some.injEq, Prod.mk.injEq, exists_eq_left', if_true, if_false, reduceCtorEq, Bool.false_eq_true, lcmp_ge, lcmp_lt, lcmp_le, lcmp_gt, lcmp_eq, true_or, or_true, not_true_eq_false, not_false_eq_true, false_implies, true_implies, List.length_cons, List.length_nil, M1, s3]
                refine ⟨fun w => ?_, fun w => ?_⟩
                · have hres : res ≠ none := t4.mp (by omega)
                  obtain ⟨s, hs⟩ := Option.ne_none_iff_exists'.mp hres
                  obtain ⟨u1, -⟩ := t8 s hs
                  repeat (first | refine ⟨in_small (by omega) (by omega), ?_⟩ | (show (_ → _) ∧ (_ → _); first | refine ⟨by omega, fun _ => ?_⟩ | refine ⟨fun _ => ?_, by omega⟩) | refine ⟨by omega, ?_⟩ | refine ⟨⟨_, rfl, by assumption⟩, ?_⟩ | refine ⟨okT_I _, ?_⟩ | refine ⟨okT_S (by omega) (by omega), ?_⟩ | refine ⟨okT_B (by omega) (by omega), ?_⟩ | refine call0 (gd_of rfl) ?_)
                  refine sp_X19_terms s4 u1 ?_
                  simp only [P_X16_closed, i_kil, i_icon, i_lcon, i_null, i_loadI, i_loadL, i_loadR, i_istore, i_lstore, i_astore, i_iinc, i_dup, i_dup2, i_pop, i_iadd, i_isub, i_imul, i_idiv, i_irem, i_ineg, i_iand, i_ior, i_ishl, i_ishr, i_lxor, i_ladd, i_lsub, i_lmul, i_ldiv, i_lrem, i_lneg, i_lshl, i_lcmp, i_i2l, i_l2i, i_i2b, i_i2s, i_ifeq, i_ifne, i_iflt, i_ifge, i_ifgt, i_ifle, i_cmpeq, i_cmpne, i_cmplt, i_cmpge, i_cmpgt, i_cmple, i_acmpeq, i_acmpne, i_ifnull, i_ifnonnull, i_getI, i_getR, i_putI, i_putZ, i_putR, i_ald, i_ldL, i_ldR, i_ast, i_stL, i_stR, i_alen, i_new, i_newa, i_iret, i_zret, i_lret, i_aret, i_vret, i_raise, i_throw, i_recv, i_objinit, i_tsw3, lget, lset, lput1, lput2, lkil, ltrim, largs, isL, takev, dropv, nthv, pushO, catv, gd, true_and, and_true, Option.some.injEq, Prod.mk.injEq, exists_eq_left', if_true, if_false, reduceCtorEq, Bool.false_eq_true, lcmp_ge, lcmp_lt, lcmp_le, lcmp_gt, lcmp_eq, true_or, or_true, not_true_eq_false, not_false_eq_true, false_implies, true_implies, List.length_cons, List.length_nil]
                  refine ⟨fun y => ?_, fun y => ?_⟩
                  · have h0 := (pcnt_z0 455).mp (show pcnt s.2.1 455 = 0 by omega)
                    repeat (first | refine ⟨in_small (by omega) (by omega), ?_⟩ | (show (_ → _) ∧ (_ → _); first | refine ⟨by omega, fun _ => ?_⟩ | refine ⟨fun _ => ?_, by omega⟩) | refine ⟨by omega, ?_⟩ | refine ⟨⟨_, rfl, by assumption⟩, ?_⟩ | refine ⟨okT_I _, ?_⟩ | refine ⟨okT_S (by omega) (by omega), ?_⟩ | refine ⟨okT_B (by omega) (by omega), ?_⟩ | refine call0 (gd_of rfl) ?_)
                    refine ih2 (j + 1) D6 (by omega) (by omega) W6 t5 t6 t7 ⟨g5.1, fun b hb hb2 => ?_⟩
                    by_cases q : b = j
                    · rw [q]; exact out 1 (.inr ⟨s, hs, .inr ⟨rfl, h0⟩⟩)
                    · exact g5.2 b hb (by omega)
                  · have h0 : ¬ ∀ t, t < 455 → s.2.1 t = 0 := fun q => by
                      have := (pcnt_z0 455).mpr q
                      omega
                    exact K D6 0 W6 t5 t6 t7 (.inl rfl) (.inr ⟨i, j, hij, by omega, g5, out 0 (.inr ⟨s, hs, .inl ⟨rfl, h0⟩⟩), by decide⟩)
                · have hres : res = none := Classical.byContradiction fun q => by have := t4.mpr q; omega
                  exact bad D6 W6 t5 t6 t7 (out (-6) (.inl ⟨hres, rfl⟩))
            · have W5 : mcW M D D5 := fun x y z1 z2 z3 z4 => by rw [p1 x y (by omega) (by omega)]; exact W4 x y z1 z2 z3 z4
              simp only [P_X16_closed, i_kil, i_icon, i_lcon, i_null, i_loadI, i_loadL, i_loadR, i_istore, i_lstore, i_astore, i_iinc, i_dup, i_dup2, i_pop, i_iadd, i_isub, i_imul, i_idiv, i_irem, i_ineg, i_iand, i_ior, i_ishl, i_ishr, i_lxor, i_ladd, i_lsub, i_lmul, i_ldiv, i_lrem, i_lneg, i_lshl, i_lcmp, i_i2l, i_l2i, i_i2b, i_i2s, i_ifeq, i_ifne, i_iflt, i_ifge, i_ifgt, i_ifle, i_cmpeq, i_cmpne, i_cmplt, i_cmpge, i_cmpgt, i_cmple, i_acmpeq, i_acmpne, i_ifnull, i_ifnonnull, i_getI, i_getR, i_putI, i_putZ, i_putR, i_ald, i_ldL, i_ldR, i_ast, i_stL, i_stR, i_alen, i_new, i_newa, i_iret, i_zret, i_lret, i_aret, i_vret, i_raise, i_throw, i_recv, i_objinit, i_tsw3, lget, lset, lput1, lput2, lkil, ltrim, largs, isL, takev, dropv, nthv, pushO, catv, gd, true_and, and_true, Option.some.injEq, Prod.mk.injEq, exists_eq_left', if_true, if_false, reduceCtorEq, Bool.false_eq_true, lcmp_ge, lcmp_lt, lcmp_le, lcmp_gt, lcmp_eq, true_or, or_true, not_true_eq_false, not_false_eq_true, false_implies, true_implies, List.length_cons, List.length_nil]
              refine three D5 W5 p3 ?_ ?_ (.inl ⟨fun w => p2 (gd2.2.mp w.2.1), rfl⟩)
              · obtain ⟨φ, hφ⟩ := g3'
                exact ⟨φ, hφ.congr fun x y z1 z2 => p1 x y (by omega) (by omega)⟩
              · intro k hk
                obtain ⟨χ, hχ⟩ := g4' k hk
                exact ⟨χ, hχ.congr fun x y z1 z2 => p1 x y (by omega) (by omega)⟩
          · have W4 : mcW M D D4 := fun x y z1 z2 z3 z4 => by rw [o1 x y (by omega) (by omega)]; exact W3 x y z1 z2 z3 z4
            simp only [P_X16_closed, i_kil, i_icon, i_lcon, i_null, i_loadI, i_loadL, i_loadR, i_istore, i_lstore, i_astore, i_iinc, i_dup, i_dup2, i_pop, i_iadd, i_isub, i_imul, i_idiv, i_irem, i_ineg, i_iand, i_ior, i_ishl, i_ishr, i_lxor, i_ladd, i_lsub, i_lmul, i_ldiv, i_lrem, i_lneg, i_lshl, i_lcmp, i_i2l, i_l2i, i_i2b, i_i2s, i_ifeq, i_ifne, i_iflt, i_ifge, i_ifgt, i_ifle, i_cmpeq, i_cmpne, i_cmplt, i_cmpge, i_cmpgt, i_cmple, i_acmpeq, i_acmpne, i_ifnull, i_ifnonnull, i_getI, i_getR, i_putI, i_putZ, i_putR, i_ald, i_ldL, i_ldR, i_ast, i_stL, i_stR, i_alen, i_new, i_newa, i_iret, i_zret, i_lret, i_aret, i_vret, i_raise, i_throw, i_recv, i_objinit, i_tsw3, lget, lset, lput1, lput2, lkil, ltrim, largs, isL, takev, dropv, nthv, pushO, catv, gd, true_and, and_true, Option.some.injEq, Prod.mk.injEq, exists_eq_left', if_true, if_false, reduceCtorEq, Bool.false_eq_true, lcmp_ge, lcmp_lt, lcmp_le, lcmp_gt, lcmp_eq, true_or, or_true, not_true_eq_false, not_false_eq_true, false_implies, true_implies, List.length_cons, List.length_nil]
            repeat (first | refine ⟨in_small (by omega) (by omega), ?_⟩ | (show (_ → _) ∧ (_ → _); first | refine ⟨by omega, fun _ => ?_⟩ | refine ⟨fun _ => ?_, by omega⟩) | refine ⟨by omega, ?_⟩ | refine ⟨⟨_, rfl, by assumption⟩, ?_⟩ | refine ⟨okT_I _, ?_⟩ | refine ⟨okT_S (by omega) (by omega), ?_⟩ | refine ⟨okT_B (by omega) (by omega), ?_⟩ | refine call0 (gd_of rfl) ?_)
            refine three D4 W4 o3 ?_ ?_ (.inl ⟨fun w => o2 (gd1.2.mp w.1), rfl⟩)
            · obtain ⟨φ, hφ⟩ := g3
              exact ⟨φ, hφ.congr fun x y z1 z2 => by rw [o1 x y (by omega) (by omega), f3' x y (by omega)]⟩
            · intro k hk
              obtain ⟨χ, hχ⟩ := g4 k hk
              exact ⟨χ, hχ.congr fun x y z1 z2 => by rw [o1 x y (by omega) (by omega), f3' x y (by omega)]⟩
      refine wp_in ?_
      simp only [P_X16_closed, i_kil, i_icon, i_lcon, i_null, i_loadI, i_loadL, i_loadR, i_istore, i_lstore, i_astore, i_iinc, i_dup, i_dup2, i_pop, i_iadd, i_isub, i_imul, i_idiv, i_irem, i_ineg, i_iand, i_ior, i_ishl, i_ishr, i_lxor, i_ladd, i_lsub, i_lmul, i_ldiv, i_lrem, i_lneg, i_lshl, i_lcmp, i_i2l, i_l2i, i_i2b, i_i2s, i_ifeq, i_ifne, i_iflt, i_ifge, i_ifgt, i_ifle, i_cmpeq, i_cmpne, i_cmplt, i_cmpge, i_cmpgt, i_cmple, i_acmpeq, i_acmpne, i_ifnull, i_ifnonnull, i_getI, i_getR, i_putI, i_putZ, i_putR, i_ald, i_ldL, i_ldR, i_ast, i_stL, i_stR, i_alen, i_new, i_newa, i_iret, i_zret, i_lret, i_aret, i_vret, i_raise, i_throw, i_recv, i_objinit, i_tsw3, lget, lset, lput1, lput2, lkil, ltrim, largs, isL, takev, dropv, nthv, pushO, catv, gd, true_and, and_true, Option.some.injEq, Prod.mk.injEq, exists_eq_left', if_true, if_false, reduceCtorEq, Bool.false_eq_true, lcmp_ge, lcmp_lt, lcmp_le, lcmp_gt, lcmp_eq, true_or, or_true, not_true_eq_false, not_false_eq_true, false_implies, true_implies, List.length_cons, List.length_nil]
      repeat (first | refine ⟨in_small (by omega) (by omega), ?_⟩ | (show (_ → _) ∧ (_ → _); first | refine ⟨by omega, fun _ => ?_⟩ | refine ⟨fun _ => ?_, by omega⟩) | refine ⟨by omega, ?_⟩ | refine ⟨⟨_, rfl, by assumption⟩, ?_⟩ | refine ⟨okT_I _, ?_⟩ | refine ⟨okT_S (by omega) (by omega), ?_⟩ | refine ⟨okT_B (by omega) (by omega), ?_⟩ | refine call0 (gd_of rfl) ?_)
      exact inner (L) (i + 1) D1 (by omega) (by omega) f1 f2 f3 f4 ⟨f5.1, fun b hb hb2 => by omega⟩
  exact outer r 0 D (by omega) (fun _ _ _ _ _ _ => rfl) hs1 hs2 hX ⟨fun a b ha => by omega, fun b _ hb => by omega⟩
end ASK
