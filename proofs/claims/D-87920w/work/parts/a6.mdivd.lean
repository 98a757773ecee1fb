/-! the model's division -/
set_option maxRecDepth 100000
set_option linter.unusedVariables false
/-- the model's places for divisions -/
def mdS (S : Stat) (M : Nat) : Prop := mgS S M ∧ S.2.1 M 29 = some (M + 568) ∧ smS S (M + 568) ∧ S.2.1 M 30 = some (M + 2393) ∧ smS S (M + 2393) ∧ S.2.1 M 35 = some (M + 4221) ∧ wS 17 S (M + 4221) 260 ∧ S.2.1 M 36 = some (M + 4223) ∧ wS 17 S (M + 4223) 260 ∧ S.2.1 M 40 = some (M + 4227) ∧ S.1 (M + 4227) = some (100, 35) ∧ S.2.1 M 41 = some (M + 4228) ∧ wS 17 S (M + 4228) 260 ∧ S.2.1 M 42 = some (M + 4230) ∧ wS 17 S (M + 4230) 260 ∧ S.2.1 M 43 = some (M + 4232) ∧ S.1 (M + 4232) = some (116, 6) ∧ ∀ k : Nat, k < 6 → S.2.1 (M + 4232) k = some (M + 4233 + 244 * k) ∧ mpS S (M + 4233 + 244 * k)
def dvW (M : Nat) (D D' : Dat) : Prop := ∀ c i, (c ≤ M ∨ M + 20 < c) → (c < M + 568 ∨ M + 4217 < c) → (c < M + 4221 ∨ M + 4224 < c) → (c < M + 4227 ∨ M + 5696 < c) → D' c i = D c i
theorem dvW.tr {M : Nat} {D D' D'' : Dat} (h : dvW M D D') (h' : dvW M D' D'') : dvW M D D'' := fun c i a b e f => by rw [h' c i a b e f, h c i a b e f]
theorem tcode_qu {t u : Nat} (ht : t < 455) (h : tdv u t) : tcode t = tcode (tqu t u) + tcode u := by
  obtain ⟨a1, a2, a3, -⟩ := tqu_tx ht h
  obtain ⟨d1, d2, d3⟩ := h
  unfold tcode
  rw [a1, a2, a3]
  omega
theorem tmu_qu {t u : Nat} (ht : t < 455) (hu : u < 455) (h : tdv u t) : tmu (tqu t u) u = t ∧ tdg (tqu t u) + tdg u = tdg t ∧ tdg t ≤ 12 := by
  obtain ⟨a1, a2, a3, a4⟩ := tqu_tx ht h
  obtain ⟨d1, d2, d3⟩ := h
  have h0 := tx_le ht
  have hd : tdg (tqu t u) + tdg u = tdg t := by unfold tdg; omega
  have h12 : tdg t ≤ 12 := by unfold tdg; omega
  obtain ⟨b1, b2, b3, b4⟩ := tmu_tx (s := tqu t u) (b := u) (by omega)
  exact ⟨tx_ext b4 ht (by omega) (by omega) (by omega), hd, h12⟩
theorem mdivides_at {E : Ex} {B : Nat × Nat} {S : Stat} {D : Dat} {t u : Nat} {x y : Int} (ht : t < 455) (hu : u < 455) (hx : x = tcode t) (hy : y = tcode u)
    (k : ∀ r : Int, (r = 0 ∨ r = 1) → (¬ r = 0 ↔ tdv t u) → E (.inl (some (.inl r))) B S D) : Wp P_X16_divides E 0 [some (aI x), some (aI y)] [] B S D := by
  subst hx; subst hy
  refine sp_X16_divides ht hu (k _ (by split <;> omega) ⟨fun h => ?_, fun h => by have h' : tx0 t ≤ tx0 u ∧ tx1 t ≤ tx1 u ∧ tx2 t ≤ tx2 u := h; rw [if_pos h']; omega⟩)
  split at h
  · assumption
  · exact absurd rfl h
/-- the quotients so far: no more terms than the count, all of greater terms than what is left -/
def qun (c g m : Nat) (ψ : Nat → Nat → Rat) (st : dst) : Prop := ∀ k, k < m → pcnt (st.2.2.2 k) 455 ≤ st.2.2.1 k ∧ ∀ w, w < 455 → st.2.2.2 k w ≠ 0 → tdg w + tdg (leads c g ψ k).toNat ≤ 12 ∧ ∀ t, isLead c g st.1 t → 0 < rankI c g (tmu w (leads c g ψ k).toNat) t
theorem pcnt_pupd_le (φ : Nat → Rat) (t : Nat) (x : Rat) (ht : t < 455) : pcnt (pupd φ t x) 455 ≤ pcnt φ 455 + 1 := by
  have h := (pcnt_upd φ t x 455).2 ht
  split at h <;> split at h <;> omega
theorem qun.step {c g m : Nat} (ho : ordOK c g) {ψ : Nat → Nat → Rat} {st : dst} {t k : Nat} (h : qun c g m ψ st) (ht : isLead c g st.1 t) (hk : dvo (leads c g ψ k) t) (hg : dgood c g ψ st t k) (hkm : k < m) : qun c g m ψ (dstp c g ψ st t k) := by
  have hl := leads_is ho hk.1
  obtain ⟨q1, q2, q3, q4⟩ := tqu_tx ht.1 hk.2
  obtain ⟨r1, r2, r3⟩ := tmu_qu ht.1 hl.1 hk.2
  have hb := dstp_below ho ht hk hg
  intro j hj
  obtain ⟨a1, a2⟩ := h j hj
  show pcnt (xupd st.2.2.2 k _ _ j) 455 ≤ kupd st.2.2.1 k j ∧ ∀ w, w < 455 → xupd st.2.2.2 k _ _ j w ≠ 0 → _
  unfold xupd kupd
  by_cases e : j = k
  · subst e
    rw [if_pos rfl, if_pos rfl]
    refine ⟨by have := pcnt_pupd_le (st.2.2.2 j) (tqu t (leads c g ψ j).toNat) (st.1 t / ψ j (leads c g ψ j).toNat) q4; omega, fun w hw h0 => ?_⟩
    unfold pupd at h0
    by_cases e2 : w = tqu t (leads c g ψ j).toNat
    · rw [e2]
      exact ⟨by omega, fun t' ht' => by rw [r1]; exact hb t' ht'⟩
    · rw [if_neg e2] at h0
      obtain ⟨b1, b2⟩ := a2 w hw h0
      exact ⟨b1, fun t' ht' => rank_trans ho (b2 t ht) (hb t' ht')⟩
  · rw [if_neg e, if_neg e]
    refine ⟨a1, fun w hw h0 => ?_⟩
    obtain ⟨b1, b2⟩ := a2 w hw h0
    exact ⟨b1, fun t' ht' => rank_trans ho (b2 t ht) (hb t' ht')⟩
theorem qun.move {c g m : Nat} (ho : ordOK c g) {ψ : Nat → Nat → Rat} {st : dst} {t : Nat} (h : qun c g m ψ st) (ht : isLead c g st.1 t) : qun c g m ψ (dmov st t) := fun j hj => by
  obtain ⟨a1, a2⟩ := h j hj
  refine ⟨a1, fun w hw h0 => ?_⟩
  obtain ⟨b1, b2⟩ := a2 w hw h0
  exact ⟨b1, fun t' ht' => rank_trans ho (b2 t ht) (dmov_below ht t' ht')⟩
theorem qun.room {c g m : Nat} (ho : ordOK c g) {ψ : Nat → Nat → Rat} {st : dst} {t k : Nat} (h : qun c g m ψ st) (ht : isLead c g st.1 t) (hk : dvo (leads c g ψ k) t) (hkm : k < m) : st.2.2.2 k (tqu t (leads c g ψ k).toNat) = 0 := by
  refine Classical.byContradiction fun q => ?_
  have hl := leads_is ho hk.1
  obtain ⟨q1, q2, q3, q4⟩ := tqu_tx ht.1 hk.2
  obtain ⟨r1, r2, r3⟩ := tmu_qu ht.1 hl.1 hk.2
  have := ((h k hkm).2 _ q4 q).2 t ht
  rw [r1, rank_self ho] at this
  omega
set_option maxHeartbeats 8000000 in
theorem sp_X16_isDivided {E : Ex} {B : Nat × Nat} {S : Stat} {D : Dat} {M Lm N m c g : Nat} {gA : Nat → Nat} {z wi : Int} {φ ρ : Nat → Rat} {ψ χ : Nat → Nat → Rat} (hM : mdS S M) (hLm : S.1 Lm = some (116, N)) (hmN : m ≤ N) (hm35 : m ≤ 35) (ho : ordOK c g) (hz : z = g ∨ c ≠ 12) (hwi : wi = 0 ∨ (wi = 1 ∧ m ≤ 6)) (hg : ∀ k : Nat, k < m → S.2.1 Lm k = some (gA k) ∧ mpS S (gA k) ∧ M + 5696 < gA k)
    (hF : smP D (M + 568) φ) (hR : smP D (M + 2393) ρ) (hG : ∀ k, k < m → mpP D (gA k) (ψ k)) (hX : ∀ k, k < 6 → mpP D (M + 4233 + 244 * k) (χ k))
    (K : ∀ (D' : Dat) (v : Int) (n : Nat) (res : Option dst), dvW M D D' → dvR c g m ψ n (φ, fun _ => 0, fun _ => 0, fun _ _ => 0) res → (v = 0 ∨ v = 1) → (v = 1 ↔ res ≠ none) → (∃ φ', smP D' (M + 568) φ') → (∃ ρ', smP D' (M + 2393) ρ') → (∀ k, k < 6 → ∃ χ', mpP D' (M + 4233 + 244 * k) χ') →
      (∀ st, res = some st → smP D' (M + 2393) st.2.1 ∧ (wi = 1 → ∀ k, k < m → mpP D' (M + 4233 + 244 * k) (st.2.2.2 k))) → E (.inl (some (.inl v))) B S D') :
    Wp P_X16_isDivided E 0 [some (aR M), some (aR Lm), some (aI m), some (aI ((c : Int) - 9)), some (aI z), some (aI wi)] [] B S D := by
  obtain ⟨G, S29, Ssum, S30, Soth, S35, Stn, S36, Std, S40, S40k, S41, Swn, S42, Swd, S43, S43k, Spt⟩ := hM
  have M1 := G.1.1
  have sm1 := Ssum.1
  obtain ⟨-, sm2, sm3, -, -, sm4, sm5, sm6, sm7⟩ := id Ssum
  obtain ⟨ot1, -, -, -, -, ot4, ot5, ot6, ot7⟩ := id Soth
  have sm51 := sm5.1
  have sm71 := sm7.1
  have ot51 := ot5.1
  have ot71 := ot7.1
  have wn1 := Swn.1
  have wd1 := Swd.1
  have tn1 := Stn.1
  have td1 := Std.1
  -- what stays
  have gD' : ∀ D1 : Dat, dvW M D D1 → ∀ k, k < m → mpP D1 (gA k) (ψ k) := fun D1 h k hk => (hG k hk).congr fun a i a1 a2 => by
    have := (hg k hk).2.2
    exact h a i (by omega) (by omega) (by omega) (by omega)
  let good : Dat → dst → Prop := fun D1 st => dvW M D D1 ∧ smP D1 (M + 568) st.1 ∧ smP D1 (M + 2393) st.2.1 ∧ (∀ k : Nat, k < m → D1 (M + 4227) k = st.2.2.1 k ∧ st.2.2.1 k ≤ 60) ∧ (wi = 1 → (∀ k, k < m → mpP D1 (M + 4233 + 244 * k) (st.2.2.2 k)) ∧ qun c g m ψ st) ∧ (∀ k, k < 6 → ∃ χ', mpP D1 (M + 4233 + 244 * k) χ')
  have fail7 : ∀ (D1 : Dat) (n : Nat), dvW M D D1 → dvR c g m ψ n (φ, fun _ => 0, fun _ => 0, fun _ _ => 0) none → (∃ φ', smP D1 (M + 568) φ') → (∃ ρ', smP D1 (M + 2393) ρ') → (∀ k, k < 6 → ∃ χ', mpP D1 (M + 4233 + 244 * k) χ') → E (.inl (some (.inl 0))) B S D1 := fun D1 n h1 h2 h3 h4 h5 => K D1 0 n none h1 h2 (.inl rfl) ⟨fun q => by omega, fun q => absurd rfl q⟩ h3 h4 h5 fun st q => by simp at q
  have main : ∀ (n : Nat) (D1 : Dat) (st : dst), (∀ t, isLead c g st.1 t → posc c g t 455 < n) → (∀ n1 res, dvR c g m ψ n1 st res → ∃ n2, dvR c g m ψ n2 (φ, fun _ => 0, fun _ => 0, fun _ _ => 0) res) → good D1 st →
      ∀ (N1 : Nat) (e : Nat → Nat) (l : Int), smD D1 (M + 568) st.1 N1 e → ((l = -1 ∧ ∀ t, t < 455 → st.1 t = 0) ∨ ∃ k : Nat, l = k ∧ k < N1 ∧ isLead c g st.1 (e k)) → Wp P_X16_isDivided E 3 [some (aR M), some (aR Lm), some (aI m), some (aI ((c : Int) - 9)), some (aI z), some (aI wi), some (aI l)] [] B S D1 := by
    intro n
    induction n with
    | zero =>
      intro D1 st hpos hst hgd N1 e l hE hl
      obtain ⟨i1, i2, i3, i4, i5, i6⟩ := hgd
      rcases hl with ⟨rfl, hz0⟩ | ⟨k, rfl, hk, hlead⟩
      · refine wp_in ?_
        simp only [P_X16_isDivided, i_kil, i_icon, i_lcon, i_null, i_loadI, i_loadL, i_loadR, i_istore, i_lstore, i_astore, i_iinc, i_dup, i_dup2, i_pop, i_iadd, i_isub, i_imul, i_idiv, i_irem, i_ineg, i_iand, i_ior, i_ishl, i_ishr, i_lxor, i_ladd, i_lsub, i_lmul, i_ldiv, i_lrem, i_lneg, i_lshl, i_lcmp, i_i2l, i_l2i, i_i2b, i_i2s, i_ifeq, i_ifne, i_iflt, i_ifge, i_ifgt, i_ifle, i_cmpeq, i_cmpne, i_cmplt, i_cmpge, i_cmpgt, i_cmple, i_acmpeq, i_acmpne, i_ifnull, i_ifnonnull, i_getI, i_getR, i_putI, i_putZ, i_putR, i_ald, i_ldL, i_ldR, i_ast, i_stL, i_stR, i_alen, i_new, i_newa, i_iret, i_zret, i_lret, i_aret, i_vret, i_raise, i_throw, i_recv, i_objinit, i_tsw3, lget, lset, lput1, lput2, lkil, ltrim, largs, isL, takev, dropv, nthv, pushO, catv, gd, true_and, and_true, Option.some.injEq, Prod.mk.injEq, exists_eq_left', if_true, if_false, reduceCtorEq, Bool.false_eq_true, lcmp_ge, lcmp_lt, lcmp_le, lcmp_gt, lcmp_eq, true_or, or_true, not_true_eq_false, not_false_eq_true, false_implies, true_implies, List.length_cons, List.length_nil]
        repeat (first | refine ⟨in_small (by omega) (by omega), ?_⟩ | (show (_ → _) ∧ (_ → _); first | refine ⟨by omega, fun _ => ?_⟩ | refine ⟨fun _ => ?_, by omega⟩) | refine ⟨by omega, ?_⟩ | refine ⟨⟨_, rfl, by assumption⟩, ?_⟩ | refine ⟨okT_I _, ?_⟩ | refine call0 (gd_of rfl) ?_)
        obtain ⟨n2, h2⟩ := hst 1 (some st) (.inl ⟨hz0, rfl⟩)
        exact K D1 1 n2 (some st) i1 h2 (.inr rfl) ⟨fun _ => Option.some_ne_none _, fun _ => rfl⟩ ⟨_, i2⟩ ⟨_, i3⟩ i6 fun st' q => by
          obtain rfl := Option.some.inj q
          exact ⟨i3, fun w => (i5 w).1⟩
      · have := hpos _ hlead; omega
    | succ n ih =>
      intro D1 st hpos hst hgd N1 e l hE hl
      obtain ⟨i1, i2, i3, i4, i5, i6⟩ := id hgd
      rcases hl with ⟨rfl, hz0⟩ | ⟨l, rfl, hlN, hlead⟩
      · refine wp_in ?_
        simp only [P_X16_isDivided, i_kil, i_icon, i_lcon, i_null, i_loadI, i_loadL, i_loadR, i_istore, i_lstore, i_astore, i_iinc, i_dup, i_dup2, i_pop, i_iadd, i_isub, i_imul, i_idiv, i_irem, i_ineg, i_iand, i_ior, i_ishl, i_ishr, i_lxor, i_ladd, i_lsub, i_lmul, i_ldiv, i_lrem, i_lneg, i_lshl, i_lcmp, i_i2l, i_l2i, i_i2b, i_i2s, i_ifeq, i_ifne, i_iflt, i_ifge, i_ifgt, i_ifle, i_cmpeq, i_cmpne, i_cmplt, i_cmpge, i_cmpgt, i_cmple, i_acmpeq, i_acmpne, i_ifnull, i_ifnonnull, i_getI, i_getR, i_putI, i_putZ, i_putR, i_ald, i_ldL, i_ldR, i_ast, i_stL, i_stR, i_alen, i_new, i_newa, i_iret, i_zret, i_lret, i_aret, i_vret, i_raise, i_throw, i_recv, i_objinit, i_tsw3, lget, lset, lput1, lput2, lkil, ltrim, largs, isL, takev, dropv, nthv, pushO, catv, gd, true_and, and_true, Option.some.injEq, Prod.mk.injEq, exists_eq_left', if_true, if_false, reduceCtorEq, Bool.false_eq_true, lcmp_ge, lcmp_lt, lcmp_le, lcmp_gt, lcmp_eq, true_or, or_true, not_true_eq_false, not_false_eq_true, false_implies, true_implies, List.length_cons, List.length_nil]
        repeat (first | refine ⟨in_small (by omega) (by omega), ?_⟩ | (show (_ → _) ∧ (_ → _); first | refine ⟨by omega, fun _ => ?_⟩ | refine ⟨fun _ => ?_, by omega⟩) | refine ⟨by omega, ?_⟩ | refine ⟨⟨_, rfl, by assumption⟩, ?_⟩ | refine ⟨okT_I _, ?_⟩ | refine call0 (gd_of rfl) ?_)
        obtain ⟨n2, h2⟩ := hst 1 (some st) (.inl ⟨hz0, rfl⟩)
        exact K D1 1 n2 (some st) i1 h2 (.inr rfl) ⟨fun _ => Option.some_ne_none _, fun _ => rfl⟩ ⟨_, i2⟩ ⟨_, i3⟩ i6 fun st' q => by
          obtain rfl := Option.some.inj q
          exact ⟨i3, fun w => (i5 w).1⟩
      have hl455 : l < 455 := by have := hE.1; omega
      obtain ⟨a1, a2, a3, a4⟩ := hE.2.2.1 l hlN
      obtain ⟨sn1, sn2⟩ := sm5.2 l hl455
      obtain ⟨sn3, sn4⟩ := sm7.2 l hl455
      have sn21 := sn2.1
      have sn41 := sn4.1
      generalize ht : e l = t at *
      have hft := hE.2.2.2.2.2.1 t a1
      have hl1 := tcode_lim a1
      -- after a round: the lead is sought again
      have again : ∀ (D2 : Dat) (st' : dst), (∀ t', isLead c g st'.1 t' → 0 < rankI c g t t') → (∀ n1 res, dvR c g m ψ n1 st' res → ∃ n2, dvR c g m ψ n2 (φ, fun _ => 0, fun _ => 0, fun _ _ => 0) res) → good D2 st' → Wp P_X16_isDivided E 10 [some (aR M), some (aR Lm), some (aI m), some (aI ((c : Int) - 9)), some (aI z), some (aI wi)] [] B S D2 := fun D2 st' hb h1 h2 => by
        obtain ⟨N2, e2, hE2⟩ := h2.2.1
        have pos2 : ∀ t', isLead c g st'.1 t' → posc c g t' 455 < n := fun t' ht' => by
          have b1 := posc_lt ho (hb t' ht') 455
          rw [if_pos ht'.1] at b1
          have := hpos t hlead
          omega
        refine wp_in ?_
        simp only [P_X16_isDivided, i_kil, i_icon, i_lcon, i_null, i_loadI, i_loadL, i_loadR, i_istore, i_lstore, i_astore, i_iinc, i_dup, i_dup2, i_pop, i_iadd, i_isub, i_imul, i_idiv, i_irem, i_ineg, i_iand, i_ior, i_ishl, i_ishr, i_lxor, i_ladd, i_lsub, i_lmul, i_ldiv, i_lrem, i_lneg, i_lshl, i_lcmp, i_i2l, i_l2i, i_i2b, i_i2s, i_ifeq, i_ifne, i_iflt, i_ifge, i_ifgt, i_ifle, i_cmpeq, i_cmpne, i_cmplt, i_cmpge, i_cmpgt, i_cmple, i_acmpeq, i_acmpne, i_ifnull, i_ifnonnull, i_getI, i_getR, i_putI, i_putZ, i_putR, i_ald, i_ldL, i_ldR, i_ast, i_stL, i_stR, i_alen, i_new, i_newa, i_iret, i_zret, i_lret, i_aret, i_vret, i_raise, i_throw, i_recv, i_objinit, i_tsw3, lget, lset, lput1, lput2, lkil, ltrim, largs, isL, takev, dropv, nthv, pushO, catv, gd, true_and, and_true, Option.some.injEq, Prod.mk.injEq, exists_eq_left', if_true, if_false, reduceCtorEq, Bool.false_eq_true, lcmp_ge, lcmp_lt, lcmp_le, lcmp_gt, lcmp_eq, true_or, or_true, not_true_eq_false, not_false_eq_true, false_implies, true_implies, List.length_cons, List.length_nil, M1, S29, sm1]
        repeat (first | refine ⟨in_small (by omega) (by omega), ?_⟩ | (show (_ → _) ∧ (_ → _); first | refine ⟨by omega, fun _ => ?_⟩ | refine ⟨fun _ => ?_, by omega⟩) | refine ⟨by omega, ?_⟩ | refine ⟨⟨_, rfl, by assumption⟩, ?_⟩ | refine ⟨okT_I _, ?_⟩ | refine call0 (gd_of rfl) ?_)
        refine sp_X19_lead Ssum hE2 ho hz (fun h => ?_) (fun k hk h => ?_)
        · simp only [P_X16_isDivided, i_kil, i_icon, i_lcon, i_null, i_loadI, i_loadL, i_loadR, i_istore, i_lstore, i_astore, i_iinc, i_dup, i_dup2, i_pop, i_iadd, i_isub, i_imul, i_idiv, i_irem, i_ineg, i_iand, i_ior, i_ishl, i_ishr, i_lxor, i_ladd, i_lsub, i_lmul, i_ldiv, i_lrem, i_lneg, i_lshl, i_lcmp, i_i2l, i_l2i, i_i2b, i_i2s, i_ifeq, i_ifne, i_iflt, i_ifge, i_ifgt, i_ifle, i_cmpeq, i_cmpne, i_cmplt, i_cmpge, i_cmpgt, i_cmple, i_acmpeq, i_acmpne, i_ifnull, i_ifnonnull, i_getI, i_getR, i_putI, i_putZ, i_putR, i_ald, i_ldL, i_ldR, i_ast, i_stL, i_stR, i_alen, i_new, i_newa, i_iret, i_zret, i_lret, i_aret, i_vret, i_raise, i_throw, i_recv, i_objinit, i_tsw3, lget, lset, lput1, lput2, lkil, ltrim, largs, isL, takev, dropv, nthv, pushO, catv, gd, true_and, and_true, Option.some.injEq, Prod.mk.injEq, exists_eq_left', if_true, if_false, reduceCtorEq, Bool.false_eq_true, lcmp_ge, lcmp_lt, lcmp_le, lcmp_gt, lcmp_eq, true_or, or_true, not_true_eq_false, not_false_eq_true, false_implies, true_implies, List.length_cons, List.length_nil]
          exact ih D2 st' pos2 h1 h2 N2 e2 (-1) hE2 (.inl ⟨rfl, h⟩)
        · simp only [P_X16_isDivided, i_kil, i_icon, i_lcon, i_null, i_loadI, i_loadL, i_loadR, i_istore, i_lstore, i_astore, i_iinc, i_dup, i_dup2, i_pop, i_iadd, i_isub, i_imul, i_idiv, i_irem, i_ineg, i_iand, i_ior, i_ishl, i_ishr, i_lxor, i_ladd, i_lsub, i_lmul, i_ldiv, i_lrem, i_lneg, i_lshl, i_lcmp, i_i2l, i_l2i, i_i2b, i_i2s, i_ifeq, i_ifne, i_iflt, i_ifge, i_ifgt, i_ifle, i_cmpeq, i_cmpne, i_cmplt, i_cmpge, i_cmpgt, i_cmple, i_acmpeq, i_acmpne, i_ifnull, i_ifnonnull, i_getI, i_getR, i_putI, i_putZ, i_putR, i_ald, i_ldL, i_ldR, i_ast, i_stL, i_stR, i_alen, i_new, i_newa, i_iret, i_zret, i_lret, i_aret, i_vret, i_raise, i_throw, i_recv, i_objinit, i_tsw3, lget, lset, lput1, lput2, lkil, ltrim, largs, isL, takev, dropv, nthv, pushO, catv, gd, true_and, and_true, Option.some.injEq, Prod.mk.injEq, exists_eq_left', if_true, if_false, reduceCtorEq, Bool.false_eq_true, lcmp_ge, lcmp_lt, lcmp_le, lcmp_gt, lcmp_eq, true_or, or_true, not_true_eq_false, not_false_eq_true, false_implies, true_implies, List.length_cons, List.length_nil]
          exact ih D2 st' pos2 h1 h2 N2 e2 k hE2 (.inr ⟨k, rfl, hk, h⟩)
      have act : ∀ k : Nat, isDiv (leads c g ψ) m t k → Wp P_X16_isDivided E 6 [some (aR M), some (aR Lm), some (aI m), some (aI ((c : Int) - 9)), some (aI z), some (aI wi), some (aI l), some (aI (tcode t)), some (aI k)] [] B S D1 := by
        intro k hk
        rcases Nat.lt_or_ge k m with km | km
        · -- a step
          have hdv := hk.2.2 km
          have hll := leads_is ho hdv.1
          generalize hu : (leads c g ψ k).toNat = u at *
          have hdv2 : tdv u t := by rw [← hu]; exact hdv.2
          obtain ⟨gk, gS, gl⟩ := hg k km
          obtain ⟨p1, p2, p3, p4, p5, p6, p7⟩ := id gS
          have p51 := p5.1
          have p71 := p7.1
          obtain ⟨nk, ek, hPk⟩ := gD' D1 i1 k km
          have hnk : 0 < nk := by
            rcases Nat.eq_zero_or_pos nk with w | w
            · subst w
              exact absurd (hPk.2.2.2.2.1 u hll.1 fun j hj => by omega) hll.2.1
            · exact w
          obtain ⟨q1, q2, q3, q4⟩ := tqu_tx a1 hdv2
          obtain ⟨r1, r2, r3⟩ := tmu_qu a1 hll.1 hdv2
          have hcq := tcode_qu a1 hdv2
          have none_of : ¬ dgood c g ψ st t k → ∃ n2, dvR c g m ψ n2 (φ, fun _ => 0, fun _ => 0, fun _ _ => 0) none := fun h => hst 1 none (.inr ⟨t, k, hlead, hk, .inl ⟨km, .inl ⟨h, rfl⟩⟩⟩)
          have hgdef : dgood c g ψ st t k ↔ qfit (st.1 t / ψ k u) ∧ st.2.2.1 k + 1 ≤ 60 ∧ sok st.1 (ψ k) (st.1 t / ψ k u) (tqu t u) 455 ∧ pcnt (sbm st.1 (ψ k) (st.1 t / ψ k u) (tqu t u) 455) 455 ≤ 60 := by
            unfold dgood; rw [hu]
          have hstp : dstp c g ψ st t k = (sbm st.1 (ψ k) (st.1 t / ψ k u) (tqu t u) 455, st.2.1, kupd st.2.2.1 k, xupd st.2.2.2 k (tqu t u) (st.1 t / ψ k u)) := by
            unfold dstp; rw [hu]
          generalize hb : tqu t u = b at *
          generalize haa : st.1 t / ψ k u = a at *
          refine wp_in ?_
          simp only [P_X16_isDivided, i_kil, i_icon, i_lcon, i_null, i_loadI, i_loadL, i_loadR, i_istore, i_lstore, i_astore, i_iinc, i_dup, i_dup2, i_pop, i_iadd, i_isub, i_imul, i_idiv, i_irem, i_ineg, i_iand, i_ior, i_ishl, i_ishr, i_lxor, i_ladd, i_lsub, i_lmul, i_ldiv, i_lrem, i_lneg, i_lshl, i_lcmp, i_i2l, i_l2i, i_i2b, i_i2s, i_ifeq, i_ifne, i_iflt, i_ifge, i_ifgt, i_ifle, i_cmpeq, i_cmpne, i_cmplt, i_cmpge, i_cmpgt, i_cmple, i_acmpeq, i_acmpne, i_ifnull, i_ifnonnull, i_getI, i_getR, i_putI, i_putZ, i_putR, i_ald, i_ldL, i_ldR, i_ast, i_stL, i_stR, i_alen, i_new, i_newa, i_iret, i_zret, i_lret, i_aret, i_vret, i_raise, i_throw, i_recv, i_objinit, i_tsw3, lget, lset, lput1, lput2, lkil, ltrim, largs, isL, takev, dropv, nthv, pushO, catv, gd, true_and, and_true, Option.some.injEq, Prod.mk.injEq, exists_eq_left', if_true, if_false, reduceCtorEq, Bool.false_eq_true, lcmp_ge, lcmp_lt, lcmp_le, lcmp_gt, lcmp_eq, true_or, or_true, not_true_eq_false, not_false_eq_true, false_implies, true_implies, List.length_cons, List.length_nil, hLm, gk]
          repeat (first | refine ⟨in_small (by omega) (by omega), ?_⟩ | (show (_ → _) ∧ (_ → _); first | refine ⟨by omega, fun _ => ?_⟩ | refine ⟨fun _ => ?_, by omega⟩) | refine ⟨by omega, ?_⟩ | refine ⟨⟨_, rfl, by assumption⟩, ?_⟩ | refine ⟨okT_I _, ?_⟩ | refine call0 (gd_of rfl) ?_)
          refine sp_X18_lead gS hPk ho rfl hz hnk fun j hj hlj => ?_
          have ej : ek j = u := hlj.uniq ho hll
          obtain ⟨b1, b2, b3, b4⟩ := hPk.2.2.1 j hj
          have hj60 : j < 60 := by have := hPk.1; omega
          rw [ej] at b1 b2 b3 b4
          have hψf := hPk.2.2.2.2.2.1 u b1
          obtain ⟨m1, m2⟩ := p5.2 j hj60
          obtain ⟨m3, m4⟩ := p7.2 j hj60
          have hψd : ((ψ k u).den : Int) ≠ 0 := by have := (ψ k u).den_pos; omega
          have hφd : ((st.1 t).den : Int) ≠ 0 := by have := (st.1 t).den_pos; omega
          have hψn : (ψ k u).num ≠ 0 := fun w => b4 (Rat.num_eq_zero.mp w)
          simp only [P_X16_isDivided, i_kil, i_icon, i_lcon, i_null, i_loadI, i_loadL, i_loadR, i_istore, i_lstore, i_astore, i_iinc, i_dup, i_dup2, i_pop, i_iadd, i_isub, i_imul, i_idiv, i_irem, i_ineg, i_iand, i_ior, i_ishl, i_ishr, i_lxor, i_ladd, i_lsub, i_lmul, i_ldiv, i_lrem, i_lneg, i_lshl, i_lcmp, i_i2l, i_l2i, i_i2b, i_i2s, i_ifeq, i_ifne, i_iflt, i_ifge, i_ifgt, i_ifle, i_cmpeq, i_cmpne, i_cmplt, i_cmpge, i_cmpgt, i_cmple, i_acmpeq, i_acmpne, i_ifnull, i_ifnonnull, i_getI, i_getR, i_putI, i_putZ, i_putR, i_ald, i_ldL, i_ldR, i_ast, i_stL, i_stR, i_alen, i_new, i_newa, i_iret, i_zret, i_lret, i_aret, i_vret, i_raise, i_throw, i_recv, i_objinit, i_tsw3, lget, lset, lput1, lput2, lkil, ltrim, largs, isL, takev, dropv, nthv, pushO, catv, gd, true_and, and_true, Option.some.injEq, Prod.mk.injEq, exists_eq_left', if_true, if_false, reduceCtorEq, Bool.false_eq_true, lcmp_ge, lcmp_lt, lcmp_le, lcmp_gt, lcmp_eq, true_or, or_true, not_true_eq_false, not_false_eq_true, false_implies, true_implies, List.length_cons, List.length_nil, M1, S29, S41, sm1, sm4, sm51, sn1, p1, p6, p71, m3]
          repeat (first | refine ⟨in_small (by omega) (by omega), ?_⟩ | (show (_ → _) ∧ (_ → _); first | refine ⟨by omega, fun _ => ?_⟩ | refine ⟨fun _ => ?_, by omega⟩) | refine ⟨by omega, ?_⟩ | refine ⟨⟨_, rfl, by assumption⟩, ?_⟩ | refine ⟨okT_I _, ?_⟩ | refine call0 (gd_of rfl) ?_)
          refine sp_X16_multiply (p := 14) (q := 14) Swn sn2 m4 M1 G.1.2.1 G.1.2.2.1 (by omega) (by omega) (by omega) a4.1 b3.2 hft.n hψf.d (by omega) (by omega) (by omega) (by omega) (by omega) (by omega) (by omega) fun D2 o1 o2 => ?_
          simp only [P_X16_isDivided, i_kil, i_icon, i_lcon, i_null, i_loadI, i_loadL, i_loadR, i_istore, i_lstore, i_astore, i_iinc, i_dup, i_dup2, i_pop, i_iadd, i_isub, i_imul, i_idiv, i_irem, i_ineg, i_iand, i_ior, i_ishl, i_ishr, i_lxor, i_ladd, i_lsub, i_lmul, i_ldiv, i_lrem, i_lneg, i_lshl, i_lcmp, i_i2l, i_l2i, i_i2b, i_i2s, i_ifeq, i_ifne, i_iflt, i_ifge, i_ifgt, i_ifle, i_cmpeq, i_cmpne, i_cmplt, i_cmpge, i_cmpgt, i_cmple, i_acmpeq, i_acmpne, i_ifnull, i_ifnonnull, i_getI, i_getR, i_putI, i_putZ, i_putR, i_ald, i_ldL, i_ldR, i_ast, i_stL, i_stR, i_alen, i_new, i_newa, i_iret, i_zret, i_lret, i_aret, i_vret, i_raise, i_throw, i_recv, i_objinit, i_tsw3, lget, lset, lput1, lput2, lkil, ltrim, largs, isL, takev, dropv, nthv, pushO, catv, gd, true_and, and_true, Option.some.injEq, Prod.mk.injEq, exists_eq_left', if_true, if_false, reduceCtorEq, Bool.false_eq_true, lcmp_ge, lcmp_lt, lcmp_le, lcmp_gt, lcmp_eq, true_or, or_true, not_true_eq_false, not_false_eq_true, false_implies, true_implies, List.length_cons, List.length_nil, M1, S29, S42, sm1, sm6, sm71, sn3, p1, p4, p51, m1]
          repeat (first | refine ⟨in_small (by omega) (by omega), ?_⟩ | (show (_ → _) ∧ (_ → _); first | refine ⟨by omega, fun _ => ?_⟩ | refine ⟨fun _ => ?_, by omega⟩) | refine ⟨by omega, ?_⟩ | refine ⟨⟨_, rfl, by assumption⟩, ?_⟩ | refine ⟨okT_I _, ?_⟩ | refine call0 (gd_of rfl) ?_)
          have a42 : wD 2 1 D2 (M + 568 + 915 + 2 * l) ((st.1 t).den : Int) := a4.2.congr (fun i => o1 _ _ (by omega) (by omega) (by omega)) (fun i => o1 _ _ (by omega) (by omega) (by omega))
          have b32 : wD 2 1 D2 (gA k + 3 + 2 * j) (ψ k u).num := b3.1.congr (fun i => o1 _ _ (by omega) (by omega) (by omega)) (fun i => o1 _ _ (by omega) (by omega) (by omega))
          refine sp_X16_multiply (p := 14) (q := 14) Swd sn4 m2 M1 G.1.2.1 G.1.2.2.1 (by omega) (by omega) (by omega) a42 b32 hft.d hψf.n (by omega) (by omega) (by omega) (by omega) (by omega) (by omega) (by omega) fun D3 o3 o4 => ?_
          simp only [P_X16_isDivided, i_kil, i_icon, i_lcon, i_null, i_loadI, i_loadL, i_loadR, i_istore, i_lstore, i_astore, i_iinc, i_dup, i_dup2, i_pop, i_iadd, i_isub, i_imul, i_idiv, i_irem, i_ineg, i_iand, i_ior, i_ishl, i_ishr, i_lxor, i_ladd, i_lsub, i_lmul, i_ldiv, i_lrem, i_lneg, i_lshl, i_lcmp, i_i2l, i_l2i, i_i2b, i_i2s, i_ifeq, i_ifne, i_iflt, i_ifge, i_ifgt, i_ifle, i_cmpeq, i_cmpne, i_cmplt, i_cmpge, i_cmpgt, i_cmple, i_acmpeq, i_acmpne, i_ifnull, i_ifnonnull, i_getI, i_getR, i_putI, i_putZ, i_putR, i_ald, i_ldL, i_ldR, i_ast, i_stL, i_stR, i_alen, i_new, i_newa, i_iret, i_zret, i_lret, i_aret, i_vret, i_raise, i_throw, i_recv, i_objinit, i_tsw3, lget, lset, lput1, lput2, lkil, ltrim, largs, isL, takev, dropv, nthv, pushO, catv, gd, true_and, and_true, Option.some.injEq, Prod.mk.injEq, exists_eq_left', if_true, if_false, reduceCtorEq, Bool.false_eq_true, lcmp_ge, lcmp_lt, lcmp_le, lcmp_gt, lcmp_eq, true_or, or_true, not_true_eq_false, not_false_eq_true, false_implies, true_implies, List.length_cons, List.length_nil, M1, S41, S42]
          repeat (first | refine ⟨in_small (by omega) (by omega), ?_⟩ | (show (_ → _) ∧ (_ → _); first | refine ⟨by omega, fun _ => ?_⟩ | refine ⟨fun _ => ?_, by omega⟩) | refine ⟨by omega, ?_⟩ | refine ⟨⟨_, rfl, by assumption⟩, ?_⟩ | refine ⟨okT_I _, ?_⟩ | refine call0 (gd_of rfl) ?_)
          have o23 : wD 2 1 D3 (M + 4228) ((st.1 t).num * ((ψ k u).den : Int)) := o2.congr (fun i => o3 _ _ (by omega) (by omega) (by omega)) (fun i => o3 _ _ (by omega) (by omega) (by omega))
          have hb1 := pw_mul hft.n hψf.d
          have hb2 := pw_mul hft.d hψf.n
          refine sp_X16_lowest G.1 Swn Swd (by omega) (by unfold mN; omega) (by unfold mN; omega) o23 o4 (Int.mul_ne_zero hφd hψn) (Int.lt_of_lt_of_le hb1 (pw_mono (by omega))) (Int.lt_of_lt_of_le hb2 (pw_mono (by omega))) (Int.lt_of_lt_of_le hb1 (pw_mono (by omega))) (Int.lt_of_lt_of_le hb2 (pw_mono (by omega))) (by omega) (by omega) (by omega) fun D4 o5 o6 o7 => ?_
          rw [rat_div, haa] at o6 o7
          have fr4 : ∀ x i, (x ≤ M ∨ M + 16 < x) → (x < M + 4228 ∨ M + 4231 < x) → D4 x i = D1 x i := fun x i y1 y2 => by
            rw [o5 x i (by omega) (by omega) (by omega) (by omega) y1, o3 x i (by omega) (by omega) (by omega), o1 x i (by omega) (by omega) (by omega)]
          have hw4 : D4 (M + 4227) k = st.2.2.1 k := by rw [fr4 _ _ (by omega) (by omega)]; exact (i4 k km).1
          have hk60 := (i4 k km).2
          simp only [P_X16_isDivided, i_kil, i_icon, i_lcon, i_null, i_loadI, i_loadL, i_loadR, i_istore, i_lstore, i_astore, i_iinc, i_dup, i_dup2, i_pop, i_iadd, i_isub, i_imul, i_idiv, i_irem, i_ineg, i_iand, i_ior, i_ishl, i_ishr, i_lxor, i_ladd, i_lsub, i_lmul, i_ldiv, i_lrem, i_lneg, i_lshl, i_lcmp, i_i2l, i_l2i, i_i2b, i_i2s, i_ifeq, i_ifne, i_iflt, i_ifge, i_ifgt, i_ifle, i_cmpeq, i_cmpne, i_cmplt, i_cmpge, i_cmpgt, i_cmple, i_acmpeq, i_acmpne, i_ifnull, i_ifnonnull, i_getI, i_getR, i_putI, i_putZ, i_putR, i_ald, i_ldL, i_ldR, i_ast, i_stL, i_stR, i_alen, i_new, i_newa, i_iret, i_zret, i_lret, i_aret, i_vret, i_raise, i_throw, i_recv, i_objinit, i_tsw3, lget, lset, lput1, lput2, lkil, ltrim, largs, isL, takev, dropv, nthv, pushO, catv, gd, true_and, and_true, Option.some.injEq, Prod.mk.injEq, exists_eq_left', if_true, if_false, reduceCtorEq, Bool.false_eq_true, lcmp_ge, lcmp_lt, lcmp_le, lcmp_gt, lcmp_eq, true_or, or_true, not_true_eq_false, not_false_eq_true, false_implies, true_implies, List.length_cons, List.length_nil, M1, S40, S40k, S41, hw4]
          repeat (first | refine ⟨in_small (by omega) (by omega), ?_⟩ | (show (_ → _) ∧ (_ → _); first | refine ⟨by omega, fun _ => ?_⟩ | refine ⟨fun _ => ?_, by omega⟩) | refine ⟨by omega, ?_⟩ | refine ⟨⟨_, rfl, by assumption⟩, ?_⟩ | refine ⟨okT_I _, ?_⟩ | refine call0 (gd_of rfl) ?_)
          have fr5 : ∀ x i, (x ≤ M ∨ M + 16 < x) → (x < M + 4227 ∨ M + 4231 < x) → pmu D4 (M + 4227) k ((st.2.2.1 k : Int) + 1) x i = D1 x i := fun x i y1 y2 => by
            simp only [pmu]; rw [if_neg (fun w => by omega)]; exact fr4 x i y1 (by omega)
          have hc5 : ∀ j : Nat, pmu D4 (M + 4227) k ((st.2.2.1 k : Int) + 1) (M + 4227) j = (kupd st.2.2.1 k j : Nat) ∨ m ≤ j := fun j => by
            rcases Nat.lt_or_ge j m with w | w
            · left
              simp only [pmu, true_and]
              unfold kupd
              by_cases x : j = k
              · rw [if_pos (by omega), if_pos x]; omega
              · rw [if_neg (by omega), if_neg x, fr4 _ _ (by omega) (by omega)]
                exact (i4 j w).1
            · exact .inr w
          have hck : pmu D4 (M + 4227) k ((st.2.2.1 k : Int) + 1) (M + 4227) k = (st.2.2.1 k : Int) + 1 := by simp only [pmu, and_self, if_true]
          have o65 : wD 2 1 (pmu D4 (M + 4227) k ((st.2.2.1 k : Int) + 1)) (M + 4228) a.num := o6.congr (fun i => by simp only [pmu]; rw [if_neg (fun w => by omega)]) (fun i => by simp only [pmu]; rw [if_neg (fun w => by omega)])
          have o75 : wD 2 1 (pmu D4 (M + 4227) k ((st.2.2.1 k : Int) + 1)) (M + 4230) (a.den : Int) := o7.congr (fun i => by simp only [pmu]; rw [if_neg (fun w => by omega)]) (fun i => by simp only [pmu]; rw [if_neg (fun w => by omega)])
          generalize pmu D4 (M + 4227) k ((st.2.2.1 k : Int) + 1) = D5 at *
          have w5 : dvW M D D5 := i1.tr fun x i y1 y2 y3 y4 => fr5 x i (by omega) (by omega)
          have s5 : smD D5 (M + 568) st.1 N1 e := hE.congr fun x i y1 y2 => fr5 x i (by omega) (by omega)
          have t5 : smP D5 (M + 2393) st.2.1 := i3.congr fun x i y1 y2 => fr5 x i (by omega) (by omega)
          have x5 : ∀ j, j < 6 → ∃ χ', mpP D5 (M + 4233 + 244 * j) χ' := fun j hj => by
            obtain ⟨χ', h⟩ := i6 j hj
            exact ⟨χ', h.congr fun x i y1 y2 => fr5 x i (by omega) (by omega)⟩
          have bad7 : ¬ dgood c g ψ st t k → Wp P_X16_isDivided E 7 [] [] B S D5 := fun h => by
            obtain ⟨n2, h2⟩ := none_of h
            refine wp_in ?_
            simp only [P_X16_isDivided, i_kil, i_icon, i_lcon, i_null, i_loadI, i_loadL, i_loadR, i_istore, i_lstore, i_astore, i_iinc, i_dup, i_dup2, i_pop, i_iadd, i_isub, i_imul, i_idiv, i_irem, i_ineg, i_iand, i_ior, i_ishl, i_ishr, i_lxor, i_ladd, i_lsub, i_lmul, i_ldiv, i_lrem, i_lneg, i_lshl, i_lcmp, i_i2l, i_l2i, i_i2b, i_i2s, i_ifeq, i_ifne, i_iflt, i_ifge, i_ifgt, i_ifle, i_cmpeq, i_cmpne, i_cmplt, i_cmpge, i_cmpgt, i_cmple, i_acmpeq, i_acmpne, i_ifnull, i_ifnonnull, i_getI, i_getR, i_putI, i_putZ, i_putR, i_ald, i_ldL, i_ldR, i_ast, i_stL, i_stR, i_alen, i_new, i_newa, i_iret, i_zret, i_lret, i_aret, i_vret, i_raise, i_throw, i_recv, i_objinit, i_tsw3, lget, lset, lput1, lput2, lkil, ltrim, largs, isL, takev, dropv, nthv, pushO, catv, gd, true_and, and_true, Option.some.injEq, Prod.mk.injEq, exists_eq_left', if_true, if_false, reduceCtorEq, Bool.false_eq_true, lcmp_ge, lcmp_lt, lcmp_le, lcmp_gt, lcmp_eq, true_or, or_true, not_true_eq_false, not_false_eq_true, false_implies, true_implies, List.length_cons, List.length_nil]
            repeat (first | refine ⟨in_small (by omega) (by omega), ?_⟩ | (show (_ → _) ∧ (_ → _); first | refine ⟨by omega, fun _ => ?_⟩ | refine ⟨fun _ => ?_, by omega⟩) | refine ⟨by omega, ?_⟩ | refine ⟨⟨_, rfl, by assumption⟩, ?_⟩ | refine ⟨okT_I _, ?_⟩ | refine call0 (gd_of rfl) ?_)
            exact fail7 D5 n2 w5 h2 ⟨_, N1, e, s5⟩ ⟨_, t5⟩ x5
          refine beyond_at Swn o65 (by omega) (by omega) fun v1 hv1 => ?_
          simp only [P_X16_isDivided, i_kil, i_icon, i_lcon, i_null, i_loadI, i_loadL, i_loadR, i_istore, i_lstore, i_astore, i_iinc, i_dup, i_dup2, i_pop, i_iadd, i_isub, i_imul, i_idiv, i_irem, i_ineg, i_iand, i_ior, i_ishl, i_ishr, i_lxor, i_ladd, i_lsub, i_lmul, i_ldiv, i_lrem, i_lneg, i_lshl, i_lcmp, i_i2l, i_l2i, i_i2b, i_i2s, i_ifeq, i_ifne, i_iflt, i_ifge, i_ifgt, i_ifle, i_cmpeq, i_cmpne, i_cmplt, i_cmpge, i_cmpgt, i_cmple, i_acmpeq, i_acmpne, i_ifnull, i_ifnonnull, i_getI, i_getR, i_putI, i_putZ, i_putR, i_ald, i_ldL, i_ldR, i_ast, i_stL, i_stR, i_alen, i_new, i_newa, i_iret, i_zret, i_lret, i_aret, i_vret, i_raise, i_throw, i_recv, i_objinit, i_tsw3, lget, lset, lput1, lput2, lkil, ltrim, largs, isL, takev, dropv, nthv, pushO, catv, gd, true_and, and_true, Option.some.injEq, Prod.mk.injEq, exists_eq_left', if_true, if_false, reduceCtorEq, Bool.false_eq_true, lcmp_ge, lcmp_lt, lcmp_le, lcmp_gt, lcmp_eq, true_or, or_true, not_true_eq_false, not_false_eq_true, false_implies, true_implies, List.length_cons, List.length_nil, M1, S42]
          refine ⟨fun w => bad7 fun h => w (hv1.mpr (qfit_iff.mp (hgdef.mp h).1).1), fun w1 => ?_⟩
          repeat (first | refine ⟨in_small (by omega) (by omega), ?_⟩ | (show (_ → _) ∧ (_ → _); first | refine ⟨by omega, fun _ => ?_⟩ | refine ⟨fun _ => ?_, by omega⟩) | refine ⟨by omega, ?_⟩ | refine ⟨⟨_, rfl, by assumption⟩, ?_⟩ | refine ⟨okT_I _, ?_⟩ | refine call0 (gd_of rfl) ?_)
          refine beyond_at Swd o75 (by omega) (by omega) fun v2 hv2 => ?_
          simp only [P_X16_isDivided, i_kil, i_icon, i_lcon, i_null, i_loadI, i_loadL, i_loadR, i_istore, i_lstore, i_astore, i_iinc, i_dup, i_dup2, i_pop, i_iadd, i_isub, i_imul, i_idiv, i_irem, i_ineg, i_iand, i_ior, i_ishl, i_ishr, i_lxor, i_ladd, i_lsub, i_lmul, i_ldiv, i_lrem, i_lneg, i_lshl, i_lcmp, i_i2l, i_l2i, i_i2b, i_i2s, i_ifeq, i_ifne, i_iflt, i_ifge, i_ifgt, i_ifle, i_cmpeq, i_cmpne, i_cmplt, i_cmpge, i_cmpgt, i_cmple, i_acmpeq, i_acmpne, i_ifnull, i_ifnonnull, i_getI, i_getR, i_putI, i_putZ, i_putR, i_ald, i_ldL, i_ldR, i_ast, i_stL, i_stR, i_alen, i_new, i_newa, i_iret, i_zret, i_lret, i_aret, i_vret, i_raise, i_throw, i_recv, i_objinit, i_tsw3, lget, lset, lput1, lput2, lkil, ltrim, largs, isL, takev, dropv, nthv, pushO, catv, gd, true_and, and_true, Option.some.injEq, Prod.mk.injEq, exists_eq_left', if_true, if_false, reduceCtorEq, Bool.false_eq_true, lcmp_ge, lcmp_lt, lcmp_le, lcmp_gt, lcmp_eq, true_or, or_true, not_true_eq_false, not_false_eq_true, false_implies, true_implies, List.length_cons, List.length_nil, M1, S40, S40k, hck]
          refine ⟨fun w => bad7 fun h => w (hv2.mpr (by have := (qfit_iff.mp (hgdef.mp h).1).2; omega)), fun w2 => ?_⟩
          have hfa : qfit a := qfit_iff.mpr ⟨hv1.mp w1, by have := hv2.mp w2; omega⟩
          repeat (first | refine ⟨in_small (by omega) (by omega), ?_⟩ | (show (_ → _) ∧ (_ → _); first | refine ⟨by omega, fun _ => ?_⟩ | refine ⟨fun _ => ?_, by omega⟩) | refine ⟨by omega, ?_⟩ | refine ⟨⟨_, rfl, by assumption⟩, ?_⟩ | refine ⟨okT_I _, ?_⟩ | refine call0 (gd_of rfl) ?_)
          refine ⟨fun w3 => ?_, fun w3 => bad7 fun h => by have := (hgdef.mp h).2.1; omega⟩
          have hn60 : st.2.2.1 k + 1 ≤ 60 := by omega
          have hcl := tcode_lim q4
          have hul := tcode_lim b1
          -- the terms of the divisor
          have inner : ∀ D6 : Dat, (∀ x i, (x < M + 4233 ∨ M + 5696 < x) → D6 x i = D5 x i) → (∀ j, j < 6 → ∃ χ', mpP D6 (M + 4233 + 244 * j) χ') → (wi = 1 → ∀ j, j < m → mpP D6 (M + 4233 + 244 * j) (xupd st.2.2.2 k b a j)) → Wp P_X16_isDivided E 8 [some (aR M), some (aR Lm), some (aI m), some (aI ((c : Int) - 9)), some (aI z), some (aI wi), none, none, none, some (aR (gA k)), none, some (aI (tcode b))] [] B S D6 := by
            intro D6 f6 x6 y6
            have loop : ∀ (L s : Nat) (D7 : Dat), s + L = nk → (∀ x i, (x ≤ M ∨ M + 20 < x) → (x < M + 568 ∨ M + 568 + 1824 < x) → (x < M + 4221 ∨ M + 4224 < x) → D7 x i = D6 x i) → (∀ j, j < s → tdg (ek j) + tdg b ≤ 12 ∧ qfit (st.1 (tmu (ek j) b) - ψ k (ek j) * a)) → smP D7 (M + 568) (gat st.1 (fun j => tmu (ek j) b) (fun j => -(a * ψ k (ek j))) s) → Wp P_X16_isDivided E 9 [some (aR M), some (aR Lm), some (aI m), some (aI ((c : Int) - 9)), some (aI z), some (aI wi), none, none, none, some (aR (gA k)), none, some (aI (tcode b)), some (aI s)] [] B S D7 := by
              intro L
              have ekE : ∀ j, j < nk → ek j < 455 ∧ ψ k (ek j) ≠ 0 := fun j hj => ⟨(hPk.2.2.1 j hj).1, (hPk.2.2.1 j hj).2.2.2⟩
              have hsok := sok_iff (φ := st.1) (ψ := ψ k) (a := a) (b := b) ekE hPk.2.2.2.2.1
              induction L with
              | zero =>
                intro s D7 hs f7 hq7 h7
                have : s = nk := by omega
                subst this
                have hm7 : D7 (gA k) 0 = s := by rw [f7 _ _ (by omega) (by omega) (by omega), f6 _ _ (by omega), fr5 _ _ (by omega) (by omega)]; exact hPk.2.1
                have w7 : dvW M D D7 := w5.tr fun x i y1 y2 y3 y4 => by rw [f7 x i y1 (by omega) y3, f6 x i (by omega)]
                have t7 : smP D7 (M + 2393) st.2.1 := t5.congr fun x i y1 y2 => by rw [f7 x i (by omega) (by omega) (by omega), f6 x i (by omega)]
                have x7 : ∀ j, j < 6 → ∃ χ', mpP D7 (M + 4233 + 244 * j) χ' := fun j hj => by
                  obtain ⟨χ', h⟩ := x6 j hj
                  exact ⟨χ', h.congr fun x i y1 y2 => f7 x i (by omega) (by omega) (by omega)⟩
                have hsb := sbm_gat (φ := st.1) (ψ := ψ k) (a := a) (b := b) ekE hPk.inj hPk.2.2.2.2.1 fun j hj => (hq7 j hj).1
                rw [← hsb] at h7
                refine wp_in ?_
                simp only [P_X16_isDivided, i_kil, i_icon, i_lcon, i_null, i_loadI, i_loadL, i_loadR, i_istore, i_lstore, i_astore, i_iinc, i_dup, i_dup2, i_pop, i_iadd, i_isub, i_imul, i_idiv, i_irem, i_ineg, i_iand, i_ior, i_ishl, i_ishr, i_lxor, i_ladd, i_lsub, i_lmul, i_ldiv, i_lrem, i_lneg, i_lshl, i_lcmp, i_i2l, i_l2i, i_i2b, i_i2s, i_ifeq, i_ifne, i_iflt, i_ifge, i_ifgt, i_ifle, i_cmpeq, i_cmpne, i_cmplt, i_cmpge, i_cmpgt, i_cmple, i_acmpeq, i_acmpne, i_ifnull, i_ifnonnull, i_getI, i_getR, i_putI, i_putZ, i_putR, i_ald, i_ldL, i_ldR, i_ast, i_stL, i_stR, i_alen, i_new, i_newa, i_iret, i_zret, i_lret, i_aret, i_vret, i_raise, i_throw, i_recv, i_objinit, i_tsw3, lget, lset, lput1, lput2, lkil, ltrim, largs, isL, takev, dropv, nthv, pushO, catv, gd, true_and, and_true, Option.some.injEq, Prod.mk.injEq, exists_eq_left', if_true, if_false, reduceCtorEq, Bool.false_eq_true, lcmp_ge, lcmp_lt, lcmp_le, lcmp_gt, lcmp_eq, true_or, or_true, not_true_eq_false, not_false_eq_true, false_implies, true_implies, List.length_cons, List.length_nil, M1, S29, sm1, p1, hm7]
                repeat (first | refine ⟨in_small (by omega) (by omega), ?_⟩ | (show (_ → _) ∧ (_ → _); first | refine ⟨by omega, fun _ => ?_⟩ | refine ⟨fun _ => ?_, by omega⟩) | refine ⟨by omega, ?_⟩ | refine ⟨⟨_, rfl, by assumption⟩, ?_⟩ | refine ⟨okT_I _, ?_⟩ | refine call0 (gd_of rfl) ?_)
                refine sp_X19_terms Ssum h7 ?_
                simp only [P_X16_isDivided, i_kil, i_icon, i_lcon, i_null, i_loadI, i_loadL, i_loadR, i_istore, i_lstore, i_astore, i_iinc, i_dup, i_dup2, i_pop, i_iadd, i_isub, i_imul, i_idiv, i_irem, i_ineg, i_iand, i_ior, i_ishl, i_ishr, i_lxor, i_ladd, i_lsub, i_lmul, i_ldiv, i_lrem, i_lneg, i_lshl, i_lcmp, i_i2l, i_l2i, i_i2b, i_i2s, i_ifeq, i_ifne, i_iflt, i_ifge, i_ifgt, i_ifle, i_cmpeq, i_cmpne, i_cmplt, i_cmpge, i_cmpgt, i_cmple, i_acmpeq, i_acmpne, i_ifnull, i_ifnonnull, i_getI, i_getR, i_putI, i_putZ, i_putR, i_ald, i_ldL, i_ldR, i_ast, i_stL, i_stR, i_alen, i_new, i_newa, i_iret, i_zret, i_lret, i_aret, i_vret, i_raise, i_throw, i_recv, i_objinit, i_tsw3, lget, lset, lput1, lput2, lkil, ltrim, largs, isL, takev, dropv, nthv, pushO, catv, gd, true_and, and_true, Option.some.injEq, Prod.mk.injEq, exists_eq_left', if_true, if_false, reduceCtorEq, Bool.false_eq_true, lcmp_ge, lcmp_lt, lcmp_le, lcmp_gt, lcmp_eq, true_or, or_true, not_true_eq_false, not_false_eq_true, false_implies, true_implies, List.length_cons, List.length_nil]
                refine ⟨fun w4 => ?_, fun w4 => ?_⟩
                · have hgd2 : dgood c g ψ st t k := hgdef.mpr ⟨hfa, hn60, hsok.mpr hq7, by omega⟩
                  refine again D7 (dstp c g ψ st t k) (dstp_below ho hlead hdv hgd2) (fun n1 res h => hst (n1 + 1) res (.inr ⟨t, k, hlead, hk, .inl ⟨km, .inr ⟨hgd2, h⟩⟩⟩)) ?_
                  have hqs : wi = 1 → qun c g m ψ (dstp c g ψ st t k) := fun w => (i5 w).2.step ho hlead hdv hgd2 km
                  rw [hstp] at hqs ⊢
                  refine ⟨w7, h7, t7, fun j hj => ?_, fun w => ⟨fun j hj => (y6 w j hj).congr fun x i y1 y2 => f7 x i (by omega) (by omega) (by omega), hqs w⟩, x7⟩
                  have hc := hc5 j
                  have hkj : kupd st.2.2.1 k j ≤ 60 := by
                    unfold kupd; split
                    · exact hn60
                    · exact (i4 j hj).2
                  refine ⟨?_, hkj⟩
                  rw [f7 _ _ (by omega) (by omega) (by omega), f6 _ _ (by omega)]
                  rcases hc with hc | hc
                  · exact hc
                  · omega
                · repeat (first | refine ⟨in_small (by omega) (by omega), ?_⟩ | (show (_ → _) ∧ (_ → _); first | refine ⟨by omega, fun _ => ?_⟩ | refine ⟨fun _ => ?_, by omega⟩) | refine ⟨by omega, ?_⟩ | refine ⟨⟨_, rfl, by assumption⟩, ?_⟩ | refine ⟨okT_I _, ?_⟩ | refine call0 (gd_of rfl) ?_)
                  obtain ⟨n2, h2⟩ := none_of fun h => by have := (hgdef.mp h).2.2.2; omega
                  exact fail7 D7 n2 w7 h2 ⟨_, h7⟩ ⟨_, t7⟩ x7
              | succ L ihL =>
                intro s D7 hs f7 hq7 h7
                have hm7 : D7 (gA k) 0 = nk := by rw [f7 _ _ (by omega) (by omega) (by omega), f6 _ _ (by omega), fr5 _ _ (by omega) (by omega)]; exact hPk.2.1
                obtain ⟨c1, c2, c3, c4⟩ := hPk.2.2.1 s (by omega)
                have hs60 : s < 60 := by have := hPk.1; omega
                have cf := hPk.2.2.2.2.2.1 (ek s) c1
                have c27 : D7 (gA k + 1) s = tcode (ek s) := by rw [f7 _ _ (by omega) (by omega) (by omega), f6 _ _ (by omega), fr5 _ _ (by omega) (by omega)]; exact c2
                have c37 : frD D7 (gA k + 3 + 2 * s) (gA k + 124 + 2 * s) (ψ k (ek s)) := c3.congr fun x i hx => by rw [f7 _ _ (by omega) (by omega) (by omega), f6 _ _ (by omega), fr5 _ _ (by omega) (by omega)]
                obtain ⟨m5, m6⟩ := p5.2 s hs60
                obtain ⟨m7, m8⟩ := p7.2 s hs60
                have o67 : wD 2 1 D7 (M + 4228) a.num := o65.congr (fun i => by rw [f7 _ _ (by omega) (by omega) (by omega), f6 _ _ (by omega)]) (fun i => by rw [f7 _ _ (by omega) (by omega) (by omega), f6 _ _ (by omega)])
                have o77 : wD 2 1 D7 (M + 4230) (a.den : Int) := o75.congr (fun i => by rw [f7 _ _ (by omega) (by omega) (by omega), f6 _ _ (by omega)]) (fun i => by rw [f7 _ _ (by omega) (by omega) (by omega), f6 _ _ (by omega)])
                have w7 : ∀ D8 : Dat, (∀ x i, (x ≤ M ∨ M + 20 < x) → (x < M + 568 ∨ M + 568 + 1824 < x) → (x < M + 4221 ∨ M + 4224 < x) → D8 x i = D7 x i) → dvW M D D8 := fun D8 h => w5.tr fun x i y1 y2 y3 y4 => by rw [h x i y1 (by omega) y3, f7 x i y1 (by omega) y3, f6 x i (by omega)]
                have bad : ∀ D8 : Dat, (∀ x i, (x ≤ M ∨ M + 20 < x) → (x < M + 568 ∨ M + 568 + 1824 < x) → (x < M + 4221 ∨ M + 4224 < x) → D8 x i = D7 x i) → (∃ φ', smP D8 (M + 568) φ') → ¬ sok st.1 (ψ k) a b 455 → E (.inl (some (.inl 0))) B S D8 := fun D8 h h2 h3 => by
                  obtain ⟨n2, h4⟩ := none_of fun w => h3 (hgdef.mp w).2.2.1
                  refine fail7 D8 n2 (w7 D8 h) h4 h2 ⟨_, t5.congr fun x i y1 y2 => by rw [h x i (by omega) (by omega) (by omega), f7 x i (by omega) (by omega) (by omega), f6 x i (by omega)]⟩ fun j hj => ?_
                  obtain ⟨χ', h5⟩ := x6 j hj
                  exact ⟨χ', h5.congr fun x i y1 y2 => by rw [h x i (by omega) (by omega) (by omega), f7 x i (by omega) (by omega) (by omega)]⟩
                refine wp_in ?_
                simp only [P_X16_isDivided, i_kil, i_icon, i_lcon, i_null, i_loadI, i_loadL, i_loadR, i_istore, i_lstore, i_astore, i_iinc, i_dup, i_dup2, i_pop, i_iadd, i_isub, i_imul, i_idiv, i_irem, i_ineg, i_iand, i_ior, i_ishl, i_ishr, i_lxor, i_ladd, i_lsub, i_lmul, i_ldiv, i_lrem, i_lneg, i_lshl, i_lcmp, i_i2l, i_l2i, i_i2b, i_i2s, i_ifeq, i_ifne, i_iflt, i_ifge, i_ifgt, i_ifle, i_cmpeq, i_cmpne, i_cmplt, i_cmpge, i_cmpgt, i_cmple, i_acmpeq, i_acmpne, i_ifnull, i_ifnonnull, i_getI, i_getR, i_putI, i_putZ, i_putR, i_ald, i_ldL, i_ldR, i_ast, i_stL, i_stR, i_alen, i_new, i_newa, i_iret, i_zret, i_lret, i_aret, i_vret, i_raise, i_throw, i_recv, i_objinit, i_tsw3, lget, lset, lput1, lput2, lkil, ltrim, largs, isL, takev, dropv, nthv, pushO, catv, gd, true_and, and_true, Option.some.injEq, Prod.mk.injEq, exists_eq_left', if_true, if_false, reduceCtorEq, Bool.false_eq_true, lcmp_ge, lcmp_lt, lcmp_le, lcmp_gt, lcmp_eq, true_or, or_true, not_true_eq_false, not_false_eq_true, false_implies, true_implies, List.length_cons, List.length_nil, p1, p2, p3, hm7]
                repeat (first | refine ⟨in_small (by omega) (by omega), ?_⟩ | (show (_ → _) ∧ (_ → _); first | refine ⟨by omega, fun _ => ?_⟩ | refine ⟨fun _ => ?_, by omega⟩) | refine ⟨by omega, ?_⟩ | refine ⟨⟨_, rfl, by assumption⟩, ?_⟩ | refine ⟨okT_I _, ?_⟩ | refine call0 (gd_of rfl) ?_)
                refine degreeOf_at q4 rfl ?_
                simp only [P_X16_isDivided, i_kil, i_icon, i_lcon, i_null, i_loadI, i_loadL, i_loadR, i_istore, i_lstore, i_astore, i_iinc, i_dup, i_dup2, i_pop, i_iadd, i_isub, i_imul, i_idiv, i_irem, i_ineg, i_iand, i_ior, i_ishl, i_ishr, i_lxor, i_ladd, i_lsub, i_lmul, i_ldiv, i_lrem, i_lneg, i_lshl, i_lcmp, i_i2l, i_l2i, i_i2b, i_i2s, i_ifeq, i_ifne, i_iflt, i_ifge, i_ifgt, i_ifle, i_cmpeq, i_cmpne, i_cmplt, i_cmpge, i_cmpgt, i_cmple, i_acmpeq, i_acmpne, i_ifnull, i_ifnonnull, i_getI, i_getR, i_putI, i_putZ, i_putR, i_ald, i_ldL, i_ldR, i_ast, i_stL, i_stR, i_alen, i_new, i_newa, i_iret, i_zret, i_lret, i_aret, i_vret, i_raise, i_throw, i_recv, i_objinit, i_tsw3, lget, lset, lput1, lput2, lkil, ltrim, largs, isL, takev, dropv, nthv, pushO, catv, gd, true_and, and_true, Option.some.injEq, Prod.mk.injEq, exists_eq_left', if_true, if_false, reduceCtorEq, Bool.false_eq_true, lcmp_ge, lcmp_lt, lcmp_le, lcmp_gt, lcmp_eq, true_or, or_true, not_true_eq_false, not_false_eq_true, false_implies, true_implies, List.length_cons, List.length_nil, p1, p2, p3]
                repeat (first | refine ⟨in_small (by omega) (by omega), ?_⟩ | (show (_ → _) ∧ (_ → _); first | refine ⟨by omega, fun _ => ?_⟩ | refine ⟨fun _ => ?_, by omega⟩) | refine ⟨by omega, ?_⟩ | refine ⟨⟨_, rfl, by assumption⟩, ?_⟩ | refine ⟨okT_I _, ?_⟩ | refine call0 (gd_of rfl) ?_)
                refine degreeOf_at c1 c27 ?_
                have dl1 : tdg b ≤ 12 := by have := tx_le q4; unfold tdg; omega
                have dl2 : tdg (ek s) ≤ 12 := by have := tx_le c1; unfold tdg; omega
                simp only [P_X16_isDivided, i_kil, i_icon, i_lcon, i_null, i_loadI, i_loadL, i_loadR, i_istore, i_lstore, i_astore, i_iinc, i_dup, i_dup2, i_pop, i_iadd, i_isub, i_imul, i_idiv, i_irem, i_ineg, i_iand, i_ior, i_ishl, i_ishr, i_lxor, i_ladd, i_lsub, i_lmul, i_ldiv, i_lrem, i_lneg, i_lshl, i_lcmp, i_i2l, i_l2i, i_i2b, i_i2s, i_ifeq, i_ifne, i_iflt, i_ifge, i_ifgt, i_ifle, i_cmpeq, i_cmpne, i_cmplt, i_cmpge, i_cmpgt, i_cmple, i_acmpeq, i_acmpne, i_ifnull, i_ifnonnull, i_getI, i_getR, i_putI, i_putZ, i_putR, i_ald, i_ldL, i_ldR, i_ast, i_stL, i_stR, i_alen, i_new, i_newa, i_iret, i_zret, i_lret, i_aret, i_vret, i_raise, i_throw, i_recv, i_objinit, i_tsw3, lget, lset, lput1, lput2, lkil, ltrim, largs, isL, takev, dropv, nthv, pushO, catv, gd, true_and, and_true, Option.some.injEq, Prod.mk.injEq, exists_eq_left', if_true, if_false, reduceCtorEq, Bool.false_eq_true, lcmp_ge, lcmp_lt, lcmp_le, lcmp_gt, lcmp_eq, true_or, or_true, not_true_eq_false, not_false_eq_true, false_implies, true_implies, List.length_cons, List.length_nil, M1, S35, S41, p4, p51, m5]
                repeat (first | refine ⟨in_small (by omega) (by omega), ?_⟩ | (show (_ → _) ∧ (_ → _); first | refine ⟨by omega, fun _ => ?_⟩ | refine ⟨fun _ => ?_, by omega⟩) | refine ⟨by omega, ?_⟩ | refine ⟨⟨_, rfl, by assumption⟩, ?_⟩ | refine ⟨okT_I _, ?_⟩ | refine call0 (gd_of rfl) ?_)
                refine ⟨fun hd => ?_, fun hd => ?_⟩
                · have hd2 : tdg (ek s) + tdg b ≤ 12 := by omega
                  simp only [P_X16_isDivided, i_kil, i_icon, i_lcon, i_null, i_loadI, i_loadL, i_loadR, i_istore, i_lstore, i_astore, i_iinc, i_dup, i_dup2, i_pop, i_iadd, i_isub, i_imul, i_idiv, i_irem, i_ineg, i_iand, i_ior, i_ishl, i_ishr, i_lxor, i_ladd, i_lsub, i_lmul, i_ldiv, i_lrem, i_lneg, i_lshl, i_lcmp, i_i2l, i_l2i, i_i2b, i_i2s, i_ifeq, i_ifne, i_iflt, i_ifge, i_ifgt, i_ifle, i_cmpeq, i_cmpne, i_cmplt, i_cmpge, i_cmpgt, i_cmple, i_acmpeq, i_acmpne, i_ifnull, i_ifnonnull, i_getI, i_getR, i_putI, i_putZ, i_putR, i_ald, i_ldL, i_ldR, i_ast, i_stL, i_stR, i_alen, i_new, i_newa, i_iret, i_zret, i_lret, i_aret, i_vret, i_raise, i_throw, i_recv, i_objinit, i_tsw3, lget, lset, lput1, lput2, lkil, ltrim, largs, isL, takev, dropv, nthv, pushO, catv, gd, true_and, and_true, Option.some.injEq, Prod.mk.injEq, exists_eq_left', if_true, if_false, reduceCtorEq, Bool.false_eq_true, lcmp_ge, lcmp_lt, lcmp_le, lcmp_gt, lcmp_eq, true_or, or_true, not_true_eq_false, not_false_eq_true, false_implies, true_implies, List.length_cons, List.length_nil, p1]
                  repeat (first | refine ⟨in_small (by omega) (by omega), ?_⟩ | (show (_ → _) ∧ (_ → _); first | refine ⟨by omega, fun _ => ?_⟩ | refine ⟨fun _ => ?_, by omega⟩) | refine ⟨by omega, ?_⟩ | refine ⟨⟨_, rfl, by assumption⟩, ?_⟩ | refine ⟨okT_I _, ?_⟩ | refine call0 (gd_of rfl) ?_)
                  refine sp_X16_multiply (p := 14) (q := 14) Stn Swn m6 M1 G.1.2.1 G.1.2.2.1 (by omega) (by omega) (by omega) o67 c37.1 hfa.n cf.n (by omega) (by omega) (by omega) (by omega) (by omega) (by omega) (by omega) fun D8 j1 j2 => ?_
                  simp only [P_X16_isDivided, i_kil, i_icon, i_lcon, i_null, i_loadI, i_loadL, i_loadR, i_istore, i_lstore, i_astore, i_iinc, i_dup, i_dup2, i_pop, i_iadd, i_isub, i_imul, i_idiv, i_irem, i_ineg, i_iand, i_ior, i_ishl, i_ishr, i_lxor, i_ladd, i_lsub, i_lmul, i_ldiv, i_lrem, i_lneg, i_lshl, i_lcmp, i_i2l, i_l2i, i_i2b, i_i2s, i_ifeq, i_ifne, i_iflt, i_ifge, i_ifgt, i_ifle, i_cmpeq, i_cmpne, i_cmplt, i_cmpge, i_cmpgt, i_cmple, i_acmpeq, i_acmpne, i_ifnull, i_ifnonnull, i_getI, i_getR, i_putI, i_putZ, i_putR, i_ald, i_ldL, i_ldR, i_ast, i_stL, i_stR, i_alen, i_new, i_newa, i_iret, i_zret, i_lret, i_aret, i_vret, i_raise, i_throw, i_recv, i_objinit, i_tsw3, lget, lset, lput1, lput2, lkil, ltrim, largs, isL, takev, dropv, nthv, pushO, catv, gd, true_and, and_true, Option.some.injEq, Prod.mk.injEq, exists_eq_left', if_true, if_false, reduceCtorEq, Bool.false_eq_true, lcmp_ge, lcmp_lt, lcmp_le, lcmp_gt, lcmp_eq, true_or, or_true, not_true_eq_false, not_false_eq_true, false_implies, true_implies, List.length_cons, List.length_nil, M1, S36, S42, p1, p6, p71, m7]
                  repeat (first | refine ⟨in_small (by omega) (by omega), ?_⟩ | (show (_ → _) ∧ (_ → _); first | refine ⟨by omega, fun _ => ?_⟩ | refine ⟨fun _ => ?_, by omega⟩) | refine ⟨by omega, ?_⟩ | refine ⟨⟨_, rfl, by assumption⟩, ?_⟩ | refine ⟨okT_I _, ?_⟩ | refine call0 (gd_of rfl) ?_)
                  have o78 : wD 2 1 D8 (M + 4230) (a.den : Int) := o77.congr (fun i => j1 _ _ (by omega) (by omega) (by omega)) (fun i => j1 _ _ (by omega) (by omega) (by omega))
                  have c38 : wD 2 1 D8 (gA k + 124 + 2 * s) ((ψ k (ek s)).den : Int) := c37.2.congr (fun i => j1 _ _ (by omega) (by omega) (by omega)) (fun i => j1 _ _ (by omega) (by omega) (by omega))
                  refine sp_X16_multiply (p := 14) (q := 14) Std Swd m8 M1 G.1.2.1 G.1.2.2.1 (by omega) (by omega) (by omega) o78 c38 hfa.d cf.d (by omega) (by omega) (by omega) (by omega) (by omega) (by omega) (by omega) fun D9 j3 j4 => ?_
                  have fr9 : ∀ x i, (x ≠ M + 4221 ∧ x ≠ M + 4222 ∧ x ≠ M + 4223 ∧ x ≠ M + 4224 ∧ x ≠ M + 1) → D9 x i = D7 x i := fun x i hx => by rw [j3 x i (by omega) (by omega) (by omega), j1 x i (by omega) (by omega) (by omega)]
                  have c29 : D9 (gA k + 1) s = tcode (ek s) := by rw [fr9 _ _ (by omega)]; exact c27
                  have hcs := tcode_lim c1
                  simp only [P_X16_isDivided, i_kil, i_icon, i_lcon, i_null, i_loadI, i_loadL, i_loadR, i_istore, i_lstore, i_astore, i_iinc, i_dup, i_dup2, i_pop, i_iadd, i_isub, i_imul, i_idiv, i_irem, i_ineg, i_iand, i_ior, i_ishl, i_ishr, i_lxor, i_ladd, i_lsub, i_lmul, i_ldiv, i_lrem, i_lneg, i_lshl, i_lcmp, i_i2l, i_l2i, i_i2b, i_i2s, i_ifeq, i_ifne, i_iflt, i_ifge, i_ifgt, i_ifle, i_cmpeq, i_cmpne, i_cmplt, i_cmpge, i_cmpgt, i_cmple, i_acmpeq, i_acmpne, i_ifnull, i_ifnonnull, i_getI, i_getR, i_putI, i_putZ, i_putR, i_ald, i_ldL, i_ldR, i_ast, i_stL, i_stR, i_alen, i_new, i_newa, i_iret, i_zret, i_lret, i_aret, i_vret, i_raise, i_throw, i_recv, i_objinit, i_tsw3, lget, lset, lput1, lput2, lkil, ltrim, largs, isL, takev, dropv, nthv, pushO, catv, gd, true_and, and_true, Option.some.injEq, Prod.mk.injEq, exists_eq_left', if_true, if_false, reduceCtorEq, Bool.false_eq_true, lcmp_ge, lcmp_lt, lcmp_le, lcmp_gt, lcmp_eq, true_or, or_true, not_true_eq_false, not_false_eq_true, false_implies, true_implies, List.length_cons, List.length_nil, M1, S29, S35, S36, p1, p2, p3, c29]
                  repeat (first | refine ⟨in_small (by omega) (by omega), ?_⟩ | (show (_ → _) ∧ (_ → _); first | refine ⟨by omega, fun _ => ?_⟩ | refine ⟨fun _ => ?_, by omega⟩) | refine ⟨by omega, ?_⟩ | refine ⟨⟨_, rfl, by assumption⟩, ?_⟩ | refine ⟨okT_I _, ?_⟩ | refine call0 (gd_of rfl) ?_)
                  have j29 : wD 2 1 D9 (M + 4221) (a.num * (ψ k (ek s)).num) := j2.congr (fun i => j3 _ _ (by omega) (by omega) (by omega)) (fun i => j3 _ _ (by omega) (by omega) (by omega))
                  have hdn : (a.den : Int) * ((ψ k (ek s)).den : Int) ≠ 0 := Int.mul_ne_zero (by have := a.den_pos; omega) (by have := (ψ k (ek s)).den_pos; omega)
                  have e9 : gat st.1 (fun j => tmu (ek j) b) (fun j => -(a * ψ k (ek j))) s (tmu (ek s) b) = st.1 (tmu (ek s) b) := gat_at s _ fun j hj w => by
                    have := hPk.inj j s (by omega) (by omega) (tmu_inj (hq7 j hj).1 hd2 (hPk.2.2.1 j (by omega)).1 c1 w)
                    omega
                  have s9 : smP D9 (M + 568) (gat st.1 (fun j => tmu (ek j) b) (fun j => -(a * ψ k (ek j))) s) := h7.congr fun x i y1 y2 => fr9 x i (by omega)
                  have em : ((-1 : Int) : Rat) * Rat.divInt (a.num * (ψ k (ek s)).num) ((a.den : Int) * ((ψ k (ek s)).den : Int)) = -(a * ψ k (ek s)) := by
                    rw [rat_mul]
                    have : ((-1 : Int) : Rat) = -1 := rfl
                    rw [this]; grind
                  refine sp_X16_gather (t := tmu (ek s) b) (p := 14 + 14) (q := 14 + 14) (sg := -1) G Ssum (by omega) s9 (tmu_tx hd2).2.2.2 (by rw [tcode_mu hd2]; omega) Stn Std (by omega) (by omega) (by omega) (by omega) j29 j4 hdn (.inr rfl) (pw_mul hfa.n cf.n) (pw_mul hfa.d cf.d) (by omega) (by omega) (by omega) (by omega) (by omega) (by omega) (fun D10 l1 l2 l3 => ?_) (fun D10 l1 l2 l3 => ?_)
                  · rw [e9, em] at l2 l3
                    simp only [P_X16_isDivided, i_kil, i_icon, i_lcon, i_null, i_loadI, i_loadL, i_loadR, i_istore, i_lstore, i_astore, i_iinc, i_dup, i_dup2, i_pop, i_iadd, i_isub, i_imul, i_idiv, i_irem, i_ineg, i_iand, i_ior, i_ishl, i_ishr, i_lxor, i_ladd, i_lsub, i_lmul, i_ldiv, i_lrem, i_lneg, i_lshl, i_lcmp, i_i2l, i_l2i, i_i2b, i_i2s, i_ifeq, i_ifne, i_iflt, i_ifge, i_ifgt, i_ifle, i_cmpeq, i_cmpne, i_cmplt, i_cmpge, i_cmpgt, i_cmple, i_acmpeq, i_acmpne, i_ifnull, i_ifnonnull, i_getI, i_getR, i_putI, i_putZ, i_putR, i_ald, i_ldL, i_ldR, i_ast, i_stL, i_stR, i_alen, i_new, i_newa, i_iret, i_zret, i_lret, i_aret, i_vret, i_raise, i_throw, i_recv, i_objinit, i_tsw3, lget, lset, lput1, lput2, lkil, ltrim, largs, isL, takev, dropv, nthv, pushO, catv, gd, true_and, and_true, Option.some.injEq, Prod.mk.injEq, exists_eq_left', if_true, if_false, reduceCtorEq, Bool.false_eq_true, lcmp_ge, lcmp_lt, lcmp_le, lcmp_gt, lcmp_eq, true_or, or_true, not_true_eq_false, not_false_eq_true, false_implies, true_implies, List.length_cons, List.length_nil]
                    repeat (first | refine ⟨in_small (by omega) (by omega), ?_⟩ | (show (_ → _) ∧ (_ → _); first | refine ⟨by omega, fun _ => ?_⟩ | refine ⟨fun _ => ?_, by omega⟩) | refine ⟨by omega, ?_⟩ | refine ⟨⟨_, rfl, by assumption⟩, ?_⟩ | refine ⟨okT_I _, ?_⟩ | refine call0 (gd_of rfl) ?_)
                    refine ihL (s + 1) D10 (by omega) (fun x i y1 y2 y3 => by rw [l1 x i y2 y1, fr9 x i (by omega), f7 x i y1 y2 y3]) (fun j hj => ?_) ?_
                    · by_cases w : j = s
                      · rw [w]; refine ⟨hd2, ?_⟩
                        have e8 : st.1 (tmu (ek s) b) - ψ k (ek s) * a = st.1 (tmu (ek s) b) + -(a * ψ k (ek s)) := by grind
                        rw [e8]; exact l2
                      · exact hq7 j (by omega)
                    · simp only [gat]; rw [e9]; exact l3
                  · rw [e9, em] at l2
                    simp only [P_X16_isDivided, i_kil, i_icon, i_lcon, i_null, i_loadI, i_loadL, i_loadR, i_istore, i_lstore, i_astore, i_iinc, i_dup, i_dup2, i_pop, i_iadd, i_isub, i_imul, i_idiv, i_irem, i_ineg, i_iand, i_ior, i_ishl, i_ishr, i_lxor, i_ladd, i_lsub, i_lmul, i_ldiv, i_lrem, i_lneg, i_lshl, i_lcmp, i_i2l, i_l2i, i_i2b, i_i2s, i_ifeq, i_ifne, i_iflt, i_ifge, i_ifgt, i_ifle, i_cmpeq, i_cmpne, i_cmplt, i_cmpge, i_cmpgt, i_cmple, i_acmpeq, i_acmpne, i_ifnull, i_ifnonnull, i_getI, i_getR, i_putI, i_putZ, i_putR, i_ald, i_ldL, i_ldR, i_ast, i_stL, i_stR, i_alen, i_new, i_newa, i_iret, i_zret, i_lret, i_aret, i_vret, i_raise, i_throw, i_recv, i_objinit, i_tsw3, lget, lset, lput1, lput2, lkil, ltrim, largs, isL, takev, dropv, nthv, pushO, catv, gd, true_and, and_true, Option.some.injEq, Prod.mk.injEq, exists_eq_left', if_true, if_false, reduceCtorEq, Bool.false_eq_true, lcmp_ge, lcmp_lt, lcmp_le, lcmp_gt, lcmp_eq, true_or, or_true, not_true_eq_false, not_false_eq_true, false_implies, true_implies, List.length_cons, List.length_nil]
                    repeat (first | refine ⟨in_small (by omega) (by omega), ?_⟩ | (show (_ → _) ∧ (_ → _); first | refine ⟨by omega, fun _ => ?_⟩ | refine ⟨fun _ => ?_, by omega⟩) | refine ⟨by omega, ?_⟩ | refine ⟨⟨_, rfl, by assumption⟩, ?_⟩ | refine ⟨okT_I _, ?_⟩ | refine call0 (gd_of rfl) ?_)
                    refine bad D10 (fun x i y1 y2 y3 => by rw [l1 x i y2 y1, fr9 x i (by omega)]) ⟨_, l3⟩ fun w => l2 ?_
                    have := (w (ek s) c1 c4).2
                    have e8 : st.1 (tmu (ek s) b) - ψ k (ek s) * a = st.1 (tmu (ek s) b) + -(a * ψ k (ek s)) := by grind
                    rw [e8] at this; exact this
                · repeat (first | refine ⟨in_small (by omega) (by omega), ?_⟩ | (show (_ → _) ∧ (_ → _); first | refine ⟨by omega, fun _ => ?_⟩ | refine ⟨fun _ => ?_, by omega⟩) | refine ⟨by omega, ?_⟩ | refine ⟨⟨_, rfl, by assumption⟩, ?_⟩ | refine ⟨okT_I _, ?_⟩ | refine call0 (gd_of rfl) ?_)
                  exact bad D7 (fun _ _ _ _ _ => rfl) ⟨_, h7⟩ fun w => by have := (w (ek s) c1 c4).1; omega
            refine wp_in ?_
            simp only [P_X16_isDivided, i_kil, i_icon, i_lcon, i_null, i_loadI, i_loadL, i_loadR, i_istore, i_lstore, i_astore, i_iinc, i_dup, i_dup2, i_pop, i_iadd, i_isub, i_imul, i_idiv, i_irem, i_ineg, i_iand, i_ior, i_ishl, i_ishr, i_lxor, i_ladd, i_lsub, i_lmul, i_ldiv, i_lrem, i_lneg, i_lshl, i_lcmp, i_i2l, i_l2i, i_i2b, i_i2s, i_ifeq, i_ifne, i_iflt, i_ifge, i_ifgt, i_ifle, i_cmpeq, i_cmpne, i_cmplt, i_cmpge, i_cmpgt, i_cmple, i_acmpeq, i_acmpne, i_ifnull, i_ifnonnull, i_getI, i_getR, i_putI, i_putZ, i_putR, i_ald, i_ldL, i_ldR, i_ast, i_stL, i_stR, i_alen, i_new, i_newa, i_iret, i_zret, i_lret, i_aret, i_vret, i_raise, i_throw, i_recv, i_objinit, i_tsw3, lget, lset, lput1, lput2, lkil, ltrim, largs, isL, takev, dropv, nthv, pushO, catv, gd, true_and, and_true, Option.some.injEq, Prod.mk.injEq, exists_eq_left', if_true, if_false, reduceCtorEq, Bool.false_eq_true, lcmp_ge, lcmp_lt, lcmp_le, lcmp_gt, lcmp_eq, true_or, or_true, not_true_eq_false, not_false_eq_true, false_implies, true_implies, List.length_cons, List.length_nil]
            refine loop nk 0 D6 (by omega) (fun _ _ _ _ _ => rfl) (fun j hj => by omega) ?_
            exact ⟨N1, e, s5.congr fun x i y1 y2 => f6 x i (by omega)⟩
          have b25 : D5 (gA k + 1) j = tcode u := by rw [fr5 _ _ (by omega) (by omega)]; exact b2
          have ecw : tcode t - tcode u = tcode b := by omega
          simp only [P_X16_isDivided, i_kil, i_icon, i_lcon, i_null, i_loadI, i_loadL, i_loadR, i_istore, i_lstore, i_astore, i_iinc, i_dup, i_dup2, i_pop, i_iadd, i_isub, i_imul, i_idiv, i_irem, i_ineg, i_iand, i_ior, i_ishl, i_ishr, i_lxor, i_ladd, i_lsub, i_lmul, i_ldiv, i_lrem, i_lneg, i_lshl, i_lcmp, i_i2l, i_l2i, i_i2b, i_i2s, i_ifeq, i_ifne, i_iflt, i_ifge, i_ifgt, i_ifle, i_cmpeq, i_cmpne, i_cmplt, i_cmpge, i_cmpgt, i_cmple, i_acmpeq, i_acmpne, i_ifnull, i_ifnonnull, i_getI, i_getR, i_putI, i_putZ, i_putR, i_ald, i_ldL, i_ldR, i_ast, i_stL, i_stR, i_alen, i_new, i_newa, i_iret, i_zret, i_lret, i_aret, i_vret, i_raise, i_throw, i_recv, i_objinit, i_tsw3, lget, lset, lput1, lput2, lkil, ltrim, largs, isL, takev, dropv, nthv, pushO, catv, gd, true_and, and_true, Option.some.injEq, Prod.mk.injEq, exists_eq_left', if_true, if_false, reduceCtorEq, Bool.false_eq_true, lcmp_ge, lcmp_lt, lcmp_le, lcmp_gt, lcmp_eq, true_or, or_true, not_true_eq_false, not_false_eq_true, false_implies, true_implies, List.length_cons, List.length_nil, p1, p2, p3, b25]
          repeat (first | refine ⟨in_small (by omega) (by omega), ?_⟩ | (show (_ → _) ∧ (_ → _); first | refine ⟨by omega, fun _ => ?_⟩ | refine ⟨fun _ => ?_, by omega⟩) | refine ⟨by omega, ?_⟩ | refine ⟨⟨_, rfl, by assumption⟩, ?_⟩ | refine ⟨okT_I _, ?_⟩ | refine call0 (gd_of rfl) ?_)
          rw [ecw]
          rcases hwi with rfl | ⟨rfl, hm6⟩
          · refine ⟨fun _ => ?_, fun w => absurd rfl w⟩
            exact inner D5 (fun _ _ _ => rfl) x5 fun w => by omega
          · refine ⟨fun w => by omega, fun _ => ?_⟩
            obtain ⟨hχ, hqu⟩ := i5 rfl
            obtain ⟨pk1, pk2⟩ := Spt k (by omega)
            have χ5 : mpP D5 (M + 4233 + 244 * k) (st.2.2.2 k) := (hχ k km).congr fun x i y1 y2 => fr5 x i (by omega) (by omega)
            have room := hqu.room ho hlead (by exact hdv) km
            rw [hu, hb] at room
            have ha0 : a ≠ 0 := fun w => by
              have e0 : a * ψ k u = st.1 t := by rw [← haa]; exact Rat.div_mul_cancel b4
              rw [w] at e0
              exact hlead.2.1 (by rw [← e0]; grind)
            simp only [P_X16_isDivided, i_kil, i_icon, i_lcon, i_null, i_loadI, i_loadL, i_loadR, i_istore, i_lstore, i_astore, i_iinc, i_dup, i_dup2, i_pop, i_iadd, i_isub, i_imul, i_idiv, i_irem, i_ineg, i_iand, i_ior, i_ishl, i_ishr, i_lxor, i_ladd, i_lsub, i_lmul, i_ldiv, i_lrem, i_lneg, i_lshl, i_lcmp, i_i2l, i_l2i, i_i2b, i_i2s, i_ifeq, i_ifne, i_iflt, i_ifge, i_ifgt, i_ifle, i_cmpeq, i_cmpne, i_cmplt, i_cmpge, i_cmpgt, i_cmple, i_acmpeq, i_acmpne, i_ifnull, i_ifnonnull, i_getI, i_getR, i_putI, i_putZ, i_putR, i_ald, i_ldL, i_ldR, i_ast, i_stL, i_stR, i_alen, i_new, i_newa, i_iret, i_zret, i_lret, i_aret, i_vret, i_raise, i_throw, i_recv, i_objinit, i_tsw3, lget, lset, lput1, lput2, lkil, ltrim, largs, isL, takev, dropv, nthv, pushO, catv, gd, true_and, and_true, Option.some.injEq, Prod.mk.injEq, exists_eq_left', if_true, if_false, reduceCtorEq, Bool.false_eq_true, lcmp_ge, lcmp_lt, lcmp_le, lcmp_gt, lcmp_eq, true_or, or_true, not_true_eq_false, not_false_eq_true, false_implies, true_implies, List.length_cons, List.length_nil, M1, S41, S42, S43, S43k, pk1]
            repeat (first | refine ⟨in_small (by omega) (by omega), ?_⟩ | (show (_ → _) ∧ (_ → _); first | refine ⟨by omega, fun _ => ?_⟩ | refine ⟨fun _ => ?_, by omega⟩) | refine ⟨by omega, ?_⟩ | refine ⟨⟨_, rfl, by assumption⟩, ?_⟩ | refine ⟨okT_I _, ?_⟩ | refine call0 (gd_of rfl) ?_)
            refine sp_X16_insert (t := b) pk2 χ5 (by have := (hqu k km).1; omega) q4 room ha0 hfa rfl Swn Swd (by omega) (by omega) (by omega) (by omega) ⟨o65, o75⟩ fun D6 f1 f2 => ?_
            simp only [P_X16_isDivided, i_kil, i_icon, i_lcon, i_null, i_loadI, i_loadL, i_loadR, i_istore, i_lstore, i_astore, i_iinc, i_dup, i_dup2, i_pop, i_iadd, i_isub, i_imul, i_idiv, i_irem, i_ineg, i_iand, i_ior, i_ishl, i_ishr, i_lxor, i_ladd, i_lsub, i_lmul, i_ldiv, i_lrem, i_lneg, i_lshl, i_lcmp, i_i2l, i_l2i, i_i2b, i_i2s, i_ifeq, i_ifne, i_iflt, i_ifge, i_ifgt, i_ifle, i_cmpeq, i_cmpne, i_cmplt, i_cmpge, i_cmpgt, i_cmple, i_acmpeq, i_acmpne, i_ifnull, i_ifnonnull, i_getI, i_getR, i_putI, i_putZ, i_putR, i_ald, i_ldL, i_ldR, i_ast, i_stL, i_stR, i_alen, i_new, i_newa, i_iret, i_zret, i_lret, i_aret, i_vret, i_raise, i_throw, i_recv, i_objinit, i_tsw3, lget, lset, lput1, lput2, lkil, ltrim, largs, isL, takev, dropv, nthv, pushO, catv, gd, true_and, and_true, Option.some.injEq, Prod.mk.injEq, exists_eq_left', if_true, if_false, reduceCtorEq, Bool.false_eq_true, lcmp_ge, lcmp_lt, lcmp_le, lcmp_gt, lcmp_eq, true_or, or_true, not_true_eq_false, not_false_eq_true, false_implies, true_implies, List.length_cons, List.length_nil]
            refine inner D6 (fun x i hx => f1 x i (by omega)) (fun j hj => ?_) (fun _ j hj => ?_)
            · by_cases w : j = k
              · subst w; exact ⟨_, f2⟩
              · obtain ⟨χ', h⟩ := x5 j hj
                exact ⟨χ', h.congr fun x i y1 y2 => f1 x i (by omega)⟩
            · unfold xupd
              by_cases w : j = k
              · subst w; rw [if_pos rfl]; exact f2
              · rw [if_neg w]
                exact (hχ j hj).congr fun x i y1 y2 => by rw [f1 x i (by omega), fr5 x i (by omega) (by omega)]
        · -- a move
          have ek : k = m := by have := hk.1; omega
          subst ek
          obtain ⟨No, eo, hOo⟩ := i3
          refine wp_in ?_
          simp only [P_X16_isDivided, i_kil, i_icon, i_lcon, i_null, i_loadI, i_loadL, i_loadR, i_istore, i_lstore, i_astore, i_iinc, i_dup, i_dup2, i_pop, i_iadd, i_isub, i_imul, i_idiv, i_irem, i_ineg, i_iand, i_ior, i_ishl, i_ishr, i_lxor, i_ladd, i_lsub, i_lmul, i_ldiv, i_lrem, i_lneg, i_lshl, i_lcmp, i_i2l, i_l2i, i_i2b, i_i2s, i_ifeq, i_ifne, i_iflt, i_ifge, i_ifgt, i_ifle, i_cmpeq, i_cmpne, i_cmplt, i_cmpge, i_cmpgt, i_cmple, i_acmpeq, i_acmpne, i_ifnull, i_ifnonnull, i_getI, i_getR, i_putI, i_putZ, i_putR, i_ald, i_ldL, i_ldR, i_ast, i_stL, i_stR, i_alen, i_new, i_newa, i_iret, i_zret, i_lret, i_aret, i_vret, i_raise, i_throw, i_recv, i_objinit, i_tsw3, lget, lset, lput1, lput2, lkil, ltrim, largs, isL, takev, dropv, nthv, pushO, catv, gd, true_and, and_true, Option.some.injEq, Prod.mk.injEq, exists_eq_left', if_true, if_false, reduceCtorEq, Bool.false_eq_true, lcmp_ge, lcmp_lt, lcmp_le, lcmp_gt, lcmp_eq, true_or, or_true, not_true_eq_false, not_false_eq_true, false_implies, true_implies, List.length_cons, List.length_nil, M1, S30, ot1]
          repeat (first | refine ⟨in_small (by omega) (by omega), ?_⟩ | (show (_ → _) ∧ (_ → _); first | refine ⟨by omega, fun _ => ?_⟩ | refine ⟨fun _ => ?_, by omega⟩) | refine ⟨by omega, ?_⟩ | refine ⟨⟨_, rfl, by assumption⟩, ?_⟩ | refine ⟨okT_I _, ?_⟩ | refine call0 (gd_of rfl) ?_)
          refine sp_X19_place Soth hOo a1 rfl fun D2 j N2 e2 o1 h2 hj hej => ?_
          subst hej
          have hj455 : j < 455 := by have := h2.1; omega
          obtain ⟨on1, on2⟩ := ot5.2 j hj455
          obtain ⟨on3, on4⟩ := ot7.2 j hj455
          have on21 := on2.1
          have on41 := on4.1
          simp only [P_X16_isDivided, i_kil, i_icon, i_lcon, i_null, i_loadI, i_loadL, i_loadR, i_istore, i_lstore, i_astore, i_iinc, i_dup, i_dup2, i_pop, i_iadd, i_isub, i_imul, i_idiv, i_irem, i_ineg, i_iand, i_ior, i_ishl, i_ishr, i_lxor, i_ladd, i_lsub, i_lmul, i_ldiv, i_lrem, i_lneg, i_lshl, i_lcmp, i_i2l, i_l2i, i_i2b, i_i2s, i_ifeq, i_ifne, i_iflt, i_ifge, i_ifgt, i_ifle, i_cmpeq, i_cmpne, i_cmplt, i_cmpge, i_cmpgt, i_cmple, i_acmpeq, i_acmpne, i_ifnull, i_ifnonnull, i_getI, i_getR, i_putI, i_putZ, i_putR, i_ald, i_ldL, i_ldR, i_ast, i_stL, i_stR, i_alen, i_new, i_newa, i_iret, i_zret, i_lret, i_aret, i_vret, i_raise, i_throw, i_recv, i_objinit, i_tsw3, lget, lset, lput1, lput2, lkil, ltrim, largs, isL, takev, dropv, nthv, pushO, catv, gd, true_and, and_true, Option.some.injEq, Prod.mk.injEq, exists_eq_left', if_true, if_false, reduceCtorEq, Bool.false_eq_true, lcmp_ge, lcmp_lt, lcmp_le, lcmp_gt, lcmp_eq, true_or, or_true, not_true_eq_false, not_false_eq_true, false_implies, true_implies, List.length_cons, List.length_nil, M1, S29, S30, ot1, ot4, ot51, on1, sm1, sm4, sm51, sn1]
          repeat (first | refine ⟨in_small (by omega) (by omega), ?_⟩ | (show (_ → _) ∧ (_ → _); first | refine ⟨by omega, fun _ => ?_⟩ | refine ⟨fun _ => ?_, by omega⟩) | refine ⟨by omega, ?_⟩ | refine ⟨⟨_, rfl, by assumption⟩, ?_⟩ | refine ⟨okT_I _, ?_⟩ | refine call0 (gd_of rfl) ?_)
          have a42 : frD D2 (M + 568 + 4 + 2 * l) (M + 568 + 915 + 2 * l) (st.1 (e2 j)) := a4.congr fun x i hx => o1 x i (by omega)
          refine sp_X17_copy on2 sn2 a42.1 hft.n hft.n (by omega) fun D3 f1 f2 => ?_
          simp only [P_X16_isDivided, i_kil, i_icon, i_lcon, i_null, i_loadI, i_loadL, i_loadR, i_istore, i_lstore, i_astore, i_iinc, i_dup, i_dup2, i_pop, i_iadd, i_isub, i_imul, i_idiv, i_irem, i_ineg, i_iand, i_ior, i_ishl, i_ishr, i_lxor, i_ladd, i_lsub, i_lmul, i_ldiv, i_lrem, i_lneg, i_lshl, i_lcmp, i_i2l, i_l2i, i_i2b, i_i2s, i_ifeq, i_ifne, i_iflt, i_ifge, i_ifgt, i_ifle, i_cmpeq, i_cmpne, i_cmplt, i_cmpge, i_cmpgt, i_cmple, i_acmpeq, i_acmpne, i_ifnull, i_ifnonnull, i_getI, i_getR, i_putI, i_putZ, i_putR, i_ald, i_ldL, i_ldR, i_ast, i_stL, i_stR, i_alen, i_new, i_newa, i_iret, i_zret, i_lret, i_aret, i_vret, i_raise, i_throw, i_recv, i_objinit, i_tsw3, lget, lset, lput1, lput2, lkil, ltrim, largs, isL, takev, dropv, nthv, pushO, catv, gd, true_and, and_true, Option.some.injEq, Prod.mk.injEq, exists_eq_left', if_true, if_false, reduceCtorEq, Bool.false_eq_true, lcmp_ge, lcmp_lt, lcmp_le, lcmp_gt, lcmp_eq, true_or, or_true, not_true_eq_false, not_false_eq_true, false_implies, true_implies, List.length_cons, List.length_nil, M1, S29, S30, ot1, ot6, ot71, on3, sm1, sm6, sm71, sn3]
          repeat (first | refine ⟨in_small (by omega) (by omega), ?_⟩ | (show (_ → _) ∧ (_ → _); first | refine ⟨by omega, fun _ => ?_⟩ | refine ⟨fun _ => ?_, by omega⟩) | refine ⟨by omega, ?_⟩ | refine ⟨⟨_, rfl, by assumption⟩, ?_⟩ | refine ⟨okT_I _, ?_⟩ | refine call0 (gd_of rfl) ?_)
          have a43 : wD 2 1 D3 (M + 568 + 915 + 2 * l) ((st.1 (e2 j)).den : Int) := a42.2.congr (fun i => f1 _ _ (by omega) (by omega)) (fun i => f1 _ _ (by omega) (by omega))
          refine sp_X17_copy on4 sn4 a43 hft.d hft.d (by omega) fun D4 f3 f4 => ?_
          simp only [P_X16_isDivided, i_kil, i_icon, i_lcon, i_null, i_loadI, i_loadL, i_loadR, i_istore, i_lstore, i_astore, i_iinc, i_dup, i_dup2, i_pop, i_iadd, i_isub, i_imul, i_idiv, i_irem, i_ineg, i_iand, i_ior, i_ishl, i_ishr, i_lxor, i_ladd, i_lsub, i_lmul, i_ldiv, i_lrem, i_lneg, i_lshl, i_lcmp, i_i2l, i_l2i, i_i2b, i_i2s, i_ifeq, i_ifne, i_iflt, i_ifge, i_ifgt, i_ifle, i_cmpeq, i_cmpne, i_cmplt, i_cmpge, i_cmpgt, i_cmple, i_acmpeq, i_acmpne, i_ifnull, i_ifnonnull, i_getI, i_getR, i_putI, i_putZ, i_putR, i_ald, i_ldL, i_ldR, i_ast, i_stL, i_stR, i_alen, i_new, i_newa, i_iret, i_zret, i_lret, i_aret, i_vret, i_raise, i_throw, i_recv, i_objinit, i_tsw3, lget, lset, lput1, lput2, lkil, ltrim, largs, isL, takev, dropv, nthv, pushO, catv, gd, true_and, and_true, Option.some.injEq, Prod.mk.injEq, exists_eq_left', if_true, if_false, reduceCtorEq, Bool.false_eq_true, lcmp_ge, lcmp_lt, lcmp_le, lcmp_gt, lcmp_eq, true_or, or_true, not_true_eq_false, not_false_eq_true, false_implies, true_implies, List.length_cons, List.length_nil, M1, S29, sm1, sm4, sm51, sn1]
          repeat (first | refine ⟨in_small (by omega) (by omega), ?_⟩ | (show (_ → _) ∧ (_ → _); first | refine ⟨by omega, fun _ => ?_⟩ | refine ⟨fun _ => ?_, by omega⟩) | refine ⟨by omega, ?_⟩ | refine ⟨⟨_, rfl, by assumption⟩, ?_⟩ | refine ⟨okT_I _, ?_⟩ | refine call0 (gd_of rfl) ?_)
          refine sp_X17_set sn2 (by omega) (by omega) (by omega) fun D5 g1 g2 => ?_
          simp only [P_X16_isDivided, i_kil, i_icon, i_lcon, i_null, i_loadI, i_loadL, i_loadR, i_istore, i_lstore, i_astore, i_iinc, i_dup, i_dup2, i_pop, i_iadd, i_isub, i_imul, i_idiv, i_irem, i_ineg, i_iand, i_ior, i_ishl, i_ishr, i_lxor, i_ladd, i_lsub, i_lmul, i_ldiv, i_lrem, i_lneg, i_lshl, i_lcmp, i_i2l, i_l2i, i_i2b, i_i2s, i_ifeq, i_ifne, i_iflt, i_ifge, i_ifgt, i_ifle, i_cmpeq, i_cmpne, i_cmplt, i_cmpge, i_cmpgt, i_cmple, i_acmpeq, i_acmpne, i_ifnull, i_ifnonnull, i_getI, i_getR, i_putI, i_putZ, i_putR, i_ald, i_ldL, i_ldR, i_ast, i_stL, i_stR, i_alen, i_new, i_newa, i_iret, i_zret, i_lret, i_aret, i_vret, i_raise, i_throw, i_recv, i_objinit, i_tsw3, lget, lset, lput1, lput2, lkil, ltrim, largs, isL, takev, dropv, nthv, pushO, catv, gd, true_and, and_true, Option.some.injEq, Prod.mk.injEq, exists_eq_left', if_true, if_false, reduceCtorEq, Bool.false_eq_true, lcmp_ge, lcmp_lt, lcmp_le, lcmp_gt, lcmp_eq, true_or, or_true, not_true_eq_false, not_false_eq_true, false_implies, true_implies, List.length_cons, List.length_nil, M1, S29, sm1, sm6, sm71, sn3]
          repeat (first | refine ⟨in_small (by omega) (by omega), ?_⟩ | (show (_ → _) ∧ (_ → _); first | refine ⟨by omega, fun _ => ?_⟩ | refine ⟨fun _ => ?_, by omega⟩) | refine ⟨by omega, ?_⟩ | refine ⟨⟨_, rfl, by assumption⟩, ?_⟩ | refine ⟨okT_I _, ?_⟩ | refine call0 (gd_of rfl) ?_)
          refine sp_X17_set sn4 (by omega) (by omega) (by omega) fun D6 g3 g4 => ?_
          have fr6 : ∀ x i, (x < M + 2393 ∨ M + 2393 + 1824 < x) → (x < M + 568 ∨ M + 568 + 1824 < x) → D6 x i = D1 x i := fun x i y1 y2 => by
            rw [g3 x i (by omega) (by omega), g1 x i (by omega) (by omega), f3 x i (by omega) (by omega), f1 x i (by omega) (by omega), o1 x i y1]
          have s6 : smD D6 (M + 568) (pupd st.1 (e2 j) 0) N1 e := by
            have := (hE.congr (D' := D4) fun x i y1 y2 => ?_).put (D' := D6) hlN qfit_zero (fun x i y1 y2 y3 y4 y5 y6 => by rw [g3 x i y5 y6, g1 x i y3 y4]) ⟨g2.congr (fun i => g3 _ _ (by omega) (by omega)) (fun i => g3 _ _ (by omega) (by omega)), g4⟩
            · rw [ht] at this; exact this
            · rw [f3 x i (by omega) (by omega), f1 x i (by omega) (by omega), o1 x i (by omega)]
          have t6 : smD D6 (M + 2393) (pupd st.2.1 (e2 j) (st.1 (e2 j))) N2 e2 := (h2.put (D' := D4) hj hft (fun x i y1 y2 y3 y4 y5 y6 => by rw [f3 x i y5 y6, f1 x i y3 y4]) ⟨f2.congr (fun i => f3 _ _ (by omega) (by omega)) (fun i => f3 _ _ (by omega) (by omega)), f4⟩).congr fun x i y1 y2 => by rw [g3 x i (by omega) (by omega), g1 x i (by omega) (by omega)]
          have w6 : dvW M D D6 := i1.tr fun x i y1 y2 y3 y4 => fr6 x i (by omega) (by omega)
          have x6 : ∀ k, k < 6 → ∃ χ', mpP D6 (M + 4233 + 244 * k) χ' := fun k hk => by
            obtain ⟨χ', h⟩ := i6 k hk
            exact ⟨χ', h.congr fun x i y1 y2 => fr6 x i (by omega) (by omega)⟩
          simp only [P_X16_isDivided, i_kil, i_icon, i_lcon, i_null, i_loadI, i_loadL, i_loadR, i_istore, i_lstore, i_astore, i_iinc, i_dup, i_dup2, i_pop, i_iadd, i_isub, i_imul, i_idiv, i_irem, i_ineg, i_iand, i_ior, i_ishl, i_ishr, i_lxor, i_ladd, i_lsub, i_lmul, i_ldiv, i_lrem, i_lneg, i_lshl, i_lcmp, i_i2l, i_l2i, i_i2b, i_i2s, i_ifeq, i_ifne, i_iflt, i_ifge, i_ifgt, i_ifle, i_cmpeq, i_cmpne, i_cmplt, i_cmpge, i_cmpgt, i_cmple, i_acmpeq, i_acmpne, i_ifnull, i_ifnonnull, i_getI, i_getR, i_putI, i_putZ, i_putR, i_ald, i_ldL, i_ldR, i_ast, i_stL, i_stR, i_alen, i_new, i_newa, i_iret, i_zret, i_lret, i_aret, i_vret, i_raise, i_throw, i_recv, i_objinit, i_tsw3, lget, lset, lput1, lput2, lkil, ltrim, largs, isL, takev, dropv, nthv, pushO, catv, gd, true_and, and_true, Option.some.injEq, Prod.mk.injEq, exists_eq_left', if_true, if_false, reduceCtorEq, Bool.false_eq_true, lcmp_ge, lcmp_lt, lcmp_le, lcmp_gt, lcmp_eq, true_or, or_true, not_true_eq_false, not_false_eq_true, false_implies, true_implies, List.length_cons, List.length_nil, M1, S30, ot1]
          repeat (first | refine ⟨in_small (by omega) (by omega), ?_⟩ | (show (_ → _) ∧ (_ → _); first | refine ⟨by omega, fun _ => ?_⟩ | refine ⟨fun _ => ?_, by omega⟩) | refine ⟨by omega, ?_⟩ | refine ⟨⟨_, rfl, by assumption⟩, ?_⟩ | refine ⟨okT_I _, ?_⟩ | refine call0 (gd_of rfl) ?_)
          refine sp_X19_terms Soth ⟨N2, e2, t6⟩ ?_
          simp only [P_X16_isDivided, i_kil, i_icon, i_lcon, i_null, i_loadI, i_loadL, i_loadR, i_istore, i_lstore, i_astore, i_iinc, i_dup, i_dup2, i_pop, i_iadd, i_isub, i_imul, i_idiv, i_irem, i_ineg, i_iand, i_ior, i_ishl, i_ishr, i_lxor, i_ladd, i_lsub, i_lmul, i_ldiv, i_lrem, i_lneg, i_lshl, i_lcmp, i_i2l, i_l2i, i_i2b, i_i2s, i_ifeq, i_ifne, i_iflt, i_ifge, i_ifgt, i_ifle, i_cmpeq, i_cmpne, i_cmplt, i_cmpge, i_cmpgt, i_cmple, i_acmpeq, i_acmpne, i_ifnull, i_ifnonnull, i_getI, i_getR, i_putI, i_putZ, i_putR, i_ald, i_ldL, i_ldR, i_ast, i_stL, i_stR, i_alen, i_new, i_newa, i_iret, i_zret, i_lret, i_aret, i_vret, i_raise, i_throw, i_recv, i_objinit, i_tsw3, lget, lset, lput1, lput2, lkil, ltrim, largs, isL, takev, dropv, nthv, pushO, catv, gd, true_and, and_true, Option.some.injEq, Prod.mk.injEq, exists_eq_left', if_true, if_false, reduceCtorEq, Bool.false_eq_true, lcmp_ge, lcmp_lt, lcmp_le, lcmp_gt, lcmp_eq, true_or, or_true, not_true_eq_false, not_false_eq_true, false_implies, true_implies, List.length_cons, List.length_nil]
          refine ⟨fun w => ?_, fun w => ?_⟩
          · have hcnt : pcnt (dmov st (e2 j)).2.1 455 ≤ 60 := by
              show pcnt (pupd st.2.1 (e2 j) (st.1 (e2 j))) 455 ≤ 60
              omega
            refine again D6 (dmov st (e2 j)) (dmov_below hlead) (fun n1 res h => hst (n1 + 1) res (.inr ⟨e2 j, k, hlead, hk, .inr ⟨rfl, .inr ⟨hcnt, h⟩⟩⟩)) ⟨w6, ⟨N1, e, s6⟩, ⟨N2, e2, t6⟩, fun i hi => ⟨by rw [fr6 _ _ (by omega) (by omega)]; exact (i4 i hi).1, (i4 i hi).2⟩, fun w => ⟨fun i hi => ((i5 w).1 i hi).congr fun x y y1 y2 => fr6 x y (by omega) (by omega), (i5 w).2.move ho hlead⟩, x6⟩
          · repeat (first | refine ⟨in_small (by omega) (by omega), ?_⟩ | (show (_ → _) ∧ (_ → _); first | refine ⟨by omega, fun _ => ?_⟩ | refine ⟨fun _ => ?_, by omega⟩) | refine ⟨by omega, ?_⟩ | refine ⟨⟨_, rfl, by assumption⟩, ?_⟩ | refine ⟨okT_I _, ?_⟩ | refine call0 (gd_of rfl) ?_)
            have hcnt : ¬ pcnt (dmov st (e2 j)).2.1 455 ≤ 60 := by
              show ¬ pcnt (pupd st.2.1 (e2 j) (st.1 (e2 j))) 455 ≤ 60
              omega
            obtain ⟨n2, h3⟩ := hst 1 none (.inr ⟨e2 j, k, hlead, hk, .inr ⟨rfl, .inl ⟨hcnt, rfl⟩⟩⟩)
            exact fail7 D6 n2 w6 h3 ⟨_, N1, e, s6⟩ ⟨_, N2, e2, t6⟩ x6
      have find : ∀ (L k : Nat), k + L = m → (∀ j, j < k → ¬ dvo (leads c g ψ j) t) → Wp P_X16_isDivided E 4 [some (aR M), some (aR Lm), some (aI m), some (aI ((c : Int) - 9)), some (aI z), some (aI wi), some (aI l), some (aI (tcode t)), some (aI k)] [] B S D1 := by
        intro L
        induction L with
        | zero =>
          intro k hk hn
          have : k = m := by omega
          subst this
          refine wp_in ?_
          simp only [P_X16_isDivided, i_kil, i_icon, i_lcon, i_null, i_loadI, i_loadL, i_loadR, i_istore, i_lstore, i_astore, i_iinc, i_dup, i_dup2, i_pop, i_iadd, i_isub, i_imul, i_idiv, i_irem, i_ineg, i_iand, i_ior, i_ishl, i_ishr, i_lxor, i_ladd, i_lsub, i_lmul, i_ldiv, i_lrem, i_lneg, i_lshl, i_lcmp, i_i2l, i_l2i, i_i2b, i_i2s, i_ifeq, i_ifne, i_iflt, i_ifge, i_ifgt, i_ifle, i_cmpeq, i_cmpne, i_cmplt, i_cmpge, i_cmpgt, i_cmple, i_acmpeq, i_acmpne, i_ifnull, i_ifnonnull, i_getI, i_getR, i_putI, i_putZ, i_putR, i_ald, i_ldL, i_ldR, i_ast, i_stL, i_stR, i_alen, i_new, i_newa, i_iret, i_zret, i_lret, i_aret, i_vret, i_raise, i_throw, i_recv, i_objinit, i_tsw3, lget, lset, lput1, lput2, lkil, ltrim, largs, isL, takev, dropv, nthv, pushO, catv, gd, true_and, and_true, Option.some.injEq, Prod.mk.injEq, exists_eq_left', if_true, if_false, reduceCtorEq, Bool.false_eq_true, lcmp_ge, lcmp_lt, lcmp_le, lcmp_gt, lcmp_eq, true_or, or_true, not_true_eq_false, not_false_eq_true, false_implies, true_implies, List.length_cons, List.length_nil]
          refine ⟨fun _ => act k ⟨Nat.le_refl _, hn, fun q => by omega⟩, fun q => by omega⟩
        | succ L ihL =>
          intro k hk hn
          obtain ⟨gk, gS, gl⟩ := hg k (by omega)
          obtain ⟨p1, p2, p3, -⟩ := id gS
          obtain ⟨nk, ek, hPk⟩ := gD' D1 i1 k (by omega)
          have hm1 := hPk.2.1
          have next : ¬ dvo (leads c g ψ k) t → Wp P_X16_isDivided E 5 [some (aR M), some (aR Lm), some (aI m), some (aI ((c : Int) - 9)), some (aI z), some (aI wi), some (aI l), some (aI (tcode t)), some (aI k)] [] B S D1 := fun hno => by
            refine wp_in ?_
            simp only [P_X16_isDivided, i_kil, i_icon, i_lcon, i_null, i_loadI, i_loadL, i_loadR, i_istore, i_lstore, i_astore, i_iinc, i_dup, i_dup2, i_pop, i_iadd, i_isub, i_imul, i_idiv, i_irem, i_ineg, i_iand, i_ior, i_ishl, i_ishr, i_lxor, i_ladd, i_lsub, i_lmul, i_ldiv, i_lrem, i_lneg, i_lshl, i_lcmp, i_i2l, i_l2i, i_i2b, i_i2s, i_ifeq, i_ifne, i_iflt, i_ifge, i_ifgt, i_ifle, i_cmpeq, i_cmpne, i_cmplt, i_cmpge, i_cmpgt, i_cmple, i_acmpeq, i_acmpne, i_ifnull, i_ifnonnull, i_getI, i_getR, i_putI, i_putZ, i_putR, i_ald, i_ldL, i_ldR, i_ast, i_stL, i_stR, i_alen, i_new, i_newa, i_iret, i_zret, i_lret, i_aret, i_vret, i_raise, i_throw, i_recv, i_objinit, i_tsw3, lget, lset, lput1, lput2, lkil, ltrim, largs, isL, takev, dropv, nthv, pushO, catv, gd, true_and, and_true, Option.some.injEq, Prod.mk.injEq, exists_eq_left', if_true, if_false, reduceCtorEq, Bool.false_eq_true, lcmp_ge, lcmp_lt, lcmp_le, lcmp_gt, lcmp_eq, true_or, or_true, not_true_eq_false, not_false_eq_true, false_implies, true_implies, List.length_cons, List.length_nil]
            repeat (first | refine ⟨in_small (by omega) (by omega), ?_⟩ | (show (_ → _) ∧ (_ → _); first | refine ⟨by omega, fun _ => ?_⟩ | refine ⟨fun _ => ?_, by omega⟩) | refine ⟨by omega, ?_⟩ | refine ⟨⟨_, rfl, by assumption⟩, ?_⟩ | refine ⟨okT_I _, ?_⟩ | refine call0 (gd_of rfl) ?_)
            refine ihL (k + 1) (by omega) fun j hj => ?_
            by_cases w : j = k
            · rw [w]; exact hno
            · exact hn j (by omega)
          refine wp_in ?_
          simp only [P_X16_isDivided, i_kil, i_icon, i_lcon, i_null, i_loadI, i_loadL, i_loadR, i_istore, i_lstore, i_astore, i_iinc, i_dup, i_dup2, i_pop, i_iadd, i_isub, i_imul, i_idiv, i_irem, i_ineg, i_iand, i_ior, i_ishl, i_ishr, i_lxor, i_ladd, i_lsub, i_lmul, i_ldiv, i_lrem, i_lneg, i_lshl, i_lcmp, i_i2l, i_l2i, i_i2b, i_i2s, i_ifeq, i_ifne, i_iflt, i_ifge, i_ifgt, i_ifle, i_cmpeq, i_cmpne, i_cmplt, i_cmpge, i_cmpgt, i_cmple, i_acmpeq, i_acmpne, i_ifnull, i_ifnonnull, i_getI, i_getR, i_putI, i_putZ, i_putR, i_ald, i_ldL, i_ldR, i_ast, i_stL, i_stR, i_alen, i_new, i_newa, i_iret, i_zret, i_lret, i_aret, i_vret, i_raise, i_throw, i_recv, i_objinit, i_tsw3, lget, lset, lput1, lput2, lkil, ltrim, largs, isL, takev, dropv, nthv, pushO, catv, gd, true_and, and_true, Option.some.injEq, Prod.mk.injEq, exists_eq_left', if_true, if_false, reduceCtorEq, Bool.false_eq_true, lcmp_ge, lcmp_lt, lcmp_le, lcmp_gt, lcmp_eq, true_or, or_true, not_true_eq_false, not_false_eq_true, false_implies, true_implies, List.length_cons, List.length_nil, hLm, gk, p1, p2, p3, hm1]
          repeat (first | refine ⟨in_small (by omega) (by omega), ?_⟩ | (show (_ → _) ∧ (_ → _); first | refine ⟨by omega, fun _ => ?_⟩ | refine ⟨fun _ => ?_, by omega⟩) | refine ⟨by omega, ?_⟩ | refine ⟨⟨_, rfl, by assumption⟩, ?_⟩ | refine ⟨okT_I _, ?_⟩ | refine call0 (gd_of rfl) ?_)
          refine ⟨fun q => next fun h => ?_, fun q => ?_⟩
          · have hz1 : nk = 0 := by omega
            subst hz1
            exact h.1 (leadI_none ho fun u hu => hPk.2.2.2.2.1 u hu fun j hj => by omega)
          · repeat (first | refine ⟨in_small (by omega) (by omega), ?_⟩ | (show (_ → _) ∧ (_ → _); first | refine ⟨by omega, fun _ => ?_⟩ | refine ⟨fun _ => ?_, by omega⟩) | refine ⟨by omega, ?_⟩ | refine ⟨⟨_, rfl, by assumption⟩, ?_⟩ | refine ⟨okT_I _, ?_⟩ | refine call0 (gd_of rfl) ?_)
            refine sp_X18_lead gS hPk ho rfl hz (by omega) fun j hj hlj => ?_
            have hld : leads c g ψ k = (ek j : Nat) := leadI_is ho hlj
            have hj60 : j < 60 := by have := hPk.1; omega
            simp only [P_X16_isDivided, i_kil, i_icon, i_lcon, i_null, i_loadI, i_loadL, i_loadR, i_istore, i_lstore, i_astore, i_iinc, i_dup, i_dup2, i_pop, i_iadd, i_isub, i_imul, i_idiv, i_irem, i_ineg, i_iand, i_ior, i_ishl, i_ishr, i_lxor, i_ladd, i_lsub, i_lmul, i_ldiv, i_lrem, i_lneg, i_lshl, i_lcmp, i_i2l, i_l2i, i_i2b, i_i2s, i_ifeq, i_ifne, i_iflt, i_ifge, i_ifgt, i_ifle, i_cmpeq, i_cmpne, i_cmplt, i_cmpge, i_cmpgt, i_cmple, i_acmpeq, i_acmpne, i_ifnull, i_ifnonnull, i_getI, i_getR, i_putI, i_putZ, i_putR, i_ald, i_ldL, i_ldR, i_ast, i_stL, i_stR, i_alen, i_new, i_newa, i_iret, i_zret, i_lret, i_aret, i_vret, i_raise, i_throw, i_recv, i_objinit, i_tsw3, lget, lset, lput1, lput2, lkil, ltrim, largs, isL, takev, dropv, nthv, pushO, catv, gd, true_and, and_true, Option.some.injEq, Prod.mk.injEq, exists_eq_left', if_true, if_false, reduceCtorEq, Bool.false_eq_true, lcmp_ge, lcmp_lt, lcmp_le, lcmp_gt, lcmp_eq, true_or, or_true, not_true_eq_false, not_false_eq_true, false_implies, true_implies, List.length_cons, List.length_nil, p1, p2, p3]
            repeat (first | refine ⟨in_small (by omega) (by omega), ?_⟩ | (show (_ → _) ∧ (_ → _); first | refine ⟨by omega, fun _ => ?_⟩ | refine ⟨fun _ => ?_, by omega⟩) | refine ⟨by omega, ?_⟩ | refine ⟨⟨_, rfl, by assumption⟩, ?_⟩ | refine ⟨okT_I _, ?_⟩ | refine call0 (gd_of rfl) ?_)
            refine mdivides_at hlj.1 a1 (hPk.2.2.1 j hj).2.1 rfl fun v e1 e2 => ?_
            simp only [P_X16_isDivided, i_kil, i_icon, i_lcon, i_null, i_loadI, i_loadL, i_loadR, i_istore, i_lstore, i_astore, i_iinc, i_dup, i_dup2, i_pop, i_iadd, i_isub, i_imul, i_idiv, i_irem, i_ineg, i_iand, i_ior, i_ishl, i_ishr, i_lxor, i_ladd, i_lsub, i_lmul, i_ldiv, i_lrem, i_lneg, i_lshl, i_lcmp, i_i2l, i_l2i, i_i2b, i_i2s, i_ifeq, i_ifne, i_iflt, i_ifge, i_ifgt, i_ifle, i_cmpeq, i_cmpne, i_cmplt, i_cmpge, i_cmpgt, i_cmple, i_acmpeq, i_acmpne, i_ifnull, i_ifnonnull, i_getI, i_getR, i_putI, i_putZ, i_putR, i_ald, i_ldL, i_ldR, i_ast, i_stL, i_stR, i_alen, i_new, i_newa, i_iret, i_zret, i_lret, i_aret, i_vret, i_raise, i_throw, i_recv, i_objinit, i_tsw3, lget, lset, lput1, lput2, lkil, ltrim, largs, isL, takev, dropv, nthv, pushO, catv, gd, true_and, and_true, Option.some.injEq, Prod.mk.injEq, exists_eq_left', if_true, if_false, reduceCtorEq, Bool.false_eq_true, lcmp_ge, lcmp_lt, lcmp_le, lcmp_gt, lcmp_eq, true_or, or_true, not_true_eq_false, not_false_eq_true, false_implies, true_implies, List.length_cons, List.length_nil]
            refine ⟨fun h => act k ⟨by omega, hn, fun _ => ⟨by omega, by rw [hld, Int.toNat_natCast]; exact e2.mp h⟩⟩, fun h => next fun w => ?_⟩
            have := w.2
            rw [hld, Int.toNat_natCast] at this
            exact e2.mpr this h
      refine wp_in ?_
      simp only [P_X16_isDivided, i_kil, i_icon, i_lcon, i_null, i_loadI, i_loadL, i_loadR, i_istore, i_lstore, i_astore, i_iinc, i_dup, i_dup2, i_pop, i_iadd, i_isub, i_imul, i_idiv, i_irem, i_ineg, i_iand, i_ior, i_ishl, i_ishr, i_lxor, i_ladd, i_lsub, i_lmul, i_ldiv, i_lrem, i_lneg, i_lshl, i_lcmp, i_i2l, i_l2i, i_i2b, i_i2s, i_ifeq, i_ifne, i_iflt, i_ifge, i_ifgt, i_ifle, i_cmpeq, i_cmpne, i_cmplt, i_cmpge, i_cmpgt, i_cmple, i_acmpeq, i_acmpne, i_ifnull, i_ifnonnull, i_getI, i_getR, i_putI, i_putZ, i_putR, i_ald, i_ldL, i_ldR, i_ast, i_stL, i_stR, i_alen, i_new, i_newa, i_iret, i_zret, i_lret, i_aret, i_vret, i_raise, i_throw, i_recv, i_objinit, i_tsw3, lget, lset, lput1, lput2, lkil, ltrim, largs, isL, takev, dropv, nthv, pushO, catv, gd, true_and, and_true, Option.some.injEq, Prod.mk.injEq, exists_eq_left', if_true, if_false, reduceCtorEq, Bool.false_eq_true, lcmp_ge, lcmp_lt, lcmp_le, lcmp_gt, lcmp_eq, true_or, or_true, not_true_eq_false, not_false_eq_true, false_implies, true_implies, List.length_cons, List.length_nil, M1, S29, sm1, sm2, sm3, a2]
      repeat (first | refine ⟨in_small (by omega) (by omega), ?_⟩ | (show (_ → _) ∧ (_ → _); first | refine ⟨by omega, fun _ => ?_⟩ | refine ⟨fun _ => ?_, by omega⟩) | refine ⟨by omega, ?_⟩ | refine ⟨⟨_, rfl, by assumption⟩, ?_⟩ | refine ⟨okT_I _, ?_⟩ | refine call0 (gd_of rfl) ?_)
      exact find m 0 (by omega) fun j hj => by omega
  -- the counts begin
  have init : ∀ (L k : Nat) (D1 : Dat), k + L = m → dvW M D D1 → smP D1 (M + 568) φ → smP D1 (M + 2393) (fun _ => 0) → (∀ j : Nat, j < k → D1 (M + 4227) j = 0 ∧ (wi = 1 → mpP D1 (M + 4233 + 244 * j) (fun _ => 0))) → (∀ j, j < 6 → ∃ χ', mpP D1 (M + 4233 + 244 * j) χ') → Wp P_X16_isDivided E 1 [some (aR M), some (aR Lm), some (aI m), some (aI ((c : Int) - 9)), some (aI z), some (aI wi), some (aI k)] [] B S D1 := by
    intro L
    induction L with
    | zero =>
      intro k D1 hk h1 h2 h3 h4 h5
      have : k = m := by omega
      subst this
      obtain ⟨N1, e, hE⟩ := h2
      have hgd : good D1 (φ, fun _ => 0, fun _ => 0, fun _ _ => 0) := ⟨h1, ⟨N1, e, hE⟩, h3, fun j hj => ⟨(h4 j hj).1, Nat.zero_le _⟩, fun w => ⟨fun j hj => (h4 j hj).2 w, fun j hj => ⟨by
        have : ∀ n, pcnt (fun _ => (0 : Rat)) n = 0 := fun n => by
          induction n with
          | zero => rfl
          | succ n ih => simp only [pcnt, if_true]; omega
        show pcnt (fun _ => (0 : Rat)) 455 ≤ 0
        rw [this]; exact Nat.le_refl _, fun w hw h0 => absurd rfl h0⟩⟩, h5⟩
      refine wp_in ?_
      simp only [P_X16_isDivided, i_kil, i_icon, i_lcon, i_null, i_loadI, i_loadL, i_loadR, i_istore, i_lstore, i_astore, i_iinc, i_dup, i_dup2, i_pop, i_iadd, i_isub, i_imul, i_idiv, i_irem, i_ineg, i_iand, i_ior, i_ishl, i_ishr, i_lxor, i_ladd, i_lsub, i_lmul, i_ldiv, i_lrem, i_lneg, i_lshl, i_lcmp, i_i2l, i_l2i, i_i2b, i_i2s, i_ifeq, i_ifne, i_iflt, i_ifge, i_ifgt, i_ifle, i_cmpeq, i_cmpne, i_cmplt, i_cmpge, i_cmpgt, i_cmple, i_acmpeq, i_acmpne, i_ifnull, i_ifnonnull, i_getI, i_getR, i_putI, i_putZ, i_putR, i_ald, i_ldL, i_ldR, i_ast, i_stL, i_stR, i_alen, i_new, i_newa, i_iret, i_zret, i_lret, i_aret, i_vret, i_raise, i_throw, i_recv, i_objinit, i_tsw3, lget, lset, lput1, lput2, lkil, ltrim, largs, isL, takev, dropv, nthv, pushO, catv, gd, true_and, and_true, Option.some.injEq, Prod.mk.injEq, exists_eq_left', if_true, if_false, reduceCtorEq, Bool.false_eq_true, lcmp_ge, lcmp_lt, lcmp_le, lcmp_gt, lcmp_eq, true_or, or_true, not_true_eq_false, not_false_eq_true, false_implies, true_implies, List.length_cons, List.length_nil, M1, S29, sm1]
      repeat (first | refine ⟨in_small (by omega) (by omega), ?_⟩ | (show (_ → _) ∧ (_ → _); first | refine ⟨by omega, fun _ => ?_⟩ | refine ⟨fun _ => ?_, by omega⟩) | refine ⟨by omega, ?_⟩ | refine ⟨⟨_, rfl, by assumption⟩, ?_⟩ | refine ⟨okT_I _, ?_⟩ | refine call0 (gd_of rfl) ?_)
      refine sp_X19_lead Ssum hE ho hz (fun h => ?_) (fun j hj h => ?_)
      · simp only [P_X16_isDivided, i_kil, i_icon, i_lcon, i_null, i_loadI, i_loadL, i_loadR, i_istore, i_lstore, i_astore, i_iinc, i_dup, i_dup2, i_pop, i_iadd, i_isub, i_imul, i_idiv, i_irem, i_ineg, i_iand, i_ior, i_ishl, i_ishr, i_lxor, i_ladd, i_lsub, i_lmul, i_ldiv, i_lrem, i_lneg, i_lshl, i_lcmp, i_i2l, i_l2i, i_i2b, i_i2s, i_ifeq, i_ifne, i_iflt, i_ifge, i_ifgt, i_ifle, i_cmpeq, i_cmpne, i_cmplt, i_cmpge, i_cmpgt, i_cmple, i_acmpeq, i_acmpne, i_ifnull, i_ifnonnull, i_getI, i_getR, i_putI, i_putZ, i_putR, i_ald, i_ldL, i_ldR, i_ast, i_stL, i_stR, i_alen, i_new, i_newa, i_iret, i_zret, i_lret, i_aret, i_vret, i_raise, i_throw, i_recv, i_objinit, i_tsw3, lget, lset, lput1, lput2, lkil, ltrim, largs, isL, takev, dropv, nthv, pushO, catv, gd, true_and, and_true, Option.some.injEq, Prod.mk.injEq, exists_eq_left', if_true, if_false, reduceCtorEq, Bool.false_eq_true, lcmp_ge, lcmp_lt, lcmp_le, lcmp_gt, lcmp_eq, true_or, or_true, not_true_eq_false, not_false_eq_true, false_implies, true_implies, List.length_cons, List.length_nil]
        exact main 456 D1 _ (fun t _ => by have := posc_le c g t 455; omega) (fun n1 res h => ⟨n1, h⟩) hgd N1 e (-1) hE (.inl ⟨rfl, h⟩)
      · simp only [P_X16_isDivided, i_kil, i_icon, i_lcon, i_null, i_loadI, i_loadL, i_loadR, i_istore, i_lstore, i_astore, i_iinc, i_dup, i_dup2, i_pop, i_iadd, i_isub, i_imul, i_idiv, i_irem, i_ineg, i_iand, i_ior, i_ishl, i_ishr, i_lxor, i_ladd, i_lsub, i_lmul, i_ldiv, i_lrem, i_lneg, i_lshl, i_lcmp, i_i2l, i_l2i, i_i2b, i_i2s, i_ifeq, i_ifne, i_iflt, i_ifge, i_ifgt, i_ifle, i_cmpeq, i_cmpne, i_cmplt, i_cmpge, i_cmpgt, i_cmple, i_acmpeq, i_acmpne, i_ifnull, i_ifnonnull, i_getI, i_getR, i_putI, i_putZ, i_putR, i_ald, i_ldL, i_ldR, i_ast, i_stL, i_stR, i_alen, i_new, i_newa, i_iret, i_zret, i_lret, i_aret, i_vret, i_raise, i_throw, i_recv, i_objinit, i_tsw3, lget, lset, lput1, lput2, lkil, ltrim, largs, isL, takev, dropv, nthv, pushO, catv, gd, true_and, and_true, Option.some.injEq, Prod.mk.injEq, exists_eq_left', if_true, if_false, reduceCtorEq, Bool.false_eq_true, lcmp_ge, lcmp_lt, lcmp_le, lcmp_gt, lcmp_eq, true_or, or_true, not_true_eq_false, not_false_eq_true, false_implies, true_implies, List.length_cons, List.length_nil]
        exact main 456 D1 _ (fun t _ => by have := posc_le c g t 455; omega) (fun n1 res h => ⟨n1, h⟩) hgd N1 e j hE (.inr ⟨j, rfl, hj, h⟩)
    | succ L ih =>
      intro k D1 hk h1 h2 h3 h4 h5
      have next : ∀ D2 : Dat, (∀ x i, x ≠ M + 4227 → (wi = 1 → x ≠ M + 4233 + 244 * k) → D2 x i = D1 x i) → (∀ j : Nat, j ≤ k → D2 (M + 4227) j = 0) → (wi = 1 → mpP D2 (M + 4233 + 244 * k) (fun _ => 0)) → Wp P_X16_isDivided E 2 [some (aR M), some (aR Lm), some (aI m), some (aI ((c : Int) - 9)), some (aI z), some (aI wi), some (aI k)] [] B S D2 := fun D2 f1 f2 f3 => by
        refine wp_in ?_
        simp only [P_X16_isDivided, i_kil, i_icon, i_lcon, i_null, i_loadI, i_loadL, i_loadR, i_istore, i_lstore, i_astore, i_iinc, i_dup, i_dup2, i_pop, i_iadd, i_isub, i_imul, i_idiv, i_irem, i_ineg, i_iand, i_ior, i_ishl, i_ishr, i_lxor, i_ladd, i_lsub, i_lmul, i_ldiv, i_lrem, i_lneg, i_lshl, i_lcmp, i_i2l, i_l2i, i_i2b, i_i2s, i_ifeq, i_ifne, i_iflt, i_ifge, i_ifgt, i_ifle, i_cmpeq, i_cmpne, i_cmplt, i_cmpge, i_cmpgt, i_cmple, i_acmpeq, i_acmpne, i_ifnull, i_ifnonnull, i_getI, i_getR, i_putI, i_putZ, i_putR, i_ald, i_ldL, i_ldR, i_ast, i_stL, i_stR, i_alen, i_new, i_newa, i_iret, i_zret, i_lret, i_aret, i_vret, i_raise, i_throw, i_recv, i_objinit, i_tsw3, lget, lset, lput1, lput2, lkil, ltrim, largs, isL, takev, dropv, nthv, pushO, catv, gd, true_and, and_true, Option.some.injEq, Prod.mk.injEq, exists_eq_left', if_true, if_false, reduceCtorEq, Bool.false_eq_true, lcmp_ge, lcmp_lt, lcmp_le, lcmp_gt, lcmp_eq, true_or, or_true, not_true_eq_false, not_false_eq_true, false_implies, true_implies, List.length_cons, List.length_nil]
        repeat (first | refine ⟨in_small (by omega) (by omega), ?_⟩ | (show (_ → _) ∧ (_ → _); first | refine ⟨by omega, fun _ => ?_⟩ | refine ⟨fun _ => ?_, by omega⟩) | refine ⟨by omega, ?_⟩ | refine ⟨⟨_, rfl, by assumption⟩, ?_⟩ | refine ⟨okT_I _, ?_⟩ | refine call0 (gd_of rfl) ?_)
        have wk : wi = 1 → k < 6 := fun w => by omega
        refine ih (k + 1) D2 (by omega) (h1.tr fun x i y1 y2 y3 y4 => f1 x i (by omega) (fun w => by have := wk w; omega)) (h2.congr fun x i y1 y2 => f1 x i (by omega) (fun w => by omega)) (h3.congr fun x i y1 y2 => f1 x i (by omega) (fun w => by omega)) (fun j hj => ⟨f2 j (by omega), fun w => ?_⟩) fun j hj => ?_
        · by_cases y : j = k
          · subst y; exact f3 w
          · exact ((h4 j (by omega)).2 w).congr fun x i y1 y2 => f1 x i (by omega) (fun w => by omega)
        · by_cases y : wi = 1 ∧ j = k
          · obtain ⟨y1, rfl⟩ := y; exact ⟨_, f3 y1⟩
          · obtain ⟨χ', h⟩ := h5 j hj
            exact ⟨χ', h.congr fun x i y1 y2 => f1 x i (by omega) (fun w => by omega)⟩
      have z1 : ∀ j : Nat, j ≤ k → pmu D1 (M + 4227) k 0 (M + 4227) j = 0 := fun j hj => by
        simp only [pmu, true_and]
        by_cases w : (j : Int) = k
        · rw [if_pos w]
        · rw [if_neg w]; exact (h4 j (by omega)).1
      refine wp_in ?_
      simp only [P_X16_isDivided, i_kil, i_icon, i_lcon, i_null, i_loadI, i_loadL, i_loadR, i_istore, i_lstore, i_astore, i_iinc, i_dup, i_dup2, i_pop, i_iadd, i_isub, i_imul, i_idiv, i_irem, i_ineg, i_iand, i_ior, i_ishl, i_ishr, i_lxor, i_ladd, i_lsub, i_lmul, i_ldiv, i_lrem, i_lneg, i_lshl, i_lcmp, i_i2l, i_l2i, i_i2b, i_i2s, i_ifeq, i_ifne, i_iflt, i_ifge, i_ifgt, i_ifle, i_cmpeq, i_cmpne, i_cmplt, i_cmpge, i_cmpgt, i_cmple, i_acmpeq, i_acmpne, i_ifnull, i_ifnonnull, i_getI, i_getR, i_putI, i_putZ, i_putR, i_ald, i_ldL, i_ldR, i_ast, i_stL, i_stR, i_alen, i_new, i_newa, i_iret, i_zret, i_lret, i_aret, i_vret, i_raise, i_throw, i_recv, i_objinit, i_tsw3, lget, lset, lput1, lput2, lkil, ltrim, largs, isL, takev, dropv, nthv, pushO, catv, gd, true_and, and_true, Option.some.injEq, Prod.mk.injEq, exists_eq_left', if_true, if_false, reduceCtorEq, Bool.false_eq_true, lcmp_ge, lcmp_lt, lcmp_le, lcmp_gt, lcmp_eq, true_or, or_true, not_true_eq_false, not_false_eq_true, false_implies, true_implies, List.length_cons, List.length_nil, M1, S40, S40k]
      repeat (first | refine ⟨in_small (by omega) (by omega), ?_⟩ | (show (_ → _) ∧ (_ → _); first | refine ⟨by omega, fun _ => ?_⟩ | refine ⟨fun _ => ?_, by omega⟩) | refine ⟨by omega, ?_⟩ | refine ⟨⟨_, rfl, by assumption⟩, ?_⟩ | refine ⟨okT_I _, ?_⟩ | refine call0 (gd_of rfl) ?_)
      rcases hwi with rfl | ⟨rfl, hm6⟩
      · refine ⟨fun _ => next _ (fun x i y1 _ => by simp only [pmu]; rw [if_neg (fun w => y1 w.1)]) z1 fun w => by omega, fun w => absurd rfl w⟩
      · obtain ⟨pk1, pk2⟩ := Spt k (by omega)
        have pk3 := pk2.1
        refine ⟨fun w => by omega, fun _ => ?_⟩
        simp only [P_X16_isDivided, i_kil, i_icon, i_lcon, i_null, i_loadI, i_loadL, i_loadR, i_istore, i_lstore, i_astore, i_iinc, i_dup, i_dup2, i_pop, i_iadd, i_isub, i_imul, i_idiv, i_irem, i_ineg, i_iand, i_ior, i_ishl, i_ishr, i_lxor, i_ladd, i_lsub, i_lmul, i_ldiv, i_lrem, i_lneg, i_lshl, i_lcmp, i_i2l, i_l2i, i_i2b, i_i2s, i_ifeq, i_ifne, i_iflt, i_ifge, i_ifgt, i_ifle, i_cmpeq, i_cmpne, i_cmplt, i_cmpge, i_cmpgt, i_cmple, i_acmpeq, i_acmpne, i_ifnull, i_ifnonnull, i_getI, i_getR, i_putI, i_putZ, i_putR, i_ald, i_ldL, i_ldR, i_ast, i_stL, i_stR, i_alen, i_new, i_newa, i_iret, i_zret, i_lret, i_aret, i_vret, i_raise, i_throw, i_recv, i_objinit, i_tsw3, lget, lset, lput1, lput2, lkil, ltrim, largs, isL, takev, dropv, nthv, pushO, catv, gd, true_and, and_true, Option.some.injEq, Prod.mk.injEq, exists_eq_left', if_true, if_false, reduceCtorEq, Bool.false_eq_true, lcmp_ge, lcmp_lt, lcmp_le, lcmp_gt, lcmp_eq, true_or, or_true, not_true_eq_false, not_false_eq_true, false_implies, true_implies, List.length_cons, List.length_nil, M1, S43, S43k, pk1, pk3]
        repeat (first | refine ⟨in_small (by omega) (by omega), ?_⟩ | (show (_ → _) ∧ (_ → _); first | refine ⟨by omega, fun _ => ?_⟩ | refine ⟨fun _ => ?_, by omega⟩) | refine ⟨by omega, ?_⟩ | refine ⟨⟨_, rfl, by assumption⟩, ?_⟩ | refine ⟨okT_I _, ?_⟩ | refine call0 (gd_of rfl) ?_)
        refine next _ (fun x i y1 y2 => by simp only [pmu]; rw [if_neg (fun w => y2 rfl w.1), if_neg (fun w => y1 w.1)]) (fun j hj => (if_neg (fun w => by omega)).trans (z1 j hj)) fun _ => ⟨0, fun _ => 0, by omega, by simp [pmu], fun k hk => by omega, fun j k _ hk => by omega, fun _ _ _ => rfl, phi.zero⟩
  refine wp_in ?_
  simp only [P_X16_isDivided, i_kil, i_icon, i_lcon, i_null, i_loadI, i_loadL, i_loadR, i_istore, i_lstore, i_astore, i_iinc, i_dup, i_dup2, i_pop, i_iadd, i_isub, i_imul, i_idiv, i_irem, i_ineg, i_iand, i_ior, i_ishl, i_ishr, i_lxor, i_ladd, i_lsub, i_lmul, i_ldiv, i_lrem, i_lneg, i_lshl, i_lcmp, i_i2l, i_l2i, i_i2b, i_i2s, i_ifeq, i_ifne, i_iflt, i_ifge, i_ifgt, i_ifle, i_cmpeq, i_cmpne, i_cmplt, i_cmpge, i_cmpgt, i_cmple, i_acmpeq, i_acmpne, i_ifnull, i_ifnonnull, i_getI, i_getR, i_putI, i_putZ, i_putR, i_ald, i_ldL, i_ldR, i_ast, i_stL, i_stR, i_alen, i_new, i_newa, i_iret, i_zret, i_lret, i_aret, i_vret, i_raise, i_throw, i_recv, i_objinit, i_tsw3, lget, lset, lput1, lput2, lkil, ltrim, largs, isL, takev, dropv, nthv, pushO, catv, gd, true_and, and_true, Option.some.injEq, Prod.mk.injEq, exists_eq_left', if_true, if_false, reduceCtorEq, Bool.false_eq_true, lcmp_ge, lcmp_lt, lcmp_le, lcmp_gt, lcmp_eq, true_or, or_true, not_true_eq_false, not_false_eq_true, false_implies, true_implies, List.length_cons, List.length_nil, M1, S30, ot1]
  repeat (first | refine ⟨in_small (by omega) (by omega), ?_⟩ | (show (_ → _) ∧ (_ → _); first | refine ⟨by omega, fun _ => ?_⟩ | refine ⟨fun _ => ?_, by omega⟩) | refine ⟨by omega, ?_⟩ | refine ⟨⟨_, rfl, by assumption⟩, ?_⟩ | refine ⟨okT_I _, ?_⟩ | refine call0 (gd_of rfl) ?_)
  refine sp_X19_clear Soth hR fun D1 f1 f2 => ?_
  simp only [P_X16_isDivided, i_kil, i_icon, i_lcon, i_null, i_loadI, i_loadL, i_loadR, i_istore, i_lstore, i_astore, i_iinc, i_dup, i_dup2, i_pop, i_iadd, i_isub, i_imul, i_idiv, i_irem, i_ineg, i_iand, i_ior, i_ishl, i_ishr, i_lxor, i_ladd, i_lsub, i_lmul, i_ldiv, i_lrem, i_lneg, i_lshl, i_lcmp, i_i2l, i_l2i, i_i2b, i_i2s, i_ifeq, i_ifne, i_iflt, i_ifge, i_ifgt, i_ifle, i_cmpeq, i_cmpne, i_cmplt, i_cmpge, i_cmpgt, i_cmple, i_acmpeq, i_acmpne, i_ifnull, i_ifnonnull, i_getI, i_getR, i_putI, i_putZ, i_putR, i_ald, i_ldL, i_ldR, i_ast, i_stL, i_stR, i_alen, i_new, i_newa, i_iret, i_zret, i_lret, i_aret, i_vret, i_raise, i_throw, i_recv, i_objinit, i_tsw3, lget, lset, lput1, lput2, lkil, ltrim, largs, isL, takev, dropv, nthv, pushO, catv, gd, true_and, and_true, Option.some.injEq, Prod.mk.injEq, exists_eq_left', if_true, if_false, reduceCtorEq, Bool.false_eq_true, lcmp_ge, lcmp_lt, lcmp_le, lcmp_gt, lcmp_eq, true_or, or_true, not_true_eq_false, not_false_eq_true, false_implies, true_implies, List.length_cons, List.length_nil]
  exact init m 0 D1 (by omega) (fun x i y1 y2 y3 y4 => f1 x i (by omega)) (hF.congr fun x i y1 y2 => f1 x i (by omega)) f2 (fun j hj => by omega) fun j hj => ⟨_, (hX j hj).congr fun x i y1 y2 => f1 x i (by omega)⟩
