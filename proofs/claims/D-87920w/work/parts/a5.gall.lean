/-! the model: a polynomial gathered to a sum -/
set_option maxRecDepth 100000
set_option linter.unusedVariables false
theorem divInt_sg (sg : Int) (x : Rat) : Rat.divInt x.num (x.den : Int) = x := rat_self x
/-- a sum gathered with a multiple of a term -/
theorem gat_all {φ ψ : Nat → Rat} {e : Nat → Nat} {n : Nat} {sg : Rat} (hi : ∀ i j, i < n → j < n → e i = e j → i = j) (h5 : ∀ t, (∀ k, k < n → e k ≠ t) → ψ t = 0) : gat φ e (fun k => sg * ψ (e k)) n = fun t => φ t + sg * ψ t := by
  funext t
  rcases Classical.em (∃ k, k < n ∧ e k = t) with ⟨k, hk, rfl⟩ | q
  · rw [gat_in n hi k hk]
  · have q2 : ∀ k, k < n → e k ≠ t := fun k hk w => q ⟨k, hk, w⟩
    rw [gat_at n t q2, h5 t q2]; grind
theorem mpD.inj {D : Dat} {p n : Nat} {φ : Nat → Rat} {e : Nat → Nat} (h : mpD D p φ n e) : ∀ i j, i < n → j < n → e i = e j → i = j := fun i j hi hj q => by
  rcases Nat.lt_trichotomy i j with w | w | w
  · have := h.2.2.2.1 i j w hj; omega
  · exact w
  · have := h.2.2.2.1 j i w hi; omega
theorem mpD.off {D : Dat} {p n : Nat} {φ : Nat → Rat} {e : Nat → Nat} (h : mpD D p φ n e) : ∀ t, (∀ k, k < n → e k ≠ t) → φ t = 0 := fun t ht => by
  rcases Nat.lt_or_ge t 455 with q | q
  · exact h.2.2.2.2.1 t q ht
  · exact h.2.2.2.2.2.2 t q
set_option maxHeartbeats 2000000 in
theorem sp_X16_gatherAll {E : Ex} {B : Nat × Nat} {S : Stat} {D : Dat} {M s p : Nat} {φ ψ : Nat → Rat} {sg : Int} (hM : mgS S M) (hs : smS S s) (ls : M + 20 < s) (hp : mpS S p) (lp : p + 243 < M ∨ M + 20 < p) (lps : p + 243 < s ∨ s + 1824 < p) (hD : smP D s φ) (hP : mpP D p ψ) (hsg : sg = 1 ∨ sg = -1)
    (K1 : ∀ D' : Dat, gaW M s D D' → smP D' s (fun t => φ t + sg * ψ t) → E (.inl (some (.inl 1))) B S D')
    (K0 : ∀ D' : Dat, gaW M s D D' → ¬ (∀ t, t < 455 → qfit (φ t + sg * ψ t)) → (∃ φ', smP D' s φ') → E (.inl (some (.inl 0))) B S D') : Wp P_X16_gatherAll E 0 [some (aR M), some (aR s), some (aR p), some (aI sg)] [] B S D := by
  have M1 := hM.1.1
  have hp0 := hp
  obtain ⟨p1, p2, p3, p4, p5, p6, p7⟩ := hp
  obtain ⟨n, e, hP⟩ := hP
  have hP0 := hP
  obtain ⟨h1, h2, h3, h4, h5, h6⟩ := hP
  have p51 := p5.1
  have p71 := p7.1
  have hi := hP0.inj
  have loop : ∀ (L k : Nat) (D1 : Dat), k + L = n → gaW M s D D1 → smP D1 s (gat φ e (fun k => (sg : Rat) * ψ (e k)) k) → Wp P_X16_gatherAll E 1 [some (aR M), some (aR s), some (aR p), some (aI sg), some (aI k)] [] B S D1 := by
    intro L
    induction L with
    | zero =>
      intro k D1 hk hO hS
      have : k = n := by omega
      subst this
      have hm : D1 p 0 = k := by rw [hO _ _ (by omega) (by omega)]; exact h2
      refine wp_in ?_
      simp only [P_X16_gatherAll, i_kil, i_icon, i_lcon, i_null, i_loadI, i_loadL, i_loadR, i_istore, i_lstore, i_astore, i_iinc, i_dup, i_dup2, i_pop, i_iadd, i_isub, i_imul, i_idiv, i_irem, i_ineg, i_iand, i_ior, i_ishl, i_ishr, i_lxor, i_ladd, i_lsub, i_lmul, i_ldiv, i_lrem, i_lneg, i_lshl, i_lcmp, i_i2l, i_l2i, i_i2b, i_i2s, i_ifeq, i_ifne, i_iflt, i_ifge, i_ifgt, i_ifle, i_cmpeq, i_cmpne, i_cmplt, i_cmpge, i_cmpgt, i_cmple, i_acmpeq, i_acmpne, i_ifnull, i_ifnonnull, i_getI, i_getR, i_putI, i_putZ, i_putR, i_ald, i_ldL, i_ldR, i_ast, i_stL, i_stR, i_alen, i_new, i_newa, i_iret, i_zret, i_lret, i_aret, i_vret, i_raise, i_throw, i_recv, i_objinit, i_tsw3, lget, lset, lput1, lput2, lkil, ltrim, largs, isL, takev, dropv, nthv, pushO, catv, gd, true_and, and_true, Option.some.injEq, Prod.mk.injEq, exists_eq_left', if_true, if_false, reduceCtorEq, Bool.false_eq_true, lcmp_ge, lcmp_lt, lcmp_le, lcmp_gt, lcmp_eq, true_or, or_true, not_true_eq_false, not_false_eq_true, false_implies, true_implies, List.length_cons, List.length_nil, p1, hm]
      repeat (first | refine ⟨in_small (by omega) (by omega), ?_⟩ | (show (_ → _) ∧ (_ → _); first | refine ⟨by omega, fun _ => ?_⟩ | refine ⟨fun _ => ?_, by omega⟩) | refine ⟨by omega, ?_⟩ | refine ⟨⟨_, rfl, by assumption⟩, ?_⟩ | refine ⟨okT_I _, ?_⟩ | refine call0 (gd_of rfl) ?_)
      rw [gat_all hi hP0.off] at hS
      exact K1 D1 hO hS
    | succ L ih =>
      intro k D1 hk hO hS
      have hm : D1 p 0 = n := by rw [hO _ _ (by omega) (by omega)]; exact h2
      obtain ⟨a1, a2, a3, a4⟩ := h3 k (by omega)
      have a21 : D1 (p + 1) k = tcode (e k) := by rw [hO _ _ (by omega) (by omega)]; exact a2
      have a31 : frD D1 (p + 3 + 2 * k) (p + 124 + 2 * k) (ψ (e k)) := a3.congr fun c i hc => hO c i (by omega) (by omega)
      obtain ⟨m1, m2⟩ := p5.2 k (by omega)
      obtain ⟨m3, m4⟩ := p7.2 k (by omega)
      have hf := h6.1 (e k) a1
      have hden : ((ψ (e k)).den : Int) ≠ 0 := by have := (ψ (e k)).den_pos; omega
      have hg : gat φ e (fun k => (sg : Rat) * ψ (e k)) k (e k) = φ (e k) := gat_at k (e k) fun j hj w => by have := hi j k (by omega) (by omega) w; omega
      refine wp_in ?_
      simp only [P_X16_gatherAll, i_kil, i_icon, i_lcon, i_null, i_loadI, i_loadL, i_loadR, i_istore, i_lstore, i_astore, i_iinc, i_dup, i_dup2, i_pop, i_iadd, i_isub, i_imul, i_idiv, i_irem, i_ineg, i_iand, i_ior, i_ishl, i_ishr, i_lxor, i_ladd, i_lsub, i_lmul, i_ldiv, i_lrem, i_lneg, i_lshl, i_lcmp, i_i2l, i_l2i, i_i2b, i_i2s, i_ifeq, i_ifne, i_iflt, i_ifge, i_ifgt, i_ifle, i_cmpeq, i_cmpne, i_cmplt, i_cmpge, i_cmpgt, i_cmple, i_acmpeq, i_acmpne, i_ifnull, i_ifnonnull, i_getI, i_getR, i_putI, i_putZ, i_putR, i_ald, i_ldL, i_ldR, i_ast, i_stL, i_stR, i_alen, i_new, i_newa, i_iret, i_zret, i_lret, i_aret, i_vret, i_raise, i_throw, i_recv, i_objinit, i_tsw3, lget, lset, lput1, lput2, lkil, ltrim, largs, isL, takev, dropv, nthv, pushO, catv, gd, true_and, and_true, Option.some.injEq, Prod.mk.injEq, exists_eq_left', if_true, if_false, reduceCtorEq, Bool.false_eq_true, lcmp_ge, lcmp_lt, lcmp_le, lcmp_gt, lcmp_eq, true_or, or_true, not_true_eq_false, not_false_eq_true, false_implies, true_implies, List.length_cons, List.length_nil, p1, p2, p3, p4, p51, m1, p6, p71, m3, hm]
      repeat (first | refine ⟨in_small (by omega) (by omega), ?_⟩ | (show (_ → _) ∧ (_ → _); first | refine ⟨by omega, fun _ => ?_⟩ | refine ⟨fun _ => ?_, by omega⟩) | refine ⟨by omega, ?_⟩ | refine ⟨⟨_, rfl, by assumption⟩, ?_⟩ | refine ⟨okT_I _, ?_⟩ | refine call0 (gd_of rfl) ?_)
      refine sp_X16_gather (p := 14) (q := 14) hM hs ls hS a1 a21 m2 m4 (by omega) (by omega) (by omega) (by omega) a31.1 a31.2 hden hsg hf.n hf.d (by omega) (by omega) (by omega) (by omega) (by omega) (by omega) (fun D2 o1 q1 q2 => ?_) (fun D2 o1 q1 q2 => ?_)
      · simp only [P_X16_gatherAll, i_kil, i_icon, i_lcon, i_null, i_loadI, i_loadL, i_loadR, i_istore, i_lstore, i_astore, i_iinc, i_dup, i_dup2, i_pop, i_iadd, i_isub, i_imul, i_idiv, i_irem, i_ineg, i_iand, i_ior, i_ishl, i_ishr, i_lxor, i_ladd, i_lsub, i_lmul, i_ldiv, i_lrem, i_lneg, i_lshl, i_lcmp, i_i2l, i_l2i, i_i2b, i_i2s, i_ifeq, i_ifne, i_iflt, i_ifge, i_ifgt, i_ifle, i_cmpeq, i_cmpne, i_cmplt, i_cmpge, i_cmpgt, i_cmple, i_acmpeq, i_acmpne, i_ifnull, i_ifnonnull, i_getI, i_getR, i_putI, i_putZ, i_putR, i_ald, i_ldL, i_ldR, i_ast, i_stL, i_stR, i_alen, i_new, i_newa, i_iret, i_zret, i_lret, i_aret, i_vret, i_raise, i_throw, i_recv, i_objinit, i_tsw3, lget, lset, lput1, lput2, lkil, ltrim, largs, isL, takev, dropv, nthv, pushO, catv, gd, true_and, and_true, Option.some.injEq, Prod.mk.injEq, exists_eq_left', if_true, if_false, reduceCtorEq, Bool.false_eq_true, lcmp_ge, lcmp_lt, lcmp_le, lcmp_gt, lcmp_eq, true_or, or_true, not_true_eq_false, not_false_eq_true, false_implies, true_implies, List.length_cons, List.length_nil]
        repeat (first | refine ⟨in_small (by omega) (by omega), ?_⟩ | (show (_ → _) ∧ (_ → _); first | refine ⟨by omega, fun _ => ?_⟩ | refine ⟨fun _ => ?_, by omega⟩) | refine ⟨by omega, ?_⟩ | refine ⟨⟨_, rfl, by assumption⟩, ?_⟩ | refine ⟨okT_I _, ?_⟩ | refine call0 (gd_of rfl) ?_)
        refine ih (k + 1) D2 (by omega) (fun c i c1 c2 => by rw [o1 c i c1 c2]; exact hO c i c1 c2) ?_
        simp only [gat]
        rw [rat_self] at q2
        exact q2
      · simp only [P_X16_gatherAll, i_kil, i_icon, i_lcon, i_null, i_loadI, i_loadL, i_loadR, i_istore, i_lstore, i_astore, i_iinc, i_dup, i_dup2, i_pop, i_iadd, i_isub, i_imul, i_idiv, i_irem, i_ineg, i_iand, i_ior, i_ishl, i_ishr, i_lxor, i_ladd, i_lsub, i_lmul, i_ldiv, i_lrem, i_lneg, i_lshl, i_lcmp, i_i2l, i_l2i, i_i2b, i_i2s, i_ifeq, i_ifne, i_iflt, i_ifge, i_ifgt, i_ifle, i_cmpeq, i_cmpne, i_cmplt, i_cmpge, i_cmpgt, i_cmple, i_acmpeq, i_acmpne, i_ifnull, i_ifnonnull, i_getI, i_getR, i_putI, i_putZ, i_putR, i_ald, i_ldL, i_ldR, i_ast, i_stL, i_stR, i_alen, i_new, i_newa, i_iret, i_zret, i_lret, i_aret, i_vret, i_raise, i_throw, i_recv, i_objinit, i_tsw3, lget, lset, lput1, lput2, lkil, ltrim, largs, isL, takev, dropv, nthv, pushO, catv, gd, true_and, and_true, Option.some.injEq, Prod.mk.injEq, exists_eq_left', if_true, if_false, reduceCtorEq, Bool.false_eq_true, lcmp_ge, lcmp_lt, lcmp_le, lcmp_gt, lcmp_eq, true_or, or_true, not_true_eq_false, not_false_eq_true, false_implies, true_implies, List.length_cons, List.length_nil]
        repeat (first | refine ⟨in_small (by omega) (by omega), ?_⟩ | (show (_ → _) ∧ (_ → _); first | refine ⟨by omega, fun _ => ?_⟩ | refine ⟨fun _ => ?_, by omega⟩) | refine ⟨by omega, ?_⟩ | refine ⟨⟨_, rfl, by assumption⟩, ?_⟩ | refine ⟨okT_I _, ?_⟩ | refine call0 (gd_of rfl) ?_)
        refine K0 D2 (fun c i c1 c2 => by rw [o1 c i c1 c2]; exact hO c i c1 c2) (fun w => q1 ?_) ⟨_, q2⟩
        rw [hg, rat_self]
        exact w (e k) a1
  refine wp_in ?_
  simp only [P_X16_gatherAll, i_kil, i_icon, i_lcon, i_null, i_loadI, i_loadL, i_loadR, i_istore, i_lstore, i_astore, i_iinc, i_dup, i_dup2, i_pop, i_iadd, i_isub, i_imul, i_idiv, i_irem, i_ineg, i_iand, i_ior, i_ishl, i_ishr, i_lxor, i_ladd, i_lsub, i_lmul, i_ldiv, i_lrem, i_lneg, i_lshl, i_lcmp, i_i2l, i_l2i, i_i2b, i_i2s, i_ifeq, i_ifne, i_iflt, i_ifge, i_ifgt, i_ifle, i_cmpeq, i_cmpne, i_cmplt, i_cmpge, i_cmpgt, i_cmple, i_acmpeq, i_acmpne, i_ifnull, i_ifnonnull, i_getI, i_getR, i_putI, i_putZ, i_putR, i_ald, i_ldL, i_ldR, i_ast, i_stL, i_stR, i_alen, i_new, i_newa, i_iret, i_zret, i_lret, i_aret, i_vret, i_raise, i_throw, i_recv, i_objinit, i_tsw3, lget, lset, lput1, lput2, lkil, ltrim, largs, isL, takev, dropv, nthv, pushO, catv, gd, true_and, and_true, Option.some.injEq, Prod.mk.injEq, exists_eq_left', if_true, if_false, reduceCtorEq, Bool.false_eq_true, lcmp_ge, lcmp_lt, lcmp_le, lcmp_gt, lcmp_eq, true_or, or_true, not_true_eq_false, not_false_eq_true, false_implies, true_implies, List.length_cons, List.length_nil]
  exact loop n 0 D (by omega) (fun _ _ _ _ => rfl) hD
/-- a term's multiple of a polynomial is gathered: what stands then -/
def shg (φ ψ : Nat → Rat) (b : Nat) (f : Rat → Rat) (n : Nat) (e : Nat → Nat) : Nat → Rat := gat φ (fun k => tmu (e k) b) (fun k => f (ψ (e k))) n
theorem tcode_mu {t u : Nat} (h : tdg t + tdg u ≤ 12) : tcode (tmu t u) = tcode t + tcode u := by
  obtain ⟨a1, a2, a3, -⟩ := tmu_tx h
  unfold tcode
  rw [a1, a2, a3]
  omega
set_option maxHeartbeats 2000000 in
theorem sp_X16_gatherTimes {E : Ex} {B : Nat × Nat} {S : Stat} {D : Dat} {M p n b : Nat} {e : Nat → Nat} {y : Int} {φ ψ : Nat → Rat} {sg : Int} (hM : mgS S M) (hsr : S.2.1 M 29 = some (M + 568)) (hs : smS S (M + 568)) (hp : mpS S p) (lp : p + 243 < M ∨ M + 2392 < p) (hD : smP D (M + 568) φ) (hP : mpD D p ψ n e) (hsg : sg = 1 ∨ sg = -1) (hb : b < 455) (hy : y = tcode b) (hdg : ∀ k, k < n → tdg (e k) + tdg b ≤ 12)
    (K1 : ∀ D' : Dat, gaW M (M + 568) D D' → (∀ k, k < n → qfit (φ (tmu (e k) b) + sg * ψ (e k))) → smP D' (M + 568) (gat φ (fun k => tmu (e k) b) (fun k => sg * ψ (e k)) n) → E (.inl (some (.inl 1))) B S D')
    (K0 : ∀ D' : Dat, gaW M (M + 568) D D' → ¬ (∀ k, k < n → qfit (φ (tmu (e k) b) + sg * ψ (e k))) → (∃ φ', smP D' (M + 568) φ') → E (.inl (some (.inl 0))) B S D') : Wp P_X16_gatherTimes E 0 [some (aR M), some (aR p), some (aI y), some (aI sg)] [] B S D := by
  have M1 := hM.1.1
  have hp0 := hp
  obtain ⟨p1, p2, p3, p4, p5, p6, p7⟩ := hp
  have hP0 := hP
  obtain ⟨h1, h2, h3, h4, h5, h6⟩ := hP
  have p51 := p5.1
  have p71 := p7.1
  have hi := hP0.inj
  have hinj : ∀ j k, j < n → k < n → tmu (e j) b = tmu (e k) b → j = k := fun j k hj hk w => hi j k hj hk (tmu_inj (hdg j hj) (hdg k hk) (h3 j hj).1 (h3 k hk).1 w)
  have loop : ∀ (L k : Nat) (D1 : Dat), k + L = n → gaW M (M + 568) D D1 → (∀ j, j < k → qfit (φ (tmu (e j) b) + sg * ψ (e j))) → smP D1 (M + 568) (gat φ (fun k => tmu (e k) b) (fun k => (sg : Rat) * ψ (e k)) k) → Wp P_X16_gatherTimes E 1 [some (aR M), some (aR p), some (aI y), some (aI sg), some (aI k)] [] B S D1 := by
    intro L
    induction L with
    | zero =>
      intro k D1 hk hO hq hS
      have : k = n := by omega
      subst this
      have hm : D1 p 0 = k := by rw [hO _ _ (by omega) (by omega)]; exact h2
      refine wp_in ?_
      simp only [P_X16_gatherTimes, i_kil, i_icon, i_lcon, i_null, i_loadI, i_loadL, i_loadR, i_istore, i_lstore, i_astore, i_iinc, i_dup, i_dup2, i_pop, i_iadd, i_isub, i_imul, i_idiv, i_irem, i_ineg, i_iand, i_ior, i_ishl, i_ishr, i_lxor, i_ladd, i_lsub, i_lmul, i_ldiv, i_lrem, i_lneg, i_lshl, i_lcmp, i_i2l, i_l2i, i_i2b, i_i2s, i_ifeq, i_ifne, i_iflt, i_ifge, i_ifgt, i_ifle, i_cmpeq, i_cmpne, i_cmplt, i_cmpge, i_cmpgt, i_cmple, i_acmpeq, i_acmpne, i_ifnull, i_ifnonnull, i_getI, i_getR, i_putI, i_putZ, i_putR, i_ald, i_ldL, i_ldR, i_ast, i_stL, i_stR, i_alen, i_new, i_newa, i_iret, i_zret, i_lret, i_aret, i_vret, i_raise, i_throw, i_recv, i_objinit, i_tsw3, lget, lset, lput1, lput2, lkil, ltrim, largs, isL, takev, dropv, nthv, pushO, catv, gd, true_and, and_true, Option.some.injEq, Prod.mk.injEq, exists_eq_left', if_true, if_false, reduceCtorEq, Bool.false_eq_true, lcmp_ge, lcmp_lt, lcmp_le, lcmp_gt, lcmp_eq, true_or, or_true, not_true_eq_false, not_false_eq_true, false_implies, true_implies, List.length_cons, List.length_nil, p1, hm]
      repeat (first | refine ⟨in_small (by omega) (by omega), ?_⟩ | (show (_ → _) ∧ (_ → _); first | refine ⟨by omega, fun _ => ?_⟩ | refine ⟨fun _ => ?_, by omega⟩) | refine ⟨by omega, ?_⟩ | refine ⟨⟨_, rfl, by assumption⟩, ?_⟩ | refine ⟨okT_I _, ?_⟩ | refine call0 (gd_of rfl) ?_)
      exact K1 D1 hO hq hS
    | succ L ih =>
      intro k D1 hk hO hq hS
      have hm : D1 p 0 = n := by rw [hO _ _ (by omega) (by omega)]; exact h2
      obtain ⟨a1, a2, a3, a4⟩ := h3 k (by omega)
      have a21 : D1 (p + 1) k = tcode (e k) := by rw [hO _ _ (by omega) (by omega)]; exact a2
      have a31 : frD D1 (p + 3 + 2 * k) (p + 124 + 2 * k) (ψ (e k)) := a3.congr fun c i hc => hO c i (by omega) (by omega)
      obtain ⟨m1, m2⟩ := p5.2 k (by omega)
      obtain ⟨m3, m4⟩ := p7.2 k (by omega)
      have hf := h6.1 (e k) a1
      have hden : ((ψ (e k)).den : Int) ≠ 0 := by have := (ψ (e k)).den_pos; omega
      have hdk := hdg k (by omega)
      have hg : gat φ (fun k => tmu (e k) b) (fun k => (sg : Rat) * ψ (e k)) k (tmu (e k) b) = φ (tmu (e k) b) := gat_at k _ fun j hj w => by have := hinj j k (by omega) (by omega) w; omega
      have l1 := tcode_lim a1
      have l2 := tcode_lim hb
      refine wp_in ?_
      simp only [P_X16_gatherTimes, i_kil, i_icon, i_lcon, i_null, i_loadI, i_loadL, i_loadR, i_istore, i_lstore, i_astore, i_iinc, i_dup, i_dup2, i_pop, i_iadd, i_isub, i_imul, i_idiv, i_irem, i_ineg, i_iand, i_ior, i_ishl, i_ishr, i_lxor, i_ladd, i_lsub, i_lmul, i_ldiv, i_lrem, i_lneg, i_lshl, i_lcmp, i_i2l, i_l2i, i_i2b, i_i2s, i_ifeq, i_ifne, i_iflt, i_ifge, i_ifgt, i_ifle, i_cmpeq, i_cmpne, i_cmplt, i_cmpge, i_cmpgt, i_cmple, i_acmpeq, i_acmpne, i_ifnull, i_ifnonnull, i_getI, i_getR, i_putI, i_putZ, i_putR, i_ald, i_ldL, i_ldR, i_ast, i_stL, i_stR, i_alen, i_new, i_newa, i_iret, i_zret, i_lret, i_aret, i_vret, i_raise, i_throw, i_recv, i_objinit, i_tsw3, lget, lset, lput1, lput2, lkil, ltrim, largs, isL, takev, dropv, nthv, pushO, catv, gd, true_and, and_true, Option.some.injEq, Prod.mk.injEq, exists_eq_left', if_true, if_false, reduceCtorEq, Bool.false_eq_true, lcmp_ge, lcmp_lt, lcmp_le, lcmp_gt, lcmp_eq, true_or, or_true, not_true_eq_false, not_false_eq_true, false_implies, true_implies, List.length_cons, List.length_nil, M1, hsr, p1, p2, p3, p4, p51, m1, p6, p71, m3, hm, a21]
      repeat (first | refine ⟨in_small (by omega) (by omega), ?_⟩ | (show (_ → _) ∧ (_ → _); first | refine ⟨by omega, fun _ => ?_⟩ | refine ⟨fun _ => ?_, by omega⟩) | refine ⟨by omega, ?_⟩ | refine ⟨⟨_, rfl, by assumption⟩, ?_⟩ | refine ⟨okT_I _, ?_⟩ | refine call0 (gd_of rfl) ?_)
      refine sp_X16_gather (t := tmu (e k) b) (p := 14) (q := 14) hM hs (by omega) hS (tmu_tx hdk).2.2.2 (by rw [tcode_mu hdk, hy]) m2 m4 (by omega) (by omega) (by omega) (by omega) a31.1 a31.2 hden hsg hf.n hf.d (by omega) (by omega) (by omega) (by omega) (by omega) (by omega) (fun D2 o1 q1 q2 => ?_) (fun D2 o1 q1 q2 => ?_)
      · rw [hg, rat_self] at q1
        simp only [P_X16_gatherTimes, i_kil, i_icon, i_lcon, i_null, i_loadI, i_loadL, i_loadR, i_istore, i_lstore, i_astore, i_iinc, i_dup, i_dup2, i_pop, i_iadd, i_isub, i_imul, i_idiv, i_irem, i_ineg, i_iand, i_ior, i_ishl, i_ishr, i_lxor, i_ladd, i_lsub, i_lmul, i_ldiv, i_lrem, i_lneg, i_lshl, i_lcmp, i_i2l, i_l2i, i_i2b, i_i2s, i_ifeq, i_ifne, i_iflt, i_ifge, i_ifgt, i_ifle, i_cmpeq, i_cmpne, i_cmplt, i_cmpge, i_cmpgt, i_cmple, i_acmpeq, i_acmpne, i_ifnull, i_ifnonnull, i_getI, i_getR, i_putI, i_putZ, i_putR, i_ald, i_ldL, i_ldR, i_ast, i_stL, i_stR, i_alen, i_new, i_newa, i_iret, i_zret, i_lret, i_aret, i_vret, i_raise, i_throw, i_recv, i_objinit, i_tsw3, lget, lset, lput1, lput2, lkil, ltrim, largs, isL, takev, dropv, nthv, pushO, catv, gd, true_and, and_true, Option.some.injEq, Prod.mk.injEq, exists_eq_left', if_true, if_false, reduceCtorEq, Bool.false_eq_true, lcmp_ge, lcmp_lt, lcmp_le, lcmp_gt, lcmp_eq, true_or, or_true, not_true_eq_false, not_false_eq_true, false_implies, true_implies, List.length_cons, List.length_nil]
        repeat (first | refine ⟨in_small (by omega) (by omega), ?_⟩ | (show (_ → _) ∧ (_ → _); first | refine ⟨by omega, fun _ => ?_⟩ | refine ⟨fun _ => ?_, by omega⟩) | refine ⟨by omega, ?_⟩ | refine ⟨⟨_, rfl, by assumption⟩, ?_⟩ | refine ⟨okT_I _, ?_⟩ | refine call0 (gd_of rfl) ?_)
        refine ih (k + 1) D2 (by omega) (fun c i c1 c2 => by rw [o1 c i c1 c2]; exact hO c i c1 c2) (fun j hj => ?_) ?_
        · by_cases w : j = k
          · rw [w]; exact q1
          · exact hq j (by omega)
        · simp only [gat]
          rw [rat_self] at q2
          exact q2
      · rw [hg, rat_self] at q1
        simp only [P_X16_gatherTimes, i_kil, i_icon, i_lcon, i_null, i_loadI, i_loadL, i_loadR, i_istore, i_lstore, i_astore, i_iinc, i_dup, i_dup2, i_pop, i_iadd, i_isub, i_imul, i_idiv, i_irem, i_ineg, i_iand, i_ior, i_ishl, i_ishr, i_lxor, i_ladd, i_lsub, i_lmul, i_ldiv, i_lrem, i_lneg, i_lshl, i_lcmp, i_i2l, i_l2i, i_i2b, i_i2s, i_ifeq, i_ifne, i_iflt, i_ifge, i_ifgt, i_ifle, i_cmpeq, i_cmpne, i_cmplt, i_cmpge, i_cmpgt, i_cmple, i_acmpeq, i_acmpne, i_ifnull, i_ifnonnull, i_getI, i_getR, i_putI, i_putZ, i_putR, i_ald, i_ldL, i_ldR, i_ast, i_stL, i_stR, i_alen, i_new, i_newa, i_iret, i_zret, i_lret, i_aret, i_vret, i_raise, i_throw, i_recv, i_objinit, i_tsw3, lget, lset, lput1, lput2, lkil, ltrim, largs, isL, takev, dropv, nthv, pushO, catv, gd, true_and, and_true, Option.some.injEq, Prod.mk.injEq, exists_eq_left', if_true, if_false, reduceCtorEq, Bool.false_eq_true, lcmp_ge, lcmp_lt, lcmp_le, lcmp_gt, lcmp_eq, true_or, or_true, not_true_eq_false, not_false_eq_true, false_implies, true_implies, List.length_cons, List.length_nil]
        repeat (first | refine ⟨in_small (by omega) (by omega), ?_⟩ | (show (_ → _) ∧ (_ → _); first | refine ⟨by omega, fun _ => ?_⟩ | refine ⟨fun _ => ?_, by omega⟩) | refine ⟨by omega, ?_⟩ | refine ⟨⟨_, rfl, by assumption⟩, ?_⟩ | refine ⟨okT_I _, ?_⟩ | refine call0 (gd_of rfl) ?_)
        exact K0 D2 (fun c i c1 c2 => by rw [o1 c i c1 c2]; exact hO c i c1 c2) (fun w => q1 (w k (by omega))) ⟨_, q2⟩
  refine wp_in ?_
  simp only [P_X16_gatherTimes, i_kil, i_icon, i_lcon, i_null, i_loadI, i_loadL, i_loadR, i_istore, i_lstore, i_astore, i_iinc, i_dup, i_dup2, i_pop, i_iadd, i_isub, i_imul, i_idiv, i_irem, i_ineg, i_iand, i_ior, i_ishl, i_ishr, i_lxor, i_ladd, i_lsub, i_lmul, i_ldiv, i_lrem, i_lneg, i_lshl, i_lcmp, i_i2l, i_l2i, i_i2b, i_i2s, i_ifeq, i_ifne, i_iflt, i_ifge, i_ifgt, i_ifle, i_cmpeq, i_cmpne, i_cmplt, i_cmpge, i_cmpgt, i_cmple, i_acmpeq, i_acmpne, i_ifnull, i_ifnonnull, i_getI, i_getR, i_putI, i_putZ, i_putR, i_ald, i_ldL, i_ldR, i_ast, i_stL, i_stR, i_alen, i_new, i_newa, i_iret, i_zret, i_lret, i_aret, i_vret, i_raise, i_throw, i_recv, i_objinit, i_tsw3, lget, lset, lput1, lput2, lkil, ltrim, largs, isL, takev, dropv, nthv, pushO, catv, gd, true_and, and_true, Option.some.injEq, Prod.mk.injEq, exists_eq_left', if_true, if_false, reduceCtorEq, Bool.false_eq_true, lcmp_ge, lcmp_lt, lcmp_le, lcmp_gt, lcmp_eq, true_or, or_true, not_true_eq_false, not_false_eq_true, false_implies, true_implies, List.length_cons, List.length_nil]
  exact loop n 0 D (by omega) (fun _ _ _ _ => rfl) (fun j hj => by omega) hD
/-- the same, as the component goes -/
theorem sbm_val {φ ψ : Nat → Rat} {a : Rat} {b : Nat} : ∀ n, (∀ s, s < n → ψ s ≠ 0 → tdg s + tdg b ≤ 12) → n ≤ 455 → (∀ s, s < n → ψ s ≠ 0 → sbm φ ψ a b n (tmu s b) = φ (tmu s b) - ψ s * a) ∧ ∀ w, (∀ s, s < n → ψ s ≠ 0 → w ≠ tmu s b) → sbm φ ψ a b n w = φ w := by
  intro n
  induction n with
  | zero => intro _ _; exact ⟨fun s hs => by omega, fun w _ => rfl⟩
  | succ n ih =>
    intro h hn
    obtain ⟨i1, i2⟩ := ih (fun s hs => h s (by omega)) (by omega)
    simp only [sbm]
    split
    · rename_i z
      refine ⟨fun s hs h0 => ?_, fun w hw => i2 w fun s hs => hw s (by omega)⟩
      by_cases q : s = n
      · rw [q] at h0; exact absurd z h0
      · exact i1 s (by omega) h0
    · rename_i z
      have hold : sbm φ ψ a b n (tmu n b) = φ (tmu n b) := i2 _ fun s hs h0 w => by
        have := tmu_inj (h n (by omega) z) (h s (by omega) h0) (by omega) (by omega) w
        omega
      refine ⟨fun s hs h0 => ?_, fun w hw => ?_⟩
      · by_cases q : s = n
        · subst q
          simp only [pupd, if_true]; rw [hold]
        · simp only [pupd]
          rw [if_neg (fun w => q (tmu_inj (h s hs h0) (h n (by omega) z) (by omega) (by omega) w))]
          exact i1 s (by omega) h0
      · simp only [pupd]
        rw [if_neg (hw n (by omega) z)]
        exact i2 w fun s hs => hw s (by omega)
theorem sbm_gat {φ ψ : Nat → Rat} {a : Rat} {b n : Nat} {e : Nat → Nat} (hE : ∀ k, k < n → e k < 455 ∧ ψ (e k) ≠ 0) (hi : ∀ i j, i < n → j < n → e i = e j → i = j) (h5 : ∀ t, t < 455 → (∀ k, k < n → e k ≠ t) → ψ t = 0) (hdg : ∀ k, k < n → tdg (e k) + tdg b ≤ 12) : sbm φ ψ a b 455 = gat φ (fun k => tmu (e k) b) (fun k => -(a * ψ (e k))) n := by
  have cov : ∀ s, s < 455 → ψ s ≠ 0 → ∃ k, k < n ∧ e k = s := fun s hs h0 => Classical.byContradiction fun q => h0 (h5 s hs fun k hk w => q ⟨k, hk, w⟩)
  obtain ⟨i1, i2⟩ := sbm_val (φ := φ) (ψ := ψ) (a := a) (b := b) 455 (fun s hs h0 => by obtain ⟨k, hk, rfl⟩ := cov s hs h0; exact hdg k hk) (Nat.le_refl _)
  have hinj : ∀ j k, j < n → k < n → tmu (e j) b = tmu (e k) b → j = k := fun j k hj hk w => hi j k hj hk (tmu_inj (hdg j hj) (hdg k hk) (hE j hj).1 (hE k hk).1 w)
  funext w
  rcases Classical.em (∃ k, k < n ∧ tmu (e k) b = w) with ⟨k, hk, rfl⟩ | q
  · rw [i1 (e k) (hE k hk).1 (hE k hk).2, gat_in (w := fun k => tmu (e k) b) n hinj k hk]
    grind
  · rw [i2 w fun s hs h0 x => by obtain ⟨k, hk, rfl⟩ := cov s hs h0; exact q ⟨k, hk, x.symm⟩, gat_at n w fun k hk x => q ⟨k, hk, x⟩]
theorem sok_iff {φ ψ : Nat → Rat} {a : Rat} {b n : Nat} {e : Nat → Nat} (hE : ∀ k, k < n → e k < 455 ∧ ψ (e k) ≠ 0) (h5 : ∀ t, t < 455 → (∀ k, k < n → e k ≠ t) → ψ t = 0) : sok φ ψ a b 455 ↔ ∀ k, k < n → tdg (e k) + tdg b ≤ 12 ∧ qfit (φ (tmu (e k) b) - ψ (e k) * a) := by
  constructor
  · intro h k hk; exact h (e k) (hE k hk).1 (hE k hk).2
  · intro h s hs h0
    obtain ⟨k, hk, rfl⟩ : ∃ k, k < n ∧ e k = s := Classical.byContradiction fun q => h0 (h5 s hs fun k hk w => q ⟨k, hk, w⟩)
    exact h k hk
