/-! the component's calls: part -/
-- needs: fp.ctimes
set_option maxRecDepth 100000
set_option linter.unusedVariables false
section CPT
variable {S S' : Stat} {D D' : Dat} {C mn w N : Nat} {s : Cst} {lz : Nat → Option Nat} {own : Nat → Nat}
/-- cells made later don't matter -/
theorem coJ.fut (h : coJ S D C s lz own mn w) (hW : crW N s) (hS : cSr S S' C) (e : ∀ c i, c < S.2.2 → qK C w c i → D' c i = D c i) (hc : cSc D' C) : coJ S' D' C s lz own mn w := by
  have hz := h.lzz
  have hw := h.mv.1
  let Dm : Dat := fun c i => if c < S.2.2 then D' c i else D c i
  have hm : ∀ c i, c < S.2.2 → D' c i = Dm c i := fun c i hc => (if_pos hc).symm
  have j : coJ S' Dm C s lz own mn w := h.keep hW hS (fun c i q => by
    show (if c < S.2.2 then D' c i else D c i) = D c i
    split
    · rename_i hc; exact e c i hc q
    · rfl) (hc.cgr fun c i q => (hm c i (by
      have := hz.1
      rcases q with q | q | q | q | q | ⟨z, z1, z2, z3⟩ <;> omega)).symm)
  obtain ⟨h1, h2, h3, h4, h5, h6, h7, h8, h9, h10, h11, h12, h13, h14⟩ := j
  have low : ∀ c i, qK C w c i → ¬ qTh C c i → D' c i = Dm c i := fun c i q q2 => hm c i (by
    have := qK.bd hw q
    unfold qTh at q2
    have := hz.1
    omega)
  refine ⟨h1, h2, h3, ⟨fun p hp => (h4.1 p hp).cgr fun c i a => ⟨fun ha hc => hm c i ?_, fun ha a1 a2 => hm c i ?_⟩, fun i a ha hi => ?_⟩, h5.cgr fun c i q => hm c i ?_, h6.cgr fun c i q => hm c i ?_, h7.cgr hW.2.2.1.1 fun c i q => hm c i ?_, h8.cgr fun c i q => hm c i ?_, h9.cgr hW.2.2.2.2.1.1 fun c i q => hm c i ?_, h10.cgr fun c i q => hm c i ?_, h11.cgr fun c i q => hm c i ?_, h12.cgr fun c i q => hm c i ?_, h13.cgr fun c i q => hm c i ?_, hc⟩
  · have := (hz.2 p a ha).2.2.1
    have := lsz2 p
    omega
  · obtain ⟨z1, z2, z3, -⟩ := hz.2 (16 + p) a ha
    have : lsz (16 + p) = 4 := if_pos (by omega)
    omega
  · obtain ⟨φ, hφ⟩ := h4.2 i a ha hi
    have := (hz.2 i a ha).2.2.1
    have := lsz2 i
    exact ⟨φ, hφ.cgr fun c j hc => hm c j (by omega)⟩
  · have := hz.1; unfold qFx at q; omega
  · have := hz.1; unfold qFn at q; omega
  · have := hz.1; rcases q with q | ⟨k, k1, k2⟩ <;> omega
  · have := hz.1; unfold qId at q; omega
  · have := hz.1; rcases q with q | ⟨k, k1, k2⟩ <;> omega
  · have := hz.1; unfold qRs at q; omega
  · have := hz.1; unfold qSp at q; omega
  · have := hz.1; unfold qRo at q; omega
  · have := hz.1; unfold qTx at q; omega
theorem sp_X0_row {E : Ex} {B : Nat × Nat} {n : Int} {r : Nat} (hr : S.1 r = some (14, 0)) (hn : inI n) (hB : 3 ≤ B.1 ∧ 70 ≤ B.2)
    (K1 : 0 ≤ n → ∀ (B' : Nat × Nat) (m : Nat), (m : Int) = (if n ≤ 60 then n else 61) → E (.inl (some (.inr (.inr (some S.2.2))))) B' (mkS S 102 m) (mkD S D))
    (K0 : n < 0 → ∀ (B' : Nat × Nat) (n' : Nat), S.2.2 ≤ n' → E (.inr r) B' (S.1, S.2.1, n') D) : Wp P_X0_row E 0 [some (aI n), some (aR r)] [] B S D := by
  have one : ∀ m : Int, m = (if n ≤ 60 then n else 61) → Wp P_X0_row E 1 [none, some (aR r)] [.inl m] B S D := fun m hm => by
    refine wp_in ?_
    simp only [P_X0_row, i_newaX, i_kil, i_icon, i_lcon, i_null, i_loadI, i_loadL, i_loadR, i_istore, i_lstore, i_astore, i_iinc, i_dup, i_dup2, i_pop, i_iadd, i_isub, i_imul, i_idiv, i_irem, i_ineg, i_iand, i_ior, i_ishl, i_ishr, i_lxor, i_ladd, i_lsub, i_lmul, i_ldiv, i_lrem, i_lneg, i_lshl, i_lcmp, i_i2l, i_l2i, i_i2b, i_i2s, i_ifeq, i_ifne, i_iflt, i_ifge, i_ifgt, i_ifle, i_cmpeq, i_cmpne, i_cmplt, i_cmpge, i_cmpgt, i_cmple, i_acmpeq, i_acmpne, i_ifnull, i_ifnonnull, i_getI, i_getR, i_putI, i_putZ, i_putR, i_ald, i_ldL, i_ldR, i_ast, i_stL, i_stR, i_alen, i_new, i_newa, i_iret, i_zret, i_lret, i_aret, i_vret, i_raise, i_throw, i_recv, i_objinit, i_tsw3, lget, lset, lput1, lput2, lkil, ltrim, largs, isL, takev, dropv, nthv, pushO, catv, gd, true_and, and_true, Option.some.injEq, Prod.mk.injEq, exists_eq_left', if_true, if_false, reduceCtorEq, Bool.false_eq_true, lcmp_ge, lcmp_lt, lcmp_le, lcmp_gt, lcmp_eq, true_or, or_true, not_true_eq_false, not_false_eq_true, false_implies, true_implies, List.length_cons, List.length_nil]
    refine ⟨fun h0 => ?_, fun h0 => ⟨by decide, ?_⟩⟩
    · have h1 : 0 ≤ n := by
        split at hm <;> omega
      refine ⟨B.1 - 1, B.2 - m.toNat, m.toNat, by omega, by split at hm <;> omega, Prod.ext (by show B.1 = B.1 - 1 + 1; omega) (by show B.2 = B.2 - m.toNat + m.toNat; split at hm <;> omega), K1 h1 _ _ (by omega)⟩
    · have h1 : n < 0 := by
        split at hm <;> omega
      refine vmB (by omega) fun n' q hn' => ?_
      refine wp_in ?_
      simp only [P_X0_row, i_throwX, i_kil, i_icon, i_lcon, i_null, i_loadI, i_loadL, i_loadR, i_istore, i_lstore, i_astore, i_iinc, i_dup, i_dup2, i_pop, i_iadd, i_isub, i_imul, i_idiv, i_irem, i_ineg, i_iand, i_ior, i_ishl, i_ishr, i_lxor, i_ladd, i_lsub, i_lmul, i_ldiv, i_lrem, i_lneg, i_lshl, i_lcmp, i_i2l, i_l2i, i_i2b, i_i2s, i_ifeq, i_ifne, i_iflt, i_ifge, i_ifgt, i_ifle, i_cmpeq, i_cmpne, i_cmplt, i_cmpge, i_cmpgt, i_cmple, i_acmpeq, i_acmpne, i_ifnull, i_ifnonnull, i_getI, i_getR, i_putI, i_putZ, i_putR, i_ald, i_ldL, i_ldR, i_ast, i_stL, i_stR, i_alen, i_new, i_newa, i_iret, i_zret, i_lret, i_aret, i_vret, i_raise, i_throw, i_recv, i_objinit, i_tsw3, lget, lset, lput1, lput2, lkil, ltrim, largs, isL, takev, dropv, nthv, pushO, catv, gd, true_and, and_true, Option.some.injEq, Prod.mk.injEq, exists_eq_left', if_true, if_false, reduceCtorEq, Bool.false_eq_true, lcmp_ge, lcmp_lt, lcmp_le, lcmp_gt, lcmp_eq, true_or, or_true, not_true_eq_false, not_false_eq_true, false_implies, true_implies, List.length_cons, List.length_nil]
      exact ⟨hr, K0 h1 _ _ hn'⟩
  refine wp_in ?_
  simp only [P_X0_row, i_kil, i_icon, i_lcon, i_null, i_loadI, i_loadL, i_loadR, i_istore, i_lstore, i_astore, i_iinc, i_dup, i_dup2, i_pop, i_iadd, i_isub, i_imul, i_idiv, i_irem, i_ineg, i_iand, i_ior, i_ishl, i_ishr, i_lxor, i_ladd, i_lsub, i_lmul, i_ldiv, i_lrem, i_lneg, i_lshl, i_lcmp, i_i2l, i_l2i, i_i2b, i_i2s, i_ifeq, i_ifne, i_iflt, i_ifge, i_ifgt, i_ifle, i_cmpeq, i_cmpne, i_cmplt, i_cmpge, i_cmpgt, i_cmple, i_acmpeq, i_acmpne, i_ifnull, i_ifnonnull, i_getI, i_getR, i_putI, i_putZ, i_putR, i_ald, i_ldL, i_ldR, i_ast, i_stL, i_stR, i_alen, i_new, i_newa, i_iret, i_zret, i_lret, i_aret, i_vret, i_raise, i_throw, i_recv, i_objinit, i_tsw3, lget, lset, lput1, lput2, lkil, ltrim, largs, isL, takev, dropv, nthv, pushO, catv, gd, true_and, and_true, Option.some.injEq, Prod.mk.injEq, exists_eq_left', if_true, if_false, reduceCtorEq, Bool.false_eq_true, lcmp_ge, lcmp_lt, lcmp_le, lcmp_gt, lcmp_eq, true_or, or_true, not_true_eq_false, not_false_eq_true, false_implies, true_implies, List.length_cons, List.length_nil]
  refine ⟨fun q => ?_, fun q => ?_⟩
  · exact one n (by rw [if_pos q])
  · exact one 61 (by rw [if_neg (by omega)])
theorem sp_X0_copy {E : Ex} {B : Nat × Nat} {n sp : Int} {r src dst ns nd : Nat} (hr : S.1 r = some (14, 0)) (h1 : S.1 src = some (102, ns)) (h2 : S.1 dst = some (102, nd)) (l1 : ns < 60000000) (l2 : nd < 60000000) (hB : 3 ≤ B.1 ∧ 610 ≤ B.2) (hD : ∀ j : Int, 0 ≤ j → j < ns → -32768 ≤ D src j ∧ D src j < 32768)
    (K1 : 0 ≤ sp → 0 ≤ n → sp + n ≤ ns → n ≤ nd → E (.inl none) B S (cpD D src sp dst 0 n))
    (K0 : ¬ (0 ≤ sp ∧ 0 ≤ n ∧ sp + n ≤ ns ∧ n ≤ nd) → ∀ (B' : Nat × Nat) (n' : Nat), S.2.2 ≤ n' → E (.inr r) B' (S.1, S.2.1, n') D) : Wp P_X0_copy E 0 [some (aR src), some (aI sp), some (aR dst), some (aI n), some (aR r)] [] B S D := by
  refine wp_in ?_
  simp only [P_X0_copy, i_copyX, i_kil, i_icon, i_lcon, i_null, i_loadI, i_loadL, i_loadR, i_istore, i_lstore, i_astore, i_iinc, i_dup, i_dup2, i_pop, i_iadd, i_isub, i_imul, i_idiv, i_irem, i_ineg, i_iand, i_ior, i_ishl, i_ishr, i_lxor, i_ladd, i_lsub, i_lmul, i_ldiv, i_lrem, i_lneg, i_lshl, i_lcmp, i_i2l, i_l2i, i_i2b, i_i2s, i_ifeq, i_ifne, i_iflt, i_ifge, i_ifgt, i_ifle, i_cmpeq, i_cmpne, i_cmplt, i_cmpge, i_cmpgt, i_cmple, i_acmpeq, i_acmpne, i_ifnull, i_ifnonnull, i_getI, i_getR, i_putI, i_putZ, i_putR, i_ald, i_ldL, i_ldR, i_ast, i_stL, i_stR, i_alen, i_new, i_newa, i_iret, i_zret, i_lret, i_aret, i_vret, i_raise, i_throw, i_recv, i_objinit, i_tsw3, lget, lset, lput1, lput2, lkil, ltrim, largs, isL, takev, dropv, nthv, pushO, catv, gd, true_and, and_true, Option.some.injEq, Prod.mk.injEq, exists_eq_left', if_true, if_false, reduceCtorEq, Bool.false_eq_true, lcmp_ge, lcmp_lt, lcmp_le, lcmp_gt, lcmp_eq, true_or, or_true, not_true_eq_false, not_false_eq_true, false_implies, true_implies, List.length_cons, List.length_nil]
  refine ⟨by decide, ns, nd, h1, h2, l1, l2, fun a1 a2 a3 a4 a5 => ⟨fun j j1 j2 => ?_, K1 a1 a3 a4 (by omega)⟩, fun hx => ?_⟩
  · have := hD (sp + j) (by omega) (by omega)
    exact okT_S this.1 this.2
  · refine vmB (by omega) fun n' q hn' => ?_
    simp only [P_X0_copy, i_kil, i_icon, i_lcon, i_null, i_loadI, i_loadL, i_loadR, i_istore, i_lstore, i_astore, i_iinc, i_dup, i_dup2, i_pop, i_iadd, i_isub, i_imul, i_idiv, i_irem, i_ineg, i_iand, i_ior, i_ishl, i_ishr, i_lxor, i_ladd, i_lsub, i_lmul, i_ldiv, i_lrem, i_lneg, i_lshl, i_lcmp, i_i2l, i_l2i, i_i2b, i_i2s, i_ifeq, i_ifne, i_iflt, i_ifge, i_ifgt, i_ifle, i_cmpeq, i_cmpne, i_cmplt, i_cmpge, i_cmpgt, i_cmple, i_acmpeq, i_acmpne, i_ifnull, i_ifnonnull, i_getI, i_getR, i_putI, i_putZ, i_putR, i_ald, i_ldL, i_ldR, i_ast, i_stL, i_stR, i_alen, i_new, i_newa, i_iret, i_zret, i_lret, i_aret, i_vret, i_raise, i_throw, i_recv, i_objinit, i_tsw3, lget, lset, lput1, lput2, lkil, ltrim, largs, isL, takev, dropv, nthv, pushO, catv, gd, true_and, and_true, Option.some.injEq, Prod.mk.injEq, exists_eq_left', if_true, if_false, reduceCtorEq, Bool.false_eq_true, lcmp_ge, lcmp_lt, lcmp_le, lcmp_gt, lcmp_eq, true_or, or_true, not_true_eq_false, not_false_eq_true, false_implies, true_implies, List.length_cons, List.length_nil]
    refine wp_in ?_
    simp only [P_X0_copy, i_throwX, i_kil, i_icon, i_lcon, i_null, i_loadI, i_loadL, i_loadR, i_istore, i_lstore, i_astore, i_iinc, i_dup, i_dup2, i_pop, i_iadd, i_isub, i_imul, i_idiv, i_irem, i_ineg, i_iand, i_ior, i_ishl, i_ishr, i_lxor, i_ladd, i_lsub, i_lmul, i_ldiv, i_lrem, i_lneg, i_lshl, i_lcmp, i_i2l, i_l2i, i_i2b, i_i2s, i_ifeq, i_ifne, i_iflt, i_ifge, i_ifgt, i_ifle, i_cmpeq, i_cmpne, i_cmplt, i_cmpge, i_cmpgt, i_cmple, i_acmpeq, i_acmpne, i_ifnull, i_ifnonnull, i_getI, i_getR, i_putI, i_putZ, i_putR, i_ald, i_ldL, i_ldR, i_ast, i_stL, i_stR, i_alen, i_new, i_newa, i_iret, i_zret, i_lret, i_aret, i_vret, i_raise, i_throw, i_recv, i_objinit, i_tsw3, lget, lset, lput1, lput2, lkil, ltrim, largs, isL, takev, dropv, nthv, pushO, catv, gd, true_and, and_true, Option.some.injEq, Prod.mk.injEq, exists_eq_left', if_true, if_false, reduceCtorEq, Bool.false_eq_true, lcmp_ge, lcmp_lt, lcmp_le, lcmp_gt, lcmp_eq, true_or, or_true, not_true_eq_false, not_false_eq_true, false_implies, true_implies, List.length_cons, List.length_nil]
    exact ⟨hr, K0 (fun y => hx ⟨y.1, by omega, y.2.1, y.2.2.1, by omega⟩) _ _ hn'⟩
/-- how many terms stand above t -/
def abv (φ : Nat → Rat) (t : Nat) : Int := (pcnt φ 455 : Int) - pcnt φ (t + 1)
theorem pcnt_mono {φ : Nat → Rat} {a b : Nat} (h : a ≤ b) : pcnt φ a ≤ pcnt φ b := by
  induction b with
  | zero => have : a = 0 := by omega
            subst this; exact Nat.le_refl _
  | succ b ih =>
    by_cases q : a = b + 1
    · rw [q]; exact Nat.le_refl _
    · have := ih (by omega)
      have e : pcnt φ (b + 1) = pcnt φ b + if φ b = 0 then 0 else 1 := rfl
      omega
theorem abv_lt {φ : Nat → Rat} {t : Nat} (ht : t < 455) (h : φ t ≠ 0) : 0 ≤ abv φ t ∧ abv φ t < pcnt φ 455 := by
  have h1 := pcnt_mono (φ := φ) (show t + 1 ≤ 455 by omega)
  have e : pcnt φ (t + 1) = pcnt φ t + if φ t = 0 then 0 else 1 := rfl
  rw [if_neg h] at e
  unfold abv
  omega
theorem abv_inj {φ : Nat → Rat} {t u : Nat} (h : φ t ≠ 0) (h' : φ u ≠ 0) (e : abv φ t = abv φ u) : t = u := by
  have e1 : pcnt φ (t + 1) = pcnt φ t + if φ t = 0 then 0 else 1 := rfl
  have e2 : pcnt φ (u + 1) = pcnt φ u + if φ u = 0 then 0 else 1 := rfl
  rw [if_neg h] at e1
  rw [if_neg h'] at e2
  unfold abv at e
  rcases Nat.lt_trichotomy t u with q | q | q
  · have := pcnt_mono (φ := φ) (show t + 1 ≤ u by omega)
    omega
  · exact q
  · have := pcnt_mono (φ := φ) (show u + 1 ≤ t by omega)
    omega
theorem prtI_step {φ : Nat → Rat} {a : Int} {k u : Nat} (hu : u < 455) (h0 : φ u ≠ 0) (hk : abv φ u = a + k) : prtI φ a ((k + 1 : Nat) : Int) = pupd (prtI φ a k) u (φ u) := by
  funext t
  show (if a ≤ abv φ t ∧ abv φ t < a + ((k + 1 : Nat) : Int) ∧ t < 455 then φ t else 0) = if t = u then φ u else if a ≤ abv φ t ∧ abv φ t < a + (k : Int) ∧ t < 455 then φ t else 0
  by_cases q : t = u
  · subst q
    rw [if_pos ⟨by omega, by omega, hu⟩, if_pos rfl]
  · rw [if_neg q]
    by_cases z : φ t = 0
    · rw [z]; split <;> split <;> rfl
    · have : abv φ t ≠ abv φ u := fun y => q (abv_inj z h0 y)
      by_cases y : a ≤ abv φ t ∧ abv φ t < a + (k : Int) ∧ t < 455
      · rw [if_pos y, if_pos ⟨y.1, by omega, y.2.2⟩]
      · rw [if_neg y, if_neg fun x => y ⟨x.1, by omega, x.2.2⟩]
theorem prtI_zero (φ : Nat → Rat) (a : Int) : prtI φ a ((0 : Nat) : Int) = fun _ => 0 := by
  funext t
  exact if_neg fun h => by omega
theorem prtI_at {φ : Nat → Rat} {a : Int} {k u : Nat} (hk : abv φ u = a + k) : prtI φ a k u = 0 := if_neg fun h => by
  have h2 : (pcnt φ 455 : Int) - pcnt φ (u + 1) < a + k := h.2.1
  unfold abv at hk
  omega
theorem cSr.mk {k n : Nat} : cSr S (mkS S k n) C := ⟨Nat.le_succ _, fun a ha => if_neg (by omega), fun a i ha _ => if_neg (by omega)⟩
theorem coJ.wkf (h : coJ S D C s lz own mn w) (hW : crW N s) (hS : cSr S S' C) (e : ∀ c i, c < S.2.2 → ¬ wK C c → D' c i = D c i) (hm : ∃ φ, pP D' (C + 705) φ) : coJ S' D' C s lz own mn w ∧ cFr S D S' D' C := by
  have hC := h.lzz.1
  let Dw : Dat := fun c i => if c < S.2.2 then D' c i else D c i
  have hw : ∀ c i, c < S.2.2 → D' c i = Dw c i := fun c i hc => (if_pos hc).symm
  obtain ⟨φ, hφ⟩ := hm
  obtain ⟨j, F⟩ := h.wk hW (D' := Dw) (fun c i q => by
    show (if c < S.2.2 then D' c i else D c i) = D c i
    split
    · rename_i hc; exact e c i hc q
    · rfl) ⟨φ, hφ.cgr fun c i q => (hw c i (by omega)).symm⟩
  refine ⟨j.fut hW hS (fun c i hc _ => hw c i hc) (j.sc.cgr fun c i q => hw c i (by rcases q with q | q | q | q | q | ⟨z, z1, z2, z3⟩ <;> omega)), hS.fr hC fun a i c1 c2 => ?_⟩
  exact e a i (by omega) (by unfold wK; omega)
set_option maxHeartbeats 4000000 in
theorem co_part {E : Ex} {B : Nat × Nat} {x y a0 n0 : Int} (h : coJ S D C s lz own mn w) (hW : crW N s) (hN : N < 1000) (ia : inI a0) (inn : inI n0) (hB : 1000 ≤ B.1 ∧ 80000 ≤ B.2) (K : cK E S D C mn (oPart x y a0 n0 s)) : Wp P_X0_part E 0 [some (aR C), some (aI x), some (aI y), some (aI a0), some (aI n0)] [] B S D := by
  have o := h.fx.o
  have hf := h.fx.fl
  have hC := h.lzz.1
  have err : ∀ (kk : Nat) (B' : Nat × Nat) (S1 : Stat) (D1 : Dat) (lz1 : Nat → Option Nat) (own1 : Nat → Nat) (w1 : Nat), 1 ≤ kk ∧ kk ≤ 7 → coJ S1 D1 C s lz1 own1 mn w1 → cFr S D S1 D1 C → oPart x y a0 n0 s (uFn s kk) (-(kk : Int)) → Wp P_X0_part E 4 [some (aR C)] [.inr (.inr (some (C + 727 + kk)))] B' S1 D1 := fun kk B' S1 D1 lz1 own1 w1 e1 e2 e3 e4 => by
    have o := e2.fx.o
    refine wp_in ?_
    simp only [P_X0_part, i_kil, i_icon, i_lcon, i_null, i_loadI, i_loadL, i_loadR, i_istore, i_lstore, i_astore, i_iinc, i_dup, i_dup2, i_pop, i_iadd, i_isub, i_imul, i_idiv, i_irem, i_ineg, i_iand, i_ior, i_ishl, i_ishr, i_lxor, i_ladd, i_lsub, i_lmul, i_ldiv, i_lrem, i_lneg, i_lshl, i_lcmp, i_i2l, i_l2i, i_i2b, i_i2s, i_ifeq, i_ifne, i_iflt, i_ifge, i_ifgt, i_ifle, i_cmpeq, i_cmpne, i_cmplt, i_cmpge, i_cmpgt, i_cmple, i_acmpeq, i_acmpne, i_ifnull, i_ifnonnull, i_getI, i_getR, i_putI, i_putZ, i_putR, i_ald, i_ldL, i_ldR, i_ast, i_stL, i_stR, i_alen, i_new, i_newa, i_iret, i_zret, i_lret, i_aret, i_vret, i_raise, i_throw, i_recv, i_objinit, i_tsw3, lget, lset, lput1, lput2, lkil, ltrim, largs, isL, takev, dropv, nthv, pushO, catv, gd, true_and, and_true, Option.some.injEq, Prod.mk.injEq, exists_eq_left', if_true, if_false, reduceCtorEq, Bool.false_eq_true, lcmp_ge, lcmp_lt, lcmp_le, lcmp_gt, lcmp_eq, true_or, or_true, not_true_eq_false, not_false_eq_true, false_implies, true_implies, List.length_cons, List.length_nil, o]
    repeat (first | refine ⟨in_small (by omega) (by omega), ?_⟩ | (show (_ → _) ∧ (_ → _); first | refine ⟨by omega, fun _ => ?_⟩ | refine ⟨fun _ => ?_, by omega⟩) | refine ⟨by omega, ?_⟩ | refine ⟨⟨_, rfl, by assumption⟩, ?_⟩ | refine ⟨okT_I _, ?_⟩ | refine call0 (gd_of rfl) ?_)
    refine co_fin e2 hW hN e1 fun D2 e5 e6 => ?_
    simp only [P_X0_part, i_kil, i_icon, i_lcon, i_null, i_loadI, i_loadL, i_loadR, i_istore, i_lstore, i_astore, i_iinc, i_dup, i_dup2, i_pop, i_iadd, i_isub, i_imul, i_idiv, i_irem, i_ineg, i_iand, i_ior, i_ishl, i_ishr, i_lxor, i_ladd, i_lsub, i_lmul, i_ldiv, i_lrem, i_lneg, i_lshl, i_lcmp, i_i2l, i_l2i, i_i2b, i_i2s, i_ifeq, i_ifne, i_iflt, i_ifge, i_ifgt, i_ifle, i_cmpeq, i_cmpne, i_cmplt, i_cmpge, i_cmpgt, i_cmple, i_acmpeq, i_acmpne, i_ifnull, i_ifnonnull, i_getI, i_getR, i_putI, i_putZ, i_putR, i_ald, i_ldL, i_ldR, i_ast, i_stL, i_stR, i_alen, i_new, i_newa, i_iret, i_zret, i_lret, i_aret, i_vret, i_raise, i_throw, i_recv, i_objinit, i_tsw3, lget, lset, lput1, lput2, lkil, ltrim, largs, isL, takev, dropv, nthv, pushO, catv, gd, true_and, and_true, Option.some.injEq, Prod.mk.injEq, exists_eq_left', if_true, if_false, reduceCtorEq, Bool.false_eq_true, lcmp_ge, lcmp_lt, lcmp_le, lcmp_gt, lcmp_eq, true_or, or_true, not_true_eq_false, not_false_eq_true, false_implies, true_implies, List.length_cons, List.length_nil]
    exact K _ _ _ _ _ e4 ⟨lz1, own1, w1, e5⟩ (e3.tr e6)
  have nx : ∀ n, S.2.2 ≤ n → coJ (S.1, S.2.1, n) D C s lz own mn w ∧ cFr S D (S.1, S.2.1, n) D C := fun n hn => ⟨h.keep hW (cSr.nx hn) (fun _ _ _ => rfl) h.sc, (cSr.nx hn).fr h.lzz.1 fun _ _ _ _ => rfl⟩
  refine wp_in ?_
  simp only [P_X0_part, i_kil, i_icon, i_lcon, i_null, i_loadI, i_loadL, i_loadR, i_istore, i_lstore, i_astore, i_iinc, i_dup, i_dup2, i_pop, i_iadd, i_isub, i_imul, i_idiv, i_irem, i_ineg, i_iand, i_ior, i_ishl, i_ishr, i_lxor, i_ladd, i_lsub, i_lmul, i_ldiv, i_lrem, i_lneg, i_lshl, i_lcmp, i_i2l, i_l2i, i_i2b, i_i2s, i_ifeq, i_ifne, i_iflt, i_ifge, i_ifgt, i_ifle, i_cmpeq, i_cmpne, i_cmplt, i_cmpge, i_cmpgt, i_cmple, i_acmpeq, i_acmpne, i_ifnull, i_ifnonnull, i_getI, i_getR, i_putI, i_putZ, i_putR, i_ald, i_ldL, i_ldR, i_ast, i_stL, i_stR, i_alen, i_new, i_newa, i_iret, i_zret, i_lret, i_aret, i_vret, i_raise, i_throw, i_recv, i_objinit, i_tsw3, lget, lset, lput1, lput2, lkil, ltrim, largs, isL, takev, dropv, nthv, pushO, catv, gd, true_and, and_true, Option.some.injEq, Prod.mk.injEq, exists_eq_left', if_true, if_false, reduceCtorEq, Bool.false_eq_true, lcmp_ge, lcmp_lt, lcmp_le, lcmp_gt, lcmp_eq, true_or, or_true, not_true_eq_false, not_false_eq_true, false_implies, true_implies, List.length_cons, List.length_nil, o]
  refine ⟨⟨_, rfl, o⟩, callB 7 1200 (by omega) (gd_of rfl) ?_⟩
  refine poly_at h hW (by decide) (fun p a φ hp hp16 ht ha hD hS hac hl B1 => ?_) fun hx B1 n hn => ?_
  · simp only [P_X0_part, i_kil, i_icon, i_lcon, i_null, i_loadI, i_loadL, i_loadR, i_istore, i_lstore, i_astore, i_iinc, i_dup, i_dup2, i_pop, i_iadd, i_isub, i_imul, i_idiv, i_irem, i_ineg, i_iand, i_ior, i_ishl, i_ishr, i_lxor, i_ladd, i_lsub, i_lmul, i_ldiv, i_lrem, i_lneg, i_lshl, i_lcmp, i_i2l, i_l2i, i_i2b, i_i2s, i_ifeq, i_ifne, i_iflt, i_ifge, i_ifgt, i_ifle, i_cmpeq, i_cmpne, i_cmplt, i_cmpge, i_cmpgt, i_cmple, i_acmpeq, i_acmpne, i_ifnull, i_ifnonnull, i_getI, i_getR, i_putI, i_putZ, i_putR, i_ald, i_ldL, i_ldR, i_ast, i_stL, i_stR, i_alen, i_new, i_newa, i_iret, i_zret, i_lret, i_aret, i_vret, i_raise, i_throw, i_recv, i_objinit, i_tsw3, lget, lset, lput1, lput2, lkil, ltrim, largs, isL, takev, dropv, nthv, pushO, catv, gd, true_and, and_true, Option.some.injEq, Prod.mk.injEq, exists_eq_left', if_true, if_false, reduceCtorEq, Bool.false_eq_true, lcmp_ge, lcmp_lt, lcmp_le, lcmp_gt, lcmp_eq, true_or, or_true, not_true_eq_false, not_false_eq_true, false_implies, true_implies, List.length_cons, List.length_nil, o]
    refine ⟨⟨_, rfl, o⟩, callB 3 222 (by show 3 ≤ B.1 - 7 ∧ 222 ≤ B.2 - 1200; omega) (gd_of rfl) ?_⟩
    refine stand_at hf h.fx.st (by decide) (fun r hr hr16 => ?_) fun hx B' n' hn => ?_
    · subst hp; subst hr
      have hgl : glN (r : Int) = 0 := if_pos (by omega)
      simp only [P_X0_part, i_kil, i_icon, i_lcon, i_null, i_loadI, i_loadL, i_loadR, i_istore, i_lstore, i_astore, i_iinc, i_dup, i_dup2, i_pop, i_iadd, i_isub, i_imul, i_idiv, i_irem, i_ineg, i_iand, i_ior, i_ishl, i_ishr, i_lxor, i_ladd, i_lsub, i_lmul, i_ldiv, i_lrem, i_lneg, i_lshl, i_lcmp, i_i2l, i_l2i, i_i2b, i_i2s, i_ifeq, i_ifne, i_iflt, i_ifge, i_ifgt, i_ifle, i_cmpeq, i_cmpne, i_cmplt, i_cmpge, i_cmpgt, i_cmple, i_acmpeq, i_acmpne, i_ifnull, i_ifnonnull, i_getI, i_getR, i_putI, i_putZ, i_putR, i_ald, i_ldL, i_ldR, i_ast, i_stL, i_stR, i_alen, i_new, i_newa, i_iret, i_zret, i_lret, i_aret, i_vret, i_raise, i_throw, i_recv, i_objinit, i_tsw3, lget, lset, lput1, lput2, lkil, ltrim, largs, isL, takev, dropv, nthv, pushO, catv, gd, true_and, and_true, Option.some.injEq, Prod.mk.injEq, exists_eq_left', if_true, if_false, reduceCtorEq, Bool.false_eq_true, lcmp_ge, lcmp_lt, lcmp_le, lcmp_gt, lcmp_eq, true_or, or_true, not_true_eq_false, not_false_eq_true, false_implies, true_implies, List.length_cons, List.length_nil, o]
      repeat (first | refine ⟨in_small (by omega) (by omega), ?_⟩ | (show (_ → _) ∧ (_ → _); first | refine ⟨by omega, fun _ => ?_⟩ | refine ⟨fun _ => ?_, by omega⟩) | refine ⟨by omega, ?_⟩ | refine ⟨⟨_, rfl, by assumption⟩, ?_⟩ | refine ⟨okT_I _, ?_⟩ | refine call0 (gd_of rfl) ?_)
      refine failure_at (k := 4) hf (by decide) (by decide) rfl ?_
      simp only [P_X0_part, i_kil, i_icon, i_lcon, i_null, i_loadI, i_loadL, i_loadR, i_istore, i_lstore, i_astore, i_iinc, i_dup, i_dup2, i_pop, i_iadd, i_isub, i_imul, i_idiv, i_irem, i_ineg, i_iand, i_ior, i_ishl, i_ishr, i_lxor, i_ladd, i_lsub, i_lmul, i_ldiv, i_lrem, i_lneg, i_lshl, i_lcmp, i_i2l, i_l2i, i_i2b, i_i2s, i_ifeq, i_ifne, i_iflt, i_ifge, i_ifgt, i_ifle, i_cmpeq, i_cmpne, i_cmplt, i_cmpge, i_cmpgt, i_cmple, i_acmpeq, i_acmpne, i_ifnull, i_ifnonnull, i_getI, i_getR, i_putI, i_putZ, i_putR, i_ald, i_ldL, i_ldR, i_ast, i_stL, i_stR, i_alen, i_new, i_newa, i_iret, i_zret, i_lret, i_aret, i_vret, i_raise, i_throw, i_recv, i_objinit, i_tsw3, lget, lset, lput1, lput2, lkil, ltrim, largs, isL, takev, dropv, nthv, pushO, catv, gd, true_and, and_true, Option.some.injEq, Prod.mk.injEq, exists_eq_left', if_true, if_false, reduceCtorEq, Bool.false_eq_true, lcmp_ge, lcmp_lt, lcmp_le, lcmp_gt, lcmp_eq, true_or, or_true, not_true_eq_false, not_false_eq_true, false_implies, true_implies, List.length_cons, List.length_nil, o]
      have f4 := (hf.2.2.2.2.2 4 (by decide) (by decide)).2
      refine callB 3 70 (by show 3 ≤ B.1 - 7 - 3 ∧ 70 ≤ B.2 - 1200 - 222; omega) (gd_of rfl) ?_
      refine sp_X0_row f4 inn (by decide) (fun hn0 B2 m hm => ?_) fun hn0 B2 n' hn' => ?_
      · simp only [P_X0_part, i_kil, i_icon, i_lcon, i_null, i_loadI, i_loadL, i_loadR, i_istore, i_lstore, i_astore, i_iinc, i_dup, i_dup2, i_pop, i_iadd, i_isub, i_imul, i_idiv, i_irem, i_ineg, i_iand, i_ior, i_ishl, i_ishr, i_lxor, i_ladd, i_lsub, i_lmul, i_ldiv, i_lrem, i_lneg, i_lshl, i_lcmp, i_i2l, i_l2i, i_i2b, i_i2s, i_ifeq, i_ifne, i_iflt, i_ifge, i_ifgt, i_ifle, i_cmpeq, i_cmpne, i_cmplt, i_cmpge, i_cmpgt, i_cmple, i_acmpeq, i_acmpne, i_ifnull, i_ifnonnull, i_getI, i_getR, i_putI, i_putZ, i_putR, i_ald, i_ldL, i_ldR, i_ast, i_stL, i_stR, i_alen, i_new, i_newa, i_iret, i_zret, i_lret, i_aret, i_vret, i_raise, i_throw, i_recv, i_objinit, i_tsw3, lget, lset, lput1, lput2, lkil, ltrim, largs, isL, takev, dropv, nthv, pushO, catv, gd, true_and, and_true, Option.some.injEq, Prod.mk.injEq, exists_eq_left', if_true, if_false, reduceCtorEq, Bool.false_eq_true, lcmp_ge, lcmp_lt, lcmp_le, lcmp_gt, lcmp_eq, true_or, or_true, not_true_eq_false, not_false_eq_true, false_implies, true_implies, List.length_cons, List.length_nil, o]
        obtain ⟨z1, z2, z3, z4, z5, z6⟩ := h.lzz.2 p a ha
        have z3 : a + 2 ≤ S.2.2 := by have := lsz2 p; omega
        have hw := hW.1 p hp16
        rw [ht] at hw
        have h60 : pcnt φ 455 ≤ 60 := hw.2
        have hpc : D a 1 = (pcnt φ 455 : Nat) := hD.1.2
        obtain ⟨A1, hA1⟩ : ∃ A1, A1 = S.2.2 := ⟨_, rfl⟩
        refine ⟨by show (if a = S.2.2 then _ else S.1 a) = _; rw [if_neg (by omega)]; exact hS.1, B.1 - 14, B.2 - 1492 - pcnt φ 455, pcnt φ 455, by show (if a = S.2.2 then _ else D a 1) = _; rw [if_neg (by omega)]; exact hpc, by omega, ⟨by omega, by omega⟩, ?_⟩
        obtain ⟨S2, hS2e⟩ : ∃ S2, S2 = mkS (mkS S 102 m) 102 (pcnt φ 455) := ⟨_, rfl⟩
        obtain ⟨D2, hD2e⟩ : ∃ D2, D2 = mkD (mkS S 102 m) (mkD S D) := ⟨_, rfl⟩
        have hS2 : cSr S S2 C := by rw [hS2e]; exact cSr.mk.tr cSr.mk
        have kA2 : S2.1 (A1 + 1) = some (102, pcnt φ 455) := by rw [hS2e, hA1]; exact if_pos rfl
        have kA1 : S2.1 A1 = some (102, m) := by
          rw [hS2e, hA1]
          show (if S.2.2 = S.2.2 + 1 then _ else if S.2.2 = S.2.2 then _ else _) = _
          rw [if_neg (by omega), if_pos rfl]
        have dD2 : ∀ c i, c < A1 → D2 c i = D c i := fun c i hc => by
          rw [hD2e]
          show (if c = S.2.2 + 1 then _ else if c = S.2.2 then _ else D c i) = D c i
          rw [if_neg (by omega), if_neg (by omega)]
        have dA2 : ∀ i, D2 (A1 + 1) i = 0 := fun i => by rw [hD2e, hA1]; exact if_pos rfl
        show Wp P_X0_part E 1 [some (aR C), none, none, some (aI a0), some (aI n0), some (aR a), some (aR (C + 735 + r)), some (aR S.2.2), some (aR (S.2.2 + 1)), some (aI 0), some (aI 454)] [] (B.1 - 14, B.2 - 1492 - pcnt φ 455) (mkS (mkS S 102 m) 102 (pcnt φ 455)) (mkD (mkS S 102 m) (mkD S D))
        rw [← hS2e, ← hD2e, ← hA1]
        have goOn : ∀ {D3 : Dat}, (∀ c i, c < A1 → ¬ wK C c → D3 c i = D c i) → (∃ φ, pP D3 (C + 705) φ) → coJ S2 D3 C s lz own mn w ∧ cFr S D S2 D3 C := fun e1 e2 => h.wkf hW hS2 (fun c i hc => e1 c i (by omega)) e2
        obtain ⟨χ0, hχ0⟩ := h.sc.1
        obtain ⟨j0, F0⟩ := goOn (D3 := D2) (fun c i hc _ => dD2 c i hc) ⟨χ0, hχ0.cgr fun c i hc => dD2 c i (by omega)⟩
        have o2 := j0.fx.o
        have hf2 := j0.fx.fl
        obtain ⟨m1, m2⟩ := j0.fx.md
        obtain ⟨b1, b2⟩ := j0.fx.q9
        have hSa : pS S2 a := (j0.lzz.2 p a ha).2.2.2.2.2 (Or.inl hp16)
        have a5 := hSa.1
        have m5 := m2.1
        have f1' := (hf2.2.2.2.2.2 1 (by decide) (by decide)).2
        have hBB : 3 ≤ B.1 - 14 ∧ 610 ≤ B.2 - 1492 - pcnt φ 455 := by omega
        have hBC : 2 ≤ B.1 - 14 - 3 ∧ 13652 ≤ B.2 - 1492 - pcnt φ 455 - 610 := by omega
        generalize hBg : (B.1 - 14, B.2 - 1492 - pcnt φ 455) = B3
        have hB3 : 5 ≤ B3.1 ∧ 15000 ≤ B3.2 := by rw [← hBg]; show 5 ≤ B.1 - 14 ∧ 15000 ≤ B.2 - 1492 - pcnt φ 455; omega
        have err1 : ∀ (B' : Nat × Nat) (n' : Nat) (D3 : Dat), S2.2.2 ≤ n' → (∀ c i, c < A1 → ¬ wK C c → D3 c i = D c i) → (∃ φ, pP D3 (C + 705) φ) → ¬ (0 ≤ a0 ∧ a0 + n0 ≤ pcnt φ 455) → Wp P_X0_part E 4 [some (aR C)] [.inr (.inr (some (C + 727 + 1)))] B' (S2.1, S2.2.1, n') D3 := fun B' n' D3 hn' e1 e2 e3 => by
          obtain ⟨j3, F3⟩ := goOn e1 e2
          obtain ⟨χ, hχ⟩ := e2
          exact err 1 _ _ _ _ _ _ (by decide) (j3.keep hW (cSr.nx hn') (fun _ _ _ => rfl) j3.sc) (F3.tr ((cSr.nx hn').fr j3.lzz.1 fun _ _ _ _ => rfl)) (rR_q (foN_0.mpr ⟨hl, foN_0.mpr ⟨hgl, if_neg (by omega)⟩⟩) ⟨φ, by rw [show ((p : Nat) : Int).toNat = p by omega]; exact ht, .inr ⟨e3, rfl, rfl⟩⟩)
        have lp3 : ∀ (L k : Nat) (D3 : Dat), (k : Int) + L = n0 → (∀ c i, c < A1 → ¬ wK C c → D3 c i = D c i) → pP D3 (C + 705) (prtI φ a0 k) → pcnt (prtI φ a0 k) 455 = k → (0 ≤ a0 ∧ a0 + n0 ≤ pcnt φ 455) → (∀ i : Nat, (i : Int) < n0 → ∃ u : Nat, u < 455 ∧ φ u ≠ 0 ∧ abv φ u = a0 + i ∧ D3 A1 i = u) → (n0 ≤ m) → Wp P_X0_part E 3 [some (aR C), none, none, none, some (aI n0), some (aR a), some (aR (C + 735 + r)), some (aR A1), none, none, some (aI (k : Int))] [] (B3.1 - 3, B3.2 - 610) S2 D3 := by
          intro L
          induction L with
          | zero =>
            intro k D3 hk e1 e2 e3 e4 e5 e6
            have hkn : (k : Int) = n0 := by omega
            obtain ⟨j3, F3⟩ := goOn e1 ⟨_, e2⟩
            refine wp_in ?_
            simp only [P_X0_part, i_kil, i_icon, i_lcon, i_null, i_loadI, i_loadL, i_loadR, i_istore, i_lstore, i_astore, i_iinc, i_dup, i_dup2, i_pop, i_iadd, i_isub, i_imul, i_idiv, i_irem, i_ineg, i_iand, i_ior, i_ishl, i_ishr, i_lxor, i_ladd, i_lsub, i_lmul, i_ldiv, i_lrem, i_lneg, i_lshl, i_lcmp, i_i2l, i_l2i, i_i2b, i_i2s, i_ifeq, i_ifne, i_iflt, i_ifge, i_ifgt, i_ifle, i_cmpeq, i_cmpne, i_cmplt, i_cmpge, i_cmpgt, i_cmple, i_acmpeq, i_acmpne, i_ifnull, i_ifnonnull, i_getI, i_getR, i_putI, i_putZ, i_putR, i_ald, i_ldL, i_ldR, i_ast, i_stL, i_stR, i_alen, i_new, i_newa, i_iret, i_zret, i_lret, i_aret, i_vret, i_raise, i_throw, i_recv, i_objinit, i_tsw3, lget, lset, lput1, lput2, lkil, ltrim, largs, isL, takev, dropv, nthv, pushO, catv, gd, true_and, and_true, Option.some.injEq, Prod.mk.injEq, exists_eq_left', if_true, if_false, reduceCtorEq, Bool.false_eq_true, lcmp_ge, lcmp_lt, lcmp_le, lcmp_gt, lcmp_eq, true_or, or_true, not_true_eq_false, not_false_eq_true, false_implies, true_implies, List.length_cons, List.length_nil, o2, m1]
            refine ⟨fun _ => ?_, fun q => by omega⟩
            refine ⟨⟨_, rfl, o2⟩, callB 2 13652 (by show 2 ≤ B3.1 - 3 ∧ 13652 ≤ B3.2 - 610; omega) (gd_of rfl) ?_⟩
            refine goes_at j3 hW hr16 (by decide) m2 (by have := j3.lzz.1; omega) (by omega) (.inl (by omega)) e2 fun B4 S4 D4 g1 g2 => ?_
            simp only [P_X0_part, i_kil, i_icon, i_lcon, i_null, i_loadI, i_loadL, i_loadR, i_istore, i_lstore, i_astore, i_iinc, i_dup, i_dup2, i_pop, i_iadd, i_isub, i_imul, i_idiv, i_irem, i_ineg, i_iand, i_ior, i_ishl, i_ishr, i_lxor, i_ladd, i_lsub, i_lmul, i_ldiv, i_lrem, i_lneg, i_lshl, i_lcmp, i_i2l, i_l2i, i_i2b, i_i2s, i_ifeq, i_ifne, i_iflt, i_ifge, i_ifgt, i_ifle, i_cmpeq, i_cmpne, i_cmplt, i_cmpge, i_cmpgt, i_cmple, i_acmpeq, i_acmpne, i_ifnull, i_ifnonnull, i_getI, i_getR, i_putI, i_putZ, i_putR, i_ald, i_ldL, i_ldR, i_ast, i_stL, i_stR, i_alen, i_new, i_newa, i_iret, i_zret, i_lret, i_aret, i_vret, i_raise, i_throw, i_recv, i_objinit, i_tsw3, lget, lset, lput1, lput2, lkil, ltrim, largs, isL, takev, dropv, nthv, pushO, catv, gd, true_and, and_true, Option.some.injEq, Prod.mk.injEq, exists_eq_left', if_true, if_false, reduceCtorEq, Bool.false_eq_true, lcmp_ge, lcmp_lt, lcmp_le, lcmp_gt, lcmp_eq, true_or, or_true, not_true_eq_false, not_false_eq_true, false_implies, true_implies, List.length_cons, List.length_nil]
            refine K _ _ _ _ _ (rR_q (foN_0.mpr ⟨hl, foN_0.mpr ⟨hgl, if_neg (by omega)⟩⟩) ⟨φ, by rw [show ((p : Nat) : Int).toNat = p by omega]; exact ht, .inl ⟨e4.1, e4.2, by rw [← hkn], by rw [e3, hkn]⟩⟩) g1 (F3.tr g2)
          | succ L ih =>
            intro k D3 hk e1 e2 e3 e4 e5 e6
            obtain ⟨u, u1, u2, u3, u4⟩ := e5 k (by omega)
            have hDa : pP D3 a φ := hD.cgr fun c i hc => e1 c i (by omega) (by unfold wK; omega)
            refine wp_in ?_
            simp only [P_X0_part, i_kil, i_icon, i_lcon, i_null, i_loadI, i_loadL, i_loadR, i_istore, i_lstore, i_astore, i_iinc, i_dup, i_dup2, i_pop, i_iadd, i_isub, i_imul, i_idiv, i_irem, i_ineg, i_iand, i_ior, i_ishl, i_ishr, i_lxor, i_ladd, i_lsub, i_lmul, i_ldiv, i_lrem, i_lneg, i_lshl, i_lcmp, i_i2l, i_l2i, i_i2b, i_i2s, i_ifeq, i_ifne, i_iflt, i_ifge, i_ifgt, i_ifle, i_cmpeq, i_cmpne, i_cmplt, i_cmpge, i_cmpgt, i_cmple, i_acmpeq, i_acmpne, i_ifnull, i_ifnonnull, i_getI, i_getR, i_putI, i_putZ, i_putR, i_ald, i_ldL, i_ldR, i_ast, i_stL, i_stR, i_alen, i_new, i_newa, i_iret, i_zret, i_lret, i_aret, i_vret, i_raise, i_throw, i_recv, i_objinit, i_tsw3, lget, lset, lput1, lput2, lkil, ltrim, largs, isL, takev, dropv, nthv, pushO, catv, gd, true_and, and_true, Option.some.injEq, Prod.mk.injEq, exists_eq_left', if_true, if_false, reduceCtorEq, Bool.false_eq_true, lcmp_ge, lcmp_lt, lcmp_le, lcmp_gt, lcmp_eq, true_or, or_true, not_true_eq_false, not_false_eq_true, false_implies, true_implies, List.length_cons, List.length_nil, o2, m1, b1, a5, m5, kA1, u4]
            refine ⟨fun q => by omega, fun _ => ?_⟩
            repeat (first | refine ⟨in_small (by omega) (by omega), ?_⟩ | (show (_ → _) ∧ (_ → _); first | refine ⟨by omega, fun _ => ?_⟩ | refine ⟨fun _ => ?_, by omega⟩) | refine ⟨by omega, ?_⟩ | refine ⟨⟨_, rfl, by assumption⟩, ?_⟩ | refine ⟨okT_I _, ?_⟩ | refine call0 (gd_of rfl) ?_)
            refine sp_X5_get hSa hDa.1 u1 b2 (by omega) fun D4 g1 g2 => ?_
            have u5 : D4 A1 k = u := by rw [g1 _ _ (by omega)]; exact u4
            simp only [P_X0_part, i_kil, i_icon, i_lcon, i_null, i_loadI, i_loadL, i_loadR, i_istore, i_lstore, i_astore, i_iinc, i_dup, i_dup2, i_pop, i_iadd, i_isub, i_imul, i_idiv, i_irem, i_ineg, i_iand, i_ior, i_ishl, i_ishr, i_lxor, i_ladd, i_lsub, i_lmul, i_ldiv, i_lrem, i_lneg, i_lshl, i_lcmp, i_i2l, i_l2i, i_i2b, i_i2s, i_ifeq, i_ifne, i_iflt, i_ifge, i_ifgt, i_ifle, i_cmpeq, i_cmpne, i_cmplt, i_cmpge, i_cmpgt, i_cmple, i_acmpeq, i_acmpne, i_ifnull, i_ifnonnull, i_getI, i_getR, i_putI, i_putZ, i_putR, i_ald, i_ldL, i_ldR, i_ast, i_stL, i_stR, i_alen, i_new, i_newa, i_iret, i_zret, i_lret, i_aret, i_vret, i_raise, i_throw, i_recv, i_objinit, i_tsw3, lget, lset, lput1, lput2, lkil, ltrim, largs, isL, takev, dropv, nthv, pushO, catv, gd, true_and, and_true, Option.some.injEq, Prod.mk.injEq, exists_eq_left', if_true, if_false, reduceCtorEq, Bool.false_eq_true, lcmp_ge, lcmp_lt, lcmp_le, lcmp_gt, lcmp_eq, true_or, or_true, not_true_eq_false, not_false_eq_true, false_implies, true_implies, List.length_cons, List.length_nil, o2, m1, b1, a5, m5, kA1, u5]
            repeat (first | refine ⟨in_small (by omega) (by omega), ?_⟩ | (show (_ → _) ∧ (_ → _); first | refine ⟨by omega, fun _ => ?_⟩ | refine ⟨fun _ => ?_, by omega⟩) | refine ⟨by omega, ?_⟩ | refine ⟨⟨_, rfl, by assumption⟩, ?_⟩ | refine ⟨okT_I _, ?_⟩ | refine call0 (gd_of rfl) ?_)
            have h4 : pP D4 (C + 705) (prtI φ a0 k) := e2.cgr fun c i hc => g1 c i (by omega)
            refine sp_X5_put m2 h4.1 u1 b2 g2 (by omega) (fun q => absurd q (hD.2.1 u u1)) fun q D5 g3 g4 => ?_
            simp only [P_X0_part, i_kil, i_icon, i_lcon, i_null, i_loadI, i_loadL, i_loadR, i_istore, i_lstore, i_astore, i_iinc, i_dup, i_dup2, i_pop, i_iadd, i_isub, i_imul, i_idiv, i_irem, i_ineg, i_iand, i_ior, i_ishl, i_ishr, i_lxor, i_ladd, i_lsub, i_lmul, i_ldiv, i_lrem, i_lneg, i_lshl, i_lcmp, i_i2l, i_l2i, i_i2b, i_i2s, i_ifeq, i_ifne, i_iflt, i_ifge, i_ifgt, i_ifle, i_cmpeq, i_cmpne, i_cmplt, i_cmpge, i_cmpgt, i_cmple, i_acmpeq, i_acmpne, i_ifnull, i_ifnonnull, i_getI, i_getR, i_putI, i_putZ, i_putR, i_ald, i_ldL, i_ldR, i_ast, i_stL, i_stR, i_alen, i_new, i_newa, i_iret, i_zret, i_lret, i_aret, i_vret, i_raise, i_throw, i_recv, i_objinit, i_tsw3, lget, lset, lput1, lput2, lkil, ltrim, largs, isL, takev, dropv, nthv, pushO, catv, gd, true_and, and_true, Option.some.injEq, Prod.mk.injEq, exists_eq_left', if_true, if_false, reduceCtorEq, Bool.false_eq_true, lcmp_ge, lcmp_lt, lcmp_le, lcmp_gt, lcmp_eq, true_or, or_true, not_true_eq_false, not_false_eq_true, false_implies, true_implies, List.length_cons, List.length_nil]
            repeat (first | refine ⟨in_small (by omega) (by omega), ?_⟩ | (show (_ → _) ∧ (_ → _); first | refine ⟨by omega, fun _ => ?_⟩ | refine ⟨fun _ => ?_, by omega⟩) | refine ⟨by omega, ?_⟩ | refine ⟨⟨_, rfl, by assumption⟩, ?_⟩ | refine ⟨okT_I _, ?_⟩ | refine call0 (gd_of rfl) ?_)
            have hst := prtI_step u1 u2 u3
            have h5' := h4.upd (hD.2.1 u u1) u1 g4
            have hpu := (pcnt_upd (prtI φ a0 k) u (φ u) 455).2 u1
            rw [← hst] at h5'
            rw [← hst, if_pos (prtI_at u3), if_neg u2] at hpu
            exact ih (k + 1) D5 (by omega) (fun c i c1 c2 => by rw [g3 c i (by unfold wK at c2; omega) (by unfold wK at c2; omega), g1 c i (by unfold wK at c2; omega)]; exact e1 c i c1 c2) h5' (by omega) e4 (fun i hi => by
              obtain ⟨v, v1, v2, v3, v4⟩ := e5 i hi
              exact ⟨v, v1, v2, v3, by rw [g3 _ _ (by omega) (by omega), g1 _ _ (by omega)]; exact v4⟩) e6
        have lp1 : ∀ (L k : Nat) (D3 : Dat), k + L = 455 → (∀ c i, c ≠ A1 + 1 → D3 c i = D2 c i) → (∀ i : Nat, (i : Int) < (pcnt φ 455 : Int) - pcnt φ (455 - k) → ∃ u : Nat, u < 455 ∧ φ u ≠ 0 ∧ abv φ u = i ∧ D3 (A1 + 1) i = u) → (∀ j : Int, 0 ≤ j → j < pcnt φ 455 → -32768 ≤ D3 (A1 + 1) j ∧ D3 (A1 + 1) j < 32768) → Wp P_X0_part E 1 [some (aR C), none, none, some (aI a0), some (aI n0), some (aR a), some (aR (C + 735 + r)), some (aR A1), some (aR (A1 + 1)), some (aI ((pcnt φ 455 : Int) - pcnt φ (455 - k))), some (aI (454 - (k : Int)))] [] B3 S2 D3 := by
          intro L
          induction L with
          | zero =>
            intro k D3 hk e1 e2 e3
            have : k = 455 := by omega
            subst this
            refine wp_in ?_
            simp only [P_X0_part, i_kil, i_icon, i_lcon, i_null, i_loadI, i_loadL, i_loadR, i_istore, i_lstore, i_astore, i_iinc, i_dup, i_dup2, i_pop, i_iadd, i_isub, i_imul, i_idiv, i_irem, i_ineg, i_iand, i_ior, i_ishl, i_ishr, i_lxor, i_ladd, i_lsub, i_lmul, i_ldiv, i_lrem, i_lneg, i_lshl, i_lcmp, i_i2l, i_l2i, i_i2b, i_i2s, i_ifeq, i_ifne, i_iflt, i_ifge, i_ifgt, i_ifle, i_cmpeq, i_cmpne, i_cmplt, i_cmpge, i_cmpgt, i_cmple, i_acmpeq, i_acmpne, i_ifnull, i_ifnonnull, i_getI, i_getR, i_putI, i_putZ, i_putR, i_ald, i_ldL, i_ldR, i_ast, i_stL, i_stR, i_alen, i_new, i_newa, i_iret, i_zret, i_lret, i_aret, i_vret, i_raise, i_throw, i_recv, i_objinit, i_tsw3, lget, lset, lput1, lput2, lkil, ltrim, largs, isL, takev, dropv, nthv, pushO, catv, gd, true_and, and_true, Option.some.injEq, Prod.mk.injEq, exists_eq_left', if_true, if_false, reduceCtorEq, Bool.false_eq_true, lcmp_ge, lcmp_lt, lcmp_le, lcmp_gt, lcmp_eq, true_or, or_true, not_true_eq_false, not_false_eq_true, false_implies, true_implies, List.length_cons, List.length_nil, o2, m1, m5]
            refine ⟨fun _ => ?_, fun q => absurd q (by decide)⟩
            repeat (first | refine ⟨in_small (by omega) (by omega), ?_⟩ | (show (_ → _) ∧ (_ → _); first | refine ⟨by omega, fun _ => ?_⟩ | refine ⟨fun _ => ?_, by omega⟩) | refine ⟨by omega, ?_⟩ | refine ⟨⟨_, rfl, by assumption⟩, ?_⟩ | refine ⟨okT_I _, ?_⟩ | refine call0 (gd_of rfl) ?_)
            refine failure_at (k := 1) hf2 (by decide) (by decide) rfl ?_
            simp only [P_X0_part, i_kil, i_icon, i_lcon, i_null, i_loadI, i_loadL, i_loadR, i_istore, i_lstore, i_astore, i_iinc, i_dup, i_dup2, i_pop, i_iadd, i_isub, i_imul, i_idiv, i_irem, i_ineg, i_iand, i_ior, i_ishl, i_ishr, i_lxor, i_ladd, i_lsub, i_lmul, i_ldiv, i_lrem, i_lneg, i_lshl, i_lcmp, i_i2l, i_l2i, i_i2b, i_i2s, i_ifeq, i_ifne, i_iflt, i_ifge, i_ifgt, i_ifle, i_cmpeq, i_cmpne, i_cmplt, i_cmpge, i_cmpgt, i_cmple, i_acmpeq, i_acmpne, i_ifnull, i_ifnonnull, i_getI, i_getR, i_putI, i_putZ, i_putR, i_ald, i_ldL, i_ldR, i_ast, i_stL, i_stR, i_alen, i_new, i_newa, i_iret, i_zret, i_lret, i_aret, i_vret, i_raise, i_throw, i_recv, i_objinit, i_tsw3, lget, lset, lput1, lput2, lkil, ltrim, largs, isL, takev, dropv, nthv, pushO, catv, gd, true_and, and_true, Option.some.injEq, Prod.mk.injEq, exists_eq_left', if_true, if_false, reduceCtorEq, Bool.false_eq_true, lcmp_ge, lcmp_lt, lcmp_le, lcmp_gt, lcmp_eq, true_or, or_true, not_true_eq_false, not_false_eq_true, false_implies, true_implies, List.length_cons, List.length_nil, o2]
            refine callB 3 610 (by omega) (gd_of rfl) ?_
            refine sp_X0_copy f1' kA2 kA1 (by omega) (by split at hm <;> omega) (by decide) e3 (fun q1 q2 q3 q4 => ?_) fun hx B4 n' hn' => ?_
            · simp only [P_X0_part, i_kil, i_icon, i_lcon, i_null, i_loadI, i_loadL, i_loadR, i_istore, i_lstore, i_astore, i_iinc, i_dup, i_dup2, i_pop, i_iadd, i_isub, i_imul, i_idiv, i_irem, i_ineg, i_iand, i_ior, i_ishl, i_ishr, i_lxor, i_ladd, i_lsub, i_lmul, i_ldiv, i_lrem, i_lneg, i_lshl, i_lcmp, i_i2l, i_l2i, i_i2b, i_i2s, i_ifeq, i_ifne, i_iflt, i_ifge, i_ifgt, i_ifle, i_cmpeq, i_cmpne, i_cmplt, i_cmpge, i_cmpgt, i_cmple, i_acmpeq, i_acmpne, i_ifnull, i_ifnonnull, i_getI, i_getR, i_putI, i_putZ, i_putR, i_ald, i_ldL, i_ldR, i_ast, i_stL, i_stR, i_alen, i_new, i_newa, i_iret, i_zret, i_lret, i_aret, i_vret, i_raise, i_throw, i_recv, i_objinit, i_tsw3, lget, lset, lput1, lput2, lkil, ltrim, largs, isL, takev, dropv, nthv, pushO, catv, gd, true_and, and_true, Option.some.injEq, Prod.mk.injEq, exists_eq_left', if_true, if_false, reduceCtorEq, Bool.false_eq_true, lcmp_ge, lcmp_lt, lcmp_le, lcmp_gt, lcmp_eq, true_or, or_true, not_true_eq_false, not_false_eq_true, false_implies, true_implies, List.length_cons, List.length_nil, o2, m1, m5]
              repeat (first | refine ⟨in_small (by omega) (by omega), ?_⟩ | (show (_ → _) ∧ (_ → _); first | refine ⟨by omega, fun _ => ?_⟩ | refine ⟨fun _ => ?_, by omega⟩) | refine ⟨by omega, ?_⟩ | refine ⟨⟨_, rfl, by assumption⟩, ?_⟩ | refine ⟨okT_I _, ?_⟩ | refine call0 (gd_of rfl) ?_)
              refine sp_X5_clear m2 (φ := χ0) (hχ0.cgr fun c i hc => by
                show (if c = A1 ∧ _ ∧ _ then _ else D3 c i) = _
                rw [if_neg (by omega), e1 c i (by omega), dD2 c i (by omega)]).1 fun D5 g1 g2 => ?_
              simp only [P_X0_part, i_kil, i_icon, i_lcon, i_null, i_loadI, i_loadL, i_loadR, i_istore, i_lstore, i_astore, i_iinc, i_dup, i_dup2, i_pop, i_iadd, i_isub, i_imul, i_idiv, i_irem, i_ineg, i_iand, i_ior, i_ishl, i_ishr, i_lxor, i_ladd, i_lsub, i_lmul, i_ldiv, i_lrem, i_lneg, i_lshl, i_lcmp, i_i2l, i_l2i, i_i2b, i_i2s, i_ifeq, i_ifne, i_iflt, i_ifge, i_ifgt, i_ifle, i_cmpeq, i_cmpne, i_cmplt, i_cmpge, i_cmpgt, i_cmple, i_acmpeq, i_acmpne, i_ifnull, i_ifnonnull, i_getI, i_getR, i_putI, i_putZ, i_putR, i_ald, i_ldL, i_ldR, i_ast, i_stL, i_stR, i_alen, i_new, i_newa, i_iret, i_zret, i_lret, i_aret, i_vret, i_raise, i_throw, i_recv, i_objinit, i_tsw3, lget, lset, lput1, lput2, lkil, ltrim, largs, isL, takev, dropv, nthv, pushO, catv, gd, true_and, and_true, Option.some.injEq, Prod.mk.injEq, exists_eq_left', if_true, if_false, reduceCtorEq, Bool.false_eq_true, lcmp_ge, lcmp_lt, lcmp_le, lcmp_gt, lcmp_eq, true_or, or_true, not_true_eq_false, not_false_eq_true, false_implies, true_implies, List.length_cons, List.length_nil]
              have := lp3 n0.toNat 0 D5 (by omega) (fun c i c1 c2 => by
                rw [g1 c i (by unfold wK at c2; omega) (by unfold wK at c2; omega)]
                show (if c = A1 ∧ _ ∧ _ then _ else D3 c i) = _
                rw [if_neg (by omega), e1 c i (by omega), dD2 c i (by omega)]) (by rw [prtI_zero]; exact ⟨g2, fun _ _ => qfit_zero, fun _ _ => rfl⟩) (by rw [prtI_zero]; exact (pcnt_z1 455).mpr fun _ _ => rfl) ⟨q1, q3⟩ (fun i hi => ?_) (by omega)
              · exact this
              · obtain ⟨u, u1, u2, u3, u4⟩ := e2 (a0 + i).toNat (by
                  show (((a0 + i).toNat : Nat) : Int) < (pcnt φ 455 : Int) - ((0 : Nat) : Int)
                  omega)
                rw [show (((a0 + i).toNat : Nat) : Int) = a0 + i by omega] at u3 u4
                refine ⟨u, u1, u2, u3, ?_⟩
                rw [g1 _ _ (by omega) (by omega)]
                show (if A1 = A1 ∧ (0 : Int) ≤ (i : Int) ∧ (i : Int) < 0 + n0 then D3 (A1 + 1) (a0 + ((i : Int) - 0)) else _) = _
                rw [if_pos ⟨rfl, by omega, by omega⟩, Int.sub_zero]
                exact u4
            · simp only [P_X0_part, i_kil, i_icon, i_lcon, i_null, i_loadI, i_loadL, i_loadR, i_istore, i_lstore, i_astore, i_iinc, i_dup, i_dup2, i_pop, i_iadd, i_isub, i_imul, i_idiv, i_irem, i_ineg, i_iand, i_ior, i_ishl, i_ishr, i_lxor, i_ladd, i_lsub, i_lmul, i_ldiv, i_lrem, i_lneg, i_lshl, i_lcmp, i_i2l, i_l2i, i_i2b, i_i2s, i_ifeq, i_ifne, i_iflt, i_ifge, i_ifgt, i_ifle, i_cmpeq, i_cmpne, i_cmplt, i_cmpge, i_cmpgt, i_cmple, i_acmpeq, i_acmpne, i_ifnull, i_ifnonnull, i_getI, i_getR, i_putI, i_putZ, i_putR, i_ald, i_ldL, i_ldR, i_ast, i_stL, i_stR, i_alen, i_new, i_newa, i_iret, i_zret, i_lret, i_aret, i_vret, i_raise, i_throw, i_recv, i_objinit, i_tsw3, lget, lset, lput1, lput2, lkil, ltrim, largs, isL, takev, dropv, nthv, pushO, catv, gd, true_and, and_true, Option.some.injEq, Prod.mk.injEq, exists_eq_left', if_true, if_false, reduceCtorEq, Bool.false_eq_true, lcmp_ge, lcmp_lt, lcmp_le, lcmp_gt, lcmp_eq, true_or, or_true, not_true_eq_false, not_false_eq_true, false_implies, true_implies, List.length_cons, List.length_nil]
              refine err1 _ _ _ hn' (fun c i hc _ => by rw [e1 c i (by omega), dD2 c i hc]) ⟨χ0, hχ0.cgr fun c i hc => by rw [e1 c i (by omega), dD2 c i (by omega)]⟩ fun q => hx ⟨q.1, hn0, q.2, by split at hm <;> omega⟩
          | succ L ih =>
            intro k D3 hk e1 e2 e3
            obtain ⟨u, hu⟩ : ∃ u, u = 454 - k := ⟨_, rfl⟩
            have hu4 : u < 455 := by omega
            have hDa : pP D3 a φ := hD.cgr fun c i hc => by rw [e1 c i (by omega), dD2 c i (by omega)]
            have e0 : pcnt φ (u + 1) = pcnt φ u + if φ u = 0 then 0 else 1 := rfl
            have e2' : ∀ i : Nat, (i : Int) < (pcnt φ 455 : Int) - pcnt φ (u + 1) → ∃ u : Nat, u < 455 ∧ φ u ≠ 0 ∧ abv φ u = i ∧ D3 (A1 + 1) i = u := by rw [show u + 1 = 455 - k by omega]; exact e2
            rw [show (454 : Int) - (k : Int) = (u : Int) by omega, show 455 - k = u + 1 by omega]
            have two : ∀ (D4 : Dat) (z : Int), z = (pcnt φ 455 : Int) - pcnt φ u → (∀ c i, c ≠ A1 + 1 → D4 c i = D2 c i) → (∀ i : Nat, (i : Int) < (pcnt φ 455 : Int) - pcnt φ u → ∃ u : Nat, u < 455 ∧ φ u ≠ 0 ∧ abv φ u = i ∧ D4 (A1 + 1) i = u) → (∀ j : Int, 0 ≤ j → j < pcnt φ 455 → -32768 ≤ D4 (A1 + 1) j ∧ D4 (A1 + 1) j < 32768) → Wp P_X0_part E 2 [some (aR C), none, none, some (aI a0), some (aI n0), some (aR a), some (aR (C + 735 + r)), some (aR A1), some (aR (A1 + 1)), some (aI z), some (aI (u : Int))] [] B3 S2 D4 := fun D4 z hz g1 g2 g3 => by
              refine wp_in ?_
              simp only [P_X0_part, i_kil, i_icon, i_lcon, i_null, i_loadI, i_loadL, i_loadR, i_istore, i_lstore, i_astore, i_iinc, i_dup, i_dup2, i_pop, i_iadd, i_isub, i_imul, i_idiv, i_irem, i_ineg, i_iand, i_ior, i_ishl, i_ishr, i_lxor, i_ladd, i_lsub, i_lmul, i_ldiv, i_lrem, i_lneg, i_lshl, i_lcmp, i_i2l, i_l2i, i_i2b, i_i2s, i_ifeq, i_ifne, i_iflt, i_ifge, i_ifgt, i_ifle, i_cmpeq, i_cmpne, i_cmplt, i_cmpge, i_cmpgt, i_cmple, i_acmpeq, i_acmpne, i_ifnull, i_ifnonnull, i_getI, i_getR, i_putI, i_putZ, i_putR, i_ald, i_ldL, i_ldR, i_ast, i_stL, i_stR, i_alen, i_new, i_newa, i_iret, i_zret, i_lret, i_aret, i_vret, i_raise, i_throw, i_recv, i_objinit, i_tsw3, lget, lset, lput1, lput2, lkil, ltrim, largs, isL, takev, dropv, nthv, pushO, catv, gd, true_and, and_true, Option.some.injEq, Prod.mk.injEq, exists_eq_left', if_true, if_false, reduceCtorEq, Bool.false_eq_true, lcmp_ge, lcmp_lt, lcmp_le, lcmp_gt, lcmp_eq, true_or, or_true, not_true_eq_false, not_false_eq_true, false_implies, true_implies, List.length_cons, List.length_nil]
              repeat (first | refine ⟨in_small (by omega) (by omega), ?_⟩ | (show (_ → _) ∧ (_ → _); first | refine ⟨by omega, fun _ => ?_⟩ | refine ⟨fun _ => ?_, by omega⟩) | refine ⟨by omega, ?_⟩ | refine ⟨⟨_, rfl, by assumption⟩, ?_⟩ | refine ⟨okT_I _, ?_⟩ | refine call0 (gd_of rfl) ?_)
              have := ih (k + 1) D4 (by omega) g1 (by rw [show 455 - (k + 1) = u by omega]; exact g2) g3
              rw [show 455 - (k + 1) = u by omega, show (454 : Int) - ((k + 1 : Nat) : Int) = (u : Int) + -1 by omega, ← hz] at this
              exact this
            have hm1 := pcnt_mono (φ := φ) (show u + 1 ≤ 455 by omega)
            refine wp_in ?_
            simp only [P_X0_part, i_kil, i_icon, i_lcon, i_null, i_loadI, i_loadL, i_loadR, i_istore, i_lstore, i_astore, i_iinc, i_dup, i_dup2, i_pop, i_iadd, i_isub, i_imul, i_idiv, i_irem, i_ineg, i_iand, i_ior, i_ishl, i_ishr, i_lxor, i_ladd, i_lsub, i_lmul, i_ldiv, i_lrem, i_lneg, i_lshl, i_lcmp, i_i2l, i_l2i, i_i2b, i_i2s, i_ifeq, i_ifne, i_iflt, i_ifge, i_ifgt, i_ifle, i_cmpeq, i_cmpne, i_cmplt, i_cmpge, i_cmpgt, i_cmple, i_acmpeq, i_acmpne, i_ifnull, i_ifnonnull, i_getI, i_getR, i_putI, i_putZ, i_putR, i_ald, i_ldL, i_ldR, i_ast, i_stL, i_stR, i_alen, i_new, i_newa, i_iret, i_zret, i_lret, i_aret, i_vret, i_raise, i_throw, i_recv, i_objinit, i_tsw3, lget, lset, lput1, lput2, lkil, ltrim, largs, isL, takev, dropv, nthv, pushO, catv, gd, true_and, and_true, Option.some.injEq, Prod.mk.injEq, exists_eq_left', if_true, if_false, reduceCtorEq, Bool.false_eq_true, lcmp_ge, lcmp_lt, lcmp_le, lcmp_gt, lcmp_eq, true_or, or_true, not_true_eq_false, not_false_eq_true, false_implies, true_implies, List.length_cons, List.length_nil, o2, m1, a5, kA2]
            refine ⟨fun q => by omega, fun _ => ?_⟩
            repeat (first | refine ⟨in_small (by omega) (by omega), ?_⟩ | (show (_ → _) ∧ (_ → _); first | refine ⟨by omega, fun _ => ?_⟩ | refine ⟨fun _ => ?_, by omega⟩) | refine ⟨by omega, ?_⟩ | refine ⟨⟨_, rfl, by assumption⟩, ?_⟩ | refine ⟨okT_I _, ?_⟩ | refine call0 (gd_of rfl) ?_)
            refine sp_X5_has hSa hDa.1 hu4 ?_
            simp only [P_X0_part, i_kil, i_icon, i_lcon, i_null, i_loadI, i_loadL, i_loadR, i_istore, i_lstore, i_astore, i_iinc, i_dup, i_dup2, i_pop, i_iadd, i_isub, i_imul, i_idiv, i_irem, i_ineg, i_iand, i_ior, i_ishl, i_ishr, i_lxor, i_ladd, i_lsub, i_lmul, i_ldiv, i_lrem, i_lneg, i_lshl, i_lcmp, i_i2l, i_l2i, i_i2b, i_i2s, i_ifeq, i_ifne, i_iflt, i_ifge, i_ifgt, i_ifle, i_cmpeq, i_cmpne, i_cmplt, i_cmpge, i_cmpgt, i_cmple, i_acmpeq, i_acmpne, i_ifnull, i_ifnonnull, i_getI, i_getR, i_putI, i_putZ, i_putR, i_ald, i_ldL, i_ldR, i_ast, i_stL, i_stR, i_alen, i_new, i_newa, i_iret, i_zret, i_lret, i_aret, i_vret, i_raise, i_throw, i_recv, i_objinit, i_tsw3, lget, lset, lput1, lput2, lkil, ltrim, largs, isL, takev, dropv, nthv, pushO, catv, gd, true_and, and_true, Option.some.injEq, Prod.mk.injEq, exists_eq_left', if_true, if_false, reduceCtorEq, Bool.false_eq_true, lcmp_ge, lcmp_lt, lcmp_le, lcmp_gt, lcmp_eq, true_or, or_true, not_true_eq_false, not_false_eq_true, false_implies, true_implies, List.length_cons, List.length_nil, o2, m1, a5, kA2]
            by_cases h0 : φ u = 0
            · rw [if_pos h0] at e0 ⊢
              refine ⟨fun q => absurd rfl q, fun _ => two D3 _ (by omega) e1 (fun i hi => e2' i (by omega)) e3⟩
            · rw [if_neg h0] at e0 ⊢
              have hab := abv_lt hu4 h0
              have hab2 : abv φ u = (pcnt φ 455 : Int) - pcnt φ (u + 1) := rfl
              refine ⟨fun _ => ?_, fun q => absurd q (by decide)⟩
              refine ⟨by omega, by omega, by omega, by omega, okT_S (by omega) (by omega), ?_⟩
              repeat (first | refine ⟨in_small (by omega) (by omega), ?_⟩ | (show (_ → _) ∧ (_ → _); first | refine ⟨by omega, fun _ => ?_⟩ | refine ⟨fun _ => ?_, by omega⟩) | refine ⟨by omega, ?_⟩ | refine ⟨⟨_, rfl, by assumption⟩, ?_⟩ | refine ⟨okT_I _, ?_⟩ | refine call0 (gd_of rfl) ?_)
              refine two _ _ (by omega) (fun c i hc => by rw [pmx_ne (Or.inl hc)]; exact e1 c i hc) (fun i hi => ?_) fun j j1 j2 => ?_
              · by_cases hiu : (i : Int) = abv φ u
                · exact ⟨u, hu4, h0, hiu.symm, by rw [hiu, hab2]; exact pmx_eq⟩
                · obtain ⟨v, v1, v2, v3, v4⟩ := e2' i (by omega)
                  exact ⟨v, v1, v2, v3, by rw [pmx_ne (Or.inr (by omega))]; exact v4⟩
              · by_cases hju : j = (pcnt φ 455 : Int) - pcnt φ (u + 1)
                · rw [hju, pmx_eq]; omega
                · rw [pmx_ne (Or.inr hju)]; exact e3 j j1 j2
        have := lp1 455 0 D2 (by omega) (fun _ _ _ => rfl) (fun i hi => absurd hi (by show ¬ (i : Int) < (pcnt φ 455 : Int) - pcnt φ 455; omega)) fun j _ _ => by rw [dA2]; decide
        rw [show (pcnt φ 455 : Int) - pcnt φ (455 - 0) = 0 from Int.sub_self _] at this
        exact this
      · simp only [P_X0_part, i_kil, i_icon, i_lcon, i_null, i_loadI, i_loadL, i_loadR, i_istore, i_lstore, i_astore, i_iinc, i_dup, i_dup2, i_pop, i_iadd, i_isub, i_imul, i_idiv, i_irem, i_ineg, i_iand, i_ior, i_ishl, i_ishr, i_lxor, i_ladd, i_lsub, i_lmul, i_ldiv, i_lrem, i_lneg, i_lshl, i_lcmp, i_i2l, i_l2i, i_i2b, i_i2s, i_ifeq, i_ifne, i_iflt, i_ifge, i_ifgt, i_ifle, i_cmpeq, i_cmpne, i_cmplt, i_cmpge, i_cmpgt, i_cmple, i_acmpeq, i_acmpne, i_ifnull, i_ifnonnull, i_getI, i_getR, i_putI, i_putZ, i_putR, i_ald, i_ldL, i_ldR, i_ast, i_stL, i_stR, i_alen, i_new, i_newa, i_iret, i_zret, i_lret, i_aret, i_vret, i_raise, i_throw, i_recv, i_objinit, i_tsw3, lget, lset, lput1, lput2, lkil, ltrim, largs, isL, takev, dropv, nthv, pushO, catv, gd, true_and, and_true, Option.some.injEq, Prod.mk.injEq, exists_eq_left', if_true, if_false, reduceCtorEq, Bool.false_eq_true, lcmp_ge, lcmp_lt, lcmp_le, lcmp_gt, lcmp_eq, true_or, or_true, not_true_eq_false, not_false_eq_true, false_implies, true_implies, List.length_cons, List.length_nil]
        refine err 4 _ _ _ _ _ _ (by decide) (nx n' hn').1 (nx n' hn').2 (rR_f (by decide) ?_)
        unfold foN
        rw [if_pos hl, if_pos hgl, if_pos hn0]
    · simp only [P_X0_part, i_kil, i_icon, i_lcon, i_null, i_loadI, i_loadL, i_loadR, i_istore, i_lstore, i_astore, i_iinc, i_dup, i_dup2, i_pop, i_iadd, i_isub, i_imul, i_idiv, i_irem, i_ineg, i_iand, i_ior, i_ishl, i_ishr, i_lxor, i_ladd, i_lsub, i_lmul, i_ldiv, i_lrem, i_lneg, i_lshl, i_lcmp, i_i2l, i_l2i, i_i2b, i_i2s, i_ifeq, i_ifne, i_iflt, i_ifge, i_ifgt, i_ifle, i_cmpeq, i_cmpne, i_cmplt, i_cmpge, i_cmpgt, i_cmple, i_acmpeq, i_acmpne, i_ifnull, i_ifnonnull, i_getI, i_getR, i_putI, i_putZ, i_putR, i_ald, i_ldL, i_ldR, i_ast, i_stL, i_stR, i_alen, i_new, i_newa, i_iret, i_zret, i_lret, i_aret, i_vret, i_raise, i_throw, i_recv, i_objinit, i_tsw3, lget, lset, lput1, lput2, lkil, ltrim, largs, isL, takev, dropv, nthv, pushO, catv, gd, true_and, and_true, Option.some.injEq, Prod.mk.injEq, exists_eq_left', if_true, if_false, reduceCtorEq, Bool.false_eq_true, lcmp_ge, lcmp_lt, lcmp_le, lcmp_gt, lcmp_eq, true_or, or_true, not_true_eq_false, not_false_eq_true, false_implies, true_implies, List.length_cons, List.length_nil]
      refine err 1 _ _ _ _ _ _ (by decide) (nx n' hn).1 (nx n' hn).2 (rR_f (by decide) ?_)
      unfold foN glN
      rw [if_pos hl, if_neg hx, if_neg (by decide)]
  · simp only [P_X0_part, i_kil, i_icon, i_lcon, i_null, i_loadI, i_loadL, i_loadR, i_istore, i_lstore, i_astore, i_iinc, i_dup, i_dup2, i_pop, i_iadd, i_isub, i_imul, i_idiv, i_irem, i_ineg, i_iand, i_ior, i_ishl, i_ishr, i_lxor, i_ladd, i_lsub, i_lmul, i_ldiv, i_lrem, i_lneg, i_lshl, i_lcmp, i_i2l, i_l2i, i_i2b, i_i2s, i_ifeq, i_ifne, i_iflt, i_ifge, i_ifgt, i_ifle, i_cmpeq, i_cmpne, i_cmplt, i_cmpge, i_cmpgt, i_cmple, i_acmpeq, i_acmpne, i_ifnull, i_ifnonnull, i_getI, i_getR, i_putI, i_putZ, i_putR, i_ald, i_ldL, i_ldR, i_ast, i_stL, i_stR, i_alen, i_new, i_newa, i_iret, i_zret, i_lret, i_aret, i_vret, i_raise, i_throw, i_recv, i_objinit, i_tsw3, lget, lset, lput1, lput2, lkil, ltrim, largs, isL, takev, dropv, nthv, pushO, catv, gd, true_and, and_true, Option.some.injEq, Prod.mk.injEq, exists_eq_left', if_true, if_false, reduceCtorEq, Bool.false_eq_true, lcmp_ge, lcmp_lt, lcmp_le, lcmp_gt, lcmp_eq, true_or, or_true, not_true_eq_false, not_false_eq_true, false_implies, true_implies, List.length_cons, List.length_nil]
    have := lkN_le s x 1
    refine err _ _ _ _ _ _ _ (by omega) (nx n hn).1 (nx n hn).2 (rR_f hx ?_)
    unfold foN
    rw [if_neg hx]
end CPT
