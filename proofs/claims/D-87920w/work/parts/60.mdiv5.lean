/-! the model's divide: the main loop -/
set_option maxRecDepth 100000
set_option linter.unusedVariables false
def mW (S : Stat) (M u v wh : Nat) : Prop := S.2.1 M 3 = some wh ∧ S.1 wh = some (100, 266) ∧ wh ≠ u ∧ wh ≠ v
set_option maxHeartbeats 2000000 in
theorem sp_X16_div5 {E : Ex} {B : Nat × Nat} {S : Stat} {D2 : Dat} {M u v wh d m : Nat} {f V X : Int} {l1 l2 l5 l6 : PV} (hM : mR S M u v) (hW : mW S M u v wh) (hlen : d + 1 + m + 1 ≤ 266) (hv : dok (D2 v) (d + 1)) (hv1 : 1 ≤ D2 v d) (hV : V = dv (D2 v) (d + 1))
    (K : ∀ D' : Dat, (∀ c i, c ≠ u → c ≠ wh → D' c i = D2 c i) → dok (D' u) (d + 1 + m + 1) → dok (D' wh) (m + 1) → dv (D' u) (d + 1) < V → X = dv (D' wh) (m + 1) * V + dv (D' u) (d + 1) →
      Wp P_X16_divide E 5 [some (aR M), some l1, some l2, none, none, some l5, some l6, some (aI ((d + 1 : Nat) : Int)), some (aI m), some (aL f), none, none, none, some (aI (-1))] [] B S D') :
    ∀ (l : Nat) (D' : Dat), l ≤ m + 1 → (∀ c i, c ≠ u → c ≠ wh → D' c i = D2 c i) → dok (D' u) (d + 1 + m + 1) → (∀ i : Int, l ≤ i → i < (m + 1 : Nat) → 0 ≤ D' wh i ∧ D' wh i < 1000000000) → dv (sh (D' u) l) (d + 1) < V → X = (dv (sh (D' wh) l) (m + 1 - l) * V + dv (sh (D' u) l) (d + 1)) * 1000000000 ^ l + dv (D' u) l →
      Wp P_X16_divide E 5 [some (aR M), some l1, some l2, none, none, some l5, some l6, some (aI ((d + 1 : Nat) : Int)), some (aI m), some (aL f), none, none, none, some (aI ((l : Int) - 1))] [] B S D' := by
  have hM0 := hM
  obtain ⟨m1, m2, m3, m4, m5, m6⟩ := hM
  obtain ⟨w1, w2, w3, w4⟩ := hW
  have hVpos : 0 < V := by
    rw [hV]
    have e1 : dv (D2 v) (d + 1) = dv (D2 v) d + D2 v (d : Int) * 1000000000 ^ d := rfl
    have e2 := dv_nn (hv.mono (Nat.le_succ d))
    have e3 : 1 * 1000000000 ^ d ≤ D2 v (d : Int) * 1000000000 ^ d := Int.mul_le_mul_of_nonneg_right hv1 (by have := pw_pos d; omega)
    have := pw_pos d
    omega
  intro l
  induction l with
  | zero =>
    intro D' hl hk hd hqd hlt hval
    have e0 : ∀ g : Int → Int, sh g 0 = g := fun g => by funext i; simp [sh]
    simp only [show ((0 : Nat) : Int) = 0 from rfl, e0, dv, Int.pow_zero, Int.mul_one, Int.add_zero, Nat.sub_zero] at hlt hval
    exact K D' hk hd (fun i h0 h1 => hqd i (by omega) h1) hlt hval
  | succ j ih =>
    intro D' hl hk hd hqd hlt hval
    rw [show ((j + 1 : Nat) : Int) - 1 = j by omega]
    refine wp_in ?_
    simp only [P_X16_divide, i_kil, i_icon, i_lcon, i_null, i_loadI, i_loadL, i_loadR, i_istore, i_lstore, i_astore, i_iinc, i_dup, i_dup2, i_pop, i_iadd, i_isub, i_imul, i_idiv, i_irem, i_ineg, i_iand, i_ior, i_ishl, i_ishr, i_lxor, i_ladd, i_lsub, i_lmul, i_ldiv, i_lrem, i_lneg, i_lshl, i_lcmp, i_i2l, i_l2i, i_i2b, i_i2s, i_ifeq, i_ifne, i_iflt, i_ifge, i_ifgt, i_ifle, i_cmpeq, i_cmpne, i_cmplt, i_cmpge, i_cmpgt, i_cmple, i_acmpeq, i_acmpne, i_ifnull, i_ifnonnull, i_getI, i_getR, i_putI, i_putZ, i_putR, i_ald, i_ldL, i_ldR, i_ast, i_stL, i_stR, i_alen, i_new, i_newa, i_iret, i_zret, i_lret, i_aret, i_vret, i_raise, i_throw, i_recv, i_objinit, i_tsw3, lget, lset, lput1, lput2, lkil, ltrim, largs, isL, takev, dropv, nthv, pushO, catv, gd, true_and, and_true, Option.some.injEq, Prod.mk.injEq, exists_eq_left', if_true, if_false, reduceCtorEq, Bool.false_eq_true, lcmp_ge, lcmp_lt, lcmp_le, lcmp_gt, lcmp_eq, true_or, or_true, not_true_eq_false, not_false_eq_true, false_implies, true_implies, List.length_cons, List.length_nil, m1, m2, m3, m4, m5, w1, w2]
    refine ⟨fun h => by omega, fun _ => ⟨⟨M, rfl, m1⟩, call0 (gd_of rfl) ?_⟩⟩
    have ev : D' v = D2 v := funext fun i => hk _ i (Ne.symm m6) (Ne.symm w4)
    have ehead : dv (sh (D' u) j) (d + 1 + 1) = D' u j + 1000000000 * dv (sh (D' u) ((j + 1 : Nat) : Int)) (d + 1) := by
      rw [dv_head, sh_sh, show ((j + 1 : Nat) : Int) = (j : Int) + 1 by omega]
      simp [sh]
    have cuj := hd j (by omega) (by omega)
    have hUn := dv_nn (dok_sh (j := j + 1) (m := d + 1) hd (by omega))
    obtain ⟨T, hT⟩ : ∃ T, T = dv (sh (D' u) j) (d + 1 + 1) := ⟨_, rfl⟩
    have hTB : 0 ≤ T ∧ T < 1000000000 * V := by rw [hT, ehead]; omega
    have hqq : T / V * V ≤ T ∧ T < (T / V + 1) * V := ⟨Int.ediv_mul_le _ (by omega), Int.lt_ediv_add_one_mul_self _ hVpos⟩
    have hq0' : 0 ≤ T / V := Int.ediv_nonneg hTB.1 (by omega)
    have hqB : T / V < 1000000000 := (Int.ediv_lt_iff_lt_mul hVpos).mpr hTB.2
    refine sp_X16_step (q := T / V) hM0 (by omega) (by omega) (by rw [ev]; exact hv) (by rw [ev, show ((d + 1 : Nat) : Int) - 1 = d by omega]; exact hv1) (dok_sh hd (by omega)) hq0' hqB (by rw [ev, ← hV, ← hT]; exact hqq.1) (by rw [ev, ← hV, ← hT]; exact hqq.2) fun D'' s1 s2 s4 => ?_
    rw [ev, ← hV, ← hT] at s4
    simp only [P_X16_divide, i_kil, i_icon, i_lcon, i_null, i_loadI, i_loadL, i_loadR, i_istore, i_lstore, i_astore, i_iinc, i_dup, i_dup2, i_pop, i_iadd, i_isub, i_imul, i_idiv, i_irem, i_ineg, i_iand, i_ior, i_ishl, i_ishr, i_lxor, i_ladd, i_lsub, i_lmul, i_ldiv, i_lrem, i_lneg, i_lshl, i_lcmp, i_i2l, i_l2i, i_i2b, i_i2s, i_ifeq, i_ifne, i_iflt, i_ifge, i_ifgt, i_ifle, i_cmpeq, i_cmpne, i_cmplt, i_cmpge, i_cmpgt, i_cmple, i_acmpeq, i_acmpne, i_ifnull, i_ifnonnull, i_getI, i_getR, i_putI, i_putZ, i_putR, i_ald, i_ldL, i_ldR, i_ast, i_stL, i_stR, i_alen, i_new, i_newa, i_iret, i_zret, i_lret, i_aret, i_vret, i_raise, i_throw, i_recv, i_objinit, i_tsw3, lget, lset, lput1, lput2, lkil, ltrim, largs, isL, takev, dropv, nthv, pushO, catv, gd, true_and, and_true, Option.some.injEq, Prod.mk.injEq, exists_eq_left', if_true, if_false, reduceCtorEq, Bool.false_eq_true, lcmp_ge, lcmp_lt, lcmp_le, lcmp_gt, lcmp_eq, true_or, or_true, not_true_eq_false, not_false_eq_true, false_implies, true_implies, List.length_cons, List.length_nil, m1, m2, m3, m4, m5, w1, w2]
    refine ⟨by unfold inI; omega, by omega, by omega, by simp [okT], in_small (by omega) (by omega), ?_⟩
    generalize T / V = dg at *
    have eo' : pmu D'' wh j dg u = D'' u := funext fun i => by simp only [pmu]; rw [if_neg (fun h => w3 h.1.symm)]
    have eqd : ∀ i, pmu D'' wh j dg wh i = if i = j then dg else D' wh i := fun i => by
      simp only [pmu, true_and]; split
      · rfl
      · exact s1 _ i (fun h => w3 h.1)
    have elow : dv (D'' u) j = dv (D' u) j := dv_congr fun i h0 h1 => s1 _ i (fun h => by omega)
    refine ih _ (by omega) (fun c i c1 c2 => ?_) ?_ (fun i h0 h1 => ?_) ?_ ?_
    · simp only [pmu]; rw [if_neg (fun h => c2 h.1), s1 c i (fun h => c1 h.1)]; exact hk c i c1 c2
    · rw [eo']
      intro i h0 h1
      by_cases hi : (j : Int) ≤ i ∧ i ≤ j + (d + 1 : Nat)
      · have := s2 (i - j) (by omega) (by omega)
        simp only [sh] at this
        rw [show (j : Int) + (i - j) = i by omega] at this
        exact this
      · rw [s1 _ i (fun h => hi ⟨h.2.1, h.2.2⟩)]; exact hd i h0 h1
    · rw [eqd]; split
      · exact ⟨hq0', hqB⟩
      · exact hqd i (by omega) h1
    · rw [eo', s4]; rw [Int.add_mul] at hqq; omega
    · rw [eo', s4, elow, hval]
      have e5 : dv (sh (pmu D'' wh j dg wh) j) (m + 1 - j) = dg + 1000000000 * dv (sh (D' wh) ((j + 1 : Nat) : Int)) (m + 1 - (j + 1)) := by
        obtain ⟨z, hz⟩ : ∃ z, m + 1 - j = z + 1 := ⟨m - j, by omega⟩
        rw [hz, show m + 1 - (j + 1) = z by omega, dv_head, sh_sh]
        congr 1
        · simp [sh, eqd]
        · congr 1
          refine dv_congr fun i h0 h1 => ?_
          simp only [sh]
          rw [eqd, if_neg (by omega)]
          congr 1
      rw [e5, hT, ehead, pw_succ]
      simp only [dv]
      generalize dv (sh (D' wh) ((j + 1 : Nat) : Int)) (m + 1 - (j + 1)) = Q1
      generalize dv (sh (D' u) ((j + 1 : Nat) : Int)) (d + 1) = R1
      generalize (1000000000 : Int) ^ j = Pj
      generalize dv (D' u) j = L1
      generalize D' u (j : Int) = u1
      grind
