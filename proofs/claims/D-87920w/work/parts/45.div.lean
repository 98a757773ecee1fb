/-! Reckoner: scale, digit, divide -/
set_option maxRecDepth 100000
set_option linter.unusedVariables false
def rS (S : Stat) (o : Nat) : Prop := S.1 o = some (2, 0) ∧ S.2.1 o 0 = some (o + 1) ∧ S.1 (o + 1) = some (100, 320) ∧ S.2.1 o 1 = some (o + 2) ∧ S.1 (o + 2) = some (100, 320) ∧ S.2.1 o 2 = some (o + 3) ∧ wS 3 S (o + 3) 160 ∧ S.2.1 o 3 = some (o + 5) ∧ wS 3 S (o + 5) 160 ∧ S.2.1 o 4 = some (o + 7) ∧ wS 3 S (o + 7) 160 ∧ S.2.1 o 5 = some (o + 9) ∧ wS 3 S (o + 9) 160
theorem sp_X2_scale {E : Ex} {B : Nat × Nat} {S : Stat} {D : Dat} {o t a ra n : Nat} {by_ : Int} (ht : S.1 t = some (100, 320)) (ha : wS 3 S a ra) (nta : t ≠ a + 1) (a1 : D a 1 = n) (a2 : dok (D (a + 1)) n) (hn : n < 320) (hra : n ≤ ra) (hb : 1 ≤ by_ ∧ by_ < 1000000000)
    (k : ∀ D' : Dat, (∀ c i, c ≠ t → D' c i = D c i) → dok (D' t) (n + 1) → dv (D' t) (n + 1) = by_ * dv (D (a + 1)) n → E (.inl none) B S D') : Wp P_X2_scale E 0 [some (aR o), some (aR t), some (aR a), some (aL by_), none] [] B S D := by
  obtain ⟨u1, u2, u3⟩ := ha
  have nat : a ≠ t := fun h => by rw [h, ht] at u1; simp at u1
  have loop : ∀ (M j : Nat) (ov : Int) (D' : Dat), j + M = n → (0 ≤ ov ∧ ov < 1000000000) → (∀ c i, c ≠ t → D' c i = D c i) → dok (D' t) j → dv (D' t) j + ov * 1000000000 ^ j = by_ * dv (D (a + 1)) j →
      Wp P_X2_scale E 1 [none, some (aR t), some (aR a), some (aL by_), none, some (aL ov), none, some (aI j)] [] B S D' := by
    intro M
    induction M with
    | zero =>
      intro j ov D' hj hov hk hd hv
      have hjn : j = n := by omega
      subst hjn
      refine wp_in ?_
      simp only [P_X2_scale, i_kil, i_icon, i_lcon, i_null, i_loadI, i_loadL, i_loadR, i_istore, i_lstore, i_astore, i_iinc, i_dup, i_dup2, i_pop, i_iadd, i_isub, i_imul, i_idiv, i_irem, i_ineg, i_iand, i_ior, i_ishl, i_ishr, i_lxor, i_ladd, i_lsub, i_lmul, i_ldiv, i_lrem, i_lneg, i_lshl, i_lcmp, i_i2l, i_l2i, i_i2b, i_i2s, i_ifeq, i_ifne, i_iflt, i_ifge, i_ifgt, i_ifle, i_cmpeq, i_cmpne, i_cmplt, i_cmpge, i_cmpgt, i_cmple, i_acmpeq, i_acmpne, i_ifnull, i_ifnonnull, i_getI, i_getR, i_putI, i_putZ, i_putR, i_ald, i_ldL, i_ldR, i_ast, i_stL, i_stR, i_alen, i_new, i_newa, i_iret, i_zret, i_lret, i_aret, i_vret, i_raise, i_throw, i_recv, i_objinit, i_tsw3, lget, lset, lput1, lput2, lkil, ltrim, largs, isL, takev, dropv, nthv, pushO, catv, gd, true_and, and_true, Option.some.injEq, Prod.mk.injEq, exists_eq_left', if_true, if_false, reduceCtorEq, Bool.false_eq_true, lcmp_ge, lcmp_lt, lcmp_le, lcmp_gt, lcmp_eq, true_or, or_true, not_true_eq_false, not_false_eq_true, false_implies, true_implies, List.length_cons, List.length_nil, ht, u1, u2, u3, hk a 1 nat, a1]
      refine ⟨fun _ => ⟨by unfold inI; omega, by omega, by omega, by simp [okT], ?_⟩, fun h => by omega⟩
      have e1 : ∀ i, pmu D' t j ov t i = if i = j then ov else D' t i := fun i => by simp [pmu]
      refine k _ (fun c i h1 => by simp [pmu, h1, hk c i h1]) (fun i h1 h2 => ?_) ?_
      · rw [e1]; split
        · exact hov
        · exact hd i h1 (by omega)
      · simp only [dv, e1, if_true]
        rw [dv_congr (g := D' t) (fun i h5 h6 => by rw [e1, if_neg (by omega)])]
        exact hv
    | succ M ih =>
      intro j ov D' hj hov hk hd hv
      have cx := a2 j (by omega) (by omega)
      have hst := mul_step cx ⟨by omega, hb.2⟩ (z := 0) (by omega) hov
      rw [Int.add_zero] at hst
      have hm0 : 0 ≤ D (a + 1) j * by_ := Int.mul_nonneg cx.1 (by omega)
      refine wp_in ?_
      simp only [P_X2_scale, i_kil, i_icon, i_lcon, i_null, i_loadI, i_loadL, i_loadR, i_istore, i_lstore, i_astore, i_iinc, i_dup, i_dup2, i_pop, i_iadd, i_isub, i_imul, i_idiv, i_irem, i_ineg, i_iand, i_ior, i_ishl, i_ishr, i_lxor, i_ladd, i_lsub, i_lmul, i_ldiv, i_lrem, i_lneg, i_lshl, i_lcmp, i_i2l, i_l2i, i_i2b, i_i2s, i_ifeq, i_ifne, i_iflt, i_ifge, i_ifgt, i_ifle, i_cmpeq, i_cmpne, i_cmplt, i_cmpge, i_cmpgt, i_cmple, i_acmpeq, i_acmpne, i_ifnull, i_ifnonnull, i_getI, i_getR, i_putI, i_putZ, i_putR, i_ald, i_ldL, i_ldR, i_ast, i_stL, i_stR, i_alen, i_new, i_newa, i_iret, i_zret, i_lret, i_aret, i_vret, i_raise, i_throw, i_recv, i_objinit, i_tsw3, lget, lset, lput1, lput2, lkil, ltrim, largs, isL, takev, dropv, nthv, pushO, catv, gd, true_and, and_true, Option.some.injEq, Prod.mk.injEq, exists_eq_left', if_true, if_false, reduceCtorEq, Bool.false_eq_true, lcmp_ge, lcmp_lt, lcmp_le, lcmp_gt, lcmp_eq, true_or, or_true, not_true_eq_false, not_false_eq_true, false_implies, true_implies, List.length_cons, List.length_nil, ht, u1, u2, u3, hk a 1 nat, hk (a + 1) j (Ne.symm nta), a1]
      rw [tdiv_nn hst.1]
      generalize hxy : D (a + 1) j * by_ = xy at *
      generalize hq : (xy + ov) / 1000000000 = o2 at *
      refine ⟨fun h => by omega, fun _ => ⟨by omega, by omega, by unfold inL; omega, by unfold inL; omega, by decide, by unfold inL; omega, by unfold inL; omega, by unfold inL; omega, by unfold inI; omega, by omega, by omega, by simp [okT], in_small (by omega) (by omega), ?_⟩⟩
      have e1 : ∀ i, pmu D' t j (xy + ov - o2 * 1000000000) t i = if i = j then xy + ov - o2 * 1000000000 else D' t i := fun i => by simp [pmu]
      refine ih (j + 1) o2 _ (by omega) ⟨hst.2.2.1, hst.2.2.2⟩ (fun c i h1 => by simp [pmu, h1, hk c i h1]) (fun i h1 h2 => ?_) ?_
      · rw [e1]; split
        · omega
        · exact hd i h1 (by omega)
      · simp only [dv, e1, if_true, pw_succ]
        rw [dv_congr (g := D' t) (fun i h5 h6 => by rw [e1, if_neg (by omega)])]
        have e3 : by_ * (dv (D (a + 1)) j + D (a + 1) j * 1000000000 ^ j) = by_ * dv (D (a + 1)) j + xy * 1000000000 ^ j := by rw [← hxy]; grind
        rw [e3]; grind
  refine wp_in ?_
  simp only [P_X2_scale, i_kil, i_icon, i_lcon, i_null, i_loadI, i_loadL, i_loadR, i_istore, i_lstore, i_astore, i_iinc, i_dup, i_dup2, i_pop, i_iadd, i_isub, i_imul, i_idiv, i_irem, i_ineg, i_iand, i_ior, i_ishl, i_ishr, i_lxor, i_ladd, i_lsub, i_lmul, i_ldiv, i_lrem, i_lneg, i_lshl, i_lcmp, i_i2l, i_l2i, i_i2b, i_i2s, i_ifeq, i_ifne, i_iflt, i_ifge, i_ifgt, i_ifle, i_cmpeq, i_cmpne, i_cmplt, i_cmpge, i_cmpgt, i_cmple, i_acmpeq, i_acmpne, i_ifnull, i_ifnonnull, i_getI, i_getR, i_putI, i_putZ, i_putR, i_ald, i_ldL, i_ldR, i_ast, i_stL, i_stR, i_alen, i_new, i_newa, i_iret, i_zret, i_lret, i_aret, i_vret, i_raise, i_throw, i_recv, i_objinit, i_tsw3, lget, lset, lput1, lput2, lkil, ltrim, largs, isL, takev, dropv, nthv, pushO, catv, gd, true_and, and_true, Option.some.injEq, Prod.mk.injEq, exists_eq_left', if_true, if_false, reduceCtorEq, Bool.false_eq_true, lcmp_ge, lcmp_lt, lcmp_le, lcmp_gt, lcmp_eq, true_or, or_true, not_true_eq_false, not_false_eq_true, false_implies, true_implies, List.length_cons, List.length_nil]
  exact loop n 0 0 D (by omega) (by omega) (fun _ _ _ => rfl) (fun i h1 h2 => by omega) (by simp [dv])
set_option maxHeartbeats 2000000 in
theorem sp_X2_digit {E : Ex} {B : Nat × Nat} {S : Stat} {D : Dat} {o j n : Nat} {q : Int} (ho : rS S o) (hn : 1 ≤ n) (hjn : j + n < 320) (hu : dok (sh (D (o + 1)) j) (n + 1)) (hv : dok (D (o + 2)) n) (hv1 : 500000000 ≤ D (o + 2) ((n : Int) - 1)) (hq0 : 0 ≤ q) (hqB : q < 1000000000) (hq1 : q * dv (D (o + 2)) n ≤ dv (sh (D (o + 1)) j) (n + 1)) (hq2 : dv (sh (D (o + 1)) j) (n + 1) < (q + 1) * dv (D (o + 2)) n)
    (k : ∀ D' : Dat, (∀ c i, ¬ (c = o + 1 ∧ (j : Int) ≤ i ∧ i ≤ j + n) → D' c i = D c i) → dok (sh (D' (o + 1)) j) (n + 1) → D' (o + 1) ((j : Int) + n) = 0 → dv (sh (D' (o + 1)) j) n = dv (sh (D (o + 1)) j) (n + 1) - q * dv (D (o + 2)) n → E (.inl (some (.inl q))) B S D') :
    Wp P_X2_digit E 0 [some (aR o), some (aI j), some (aI n)] [] B S D := by
  obtain ⟨o1, o2, o3, o4, o5, -⟩ := ho
  obtain ⟨c, rfl⟩ : ∃ c, n = c + 1 := ⟨n - 1, by omega⟩
  have en : (((c + 1 : Nat) : Int)) - 1 = c := by omega
  rw [en] at hv1
  obtain ⟨hV, hVd⟩ : ∃ V, V = dv (D (o + 2)) (c + 1) := ⟨_, rfl⟩
  rw [← hVd] at hq1 hq2
  simp only [← hVd] at k
  have cv1 := hv c (by omega) (by omega)
  have hpc := pw_pos c
  have hV1 : hV = dv (D (o + 2)) c + D (o + 2) c * 1000000000 ^ c := hVd
  have hVlo := dv_nn (hv.mono (Nat.le_succ c))
  have hU1 : dv (sh (D (o + 1)) j) (c + 1 + 1) = dv (sh (D (o + 1)) j) c + (sh (D (o + 1)) j (c + 1) * 1000000000 + sh (D (o + 1)) j c) * 1000000000 ^ c := by
    simp only [dv, pw_succ]
    rw [show ((c + 1 : Nat) : Int) = (c : Int) + 1 by omega]
    grind
  have hUlo := dv_nn (hu.mono (show c ≤ c + 1 + 1 by omega))
  have cu1 := hu ((c : Int) + 1) (by omega) (by omega)
  have cu0 := hu (c : Int) (by omega) (by omega)
  have eu1 : D (o + 1) ((j : Int) + ((c + 1 : Nat) : Int)) = sh (D (o + 1)) j ((c : Int) + 1) := by simp only [sh]; congr 1
  have eu0 : D (o + 1) ((j : Int) + ((c + 1 : Nat) : Int) - 1) = sh (D (o + 1)) j c := by simp only [sh]; congr 1; omega
  generalize hUU : dv (sh (D (o + 1)) j) (c + 1 + 1) = U at *
  generalize htop : sh (D (o + 1)) j (c + 1) * 1000000000 + sh (D (o + 1)) j c = top at *
  generalize hvv : D (o + 2) c = v1 at *
  have hUtop : U < (top + 1) * 1000000000 ^ c := by rw [hU1, Int.add_mul]; omega
  have hVv : v1 * 1000000000 ^ c ≤ hV := by omega
  have hqt := kn_lo hpc hUtop hVv hq0 hq1
  have htopB : top < 1000000000 * v1 + 1000000000 := by
    have h1 : (q + 1) * hV ≤ 1000000000 * hV := Int.mul_le_mul_of_nonneg_right (by omega) (by have := Int.mul_nonneg cv1.1 (Int.le_of_lt hpc); omega)
    have h2 : hV < (v1 + 1) * 1000000000 ^ c := by rw [Int.add_mul]; omega
    have h3 : top * 1000000000 ^ c < (1000000000 * (v1 + 1)) * 1000000000 ^ c := by rw [Int.mul_assoc]; omega
    have := Int.lt_of_mul_lt_mul_right h3 (Int.le_of_lt hpc)
    omega
  -- behind the guess
  have back : ∀ g : Int, q ≤ g → g ≤ q + 1 → g < 1000000000 → Wp P_X2_digit E 3 [some (aR o), some (aI j), some (aI ((c + 1 : Nat) : Int)), none, none, some (aL g)] [] B S D := by
    intro g hgq hgq1 hgB
    have hVn := dv_nn hv
    rw [← hVd] at hVn
    have hUn : U = dv (sh (D (o + 1)) j) (c + 1) + sh (D (o + 1)) j ((c : Int) + 1) * 1000000000 ^ (c + 1) := by
      rw [← hUU]; simp only [dv]; rw [show ((c + 1 : Nat) : Int) = (c : Int) + 1 by omega]
    have hqV : q * hV ≤ U ∧ U < q * hV + hV := ⟨hq1, by rw [Int.add_mul] at hq2; omega⟩
    -- back again
    have again : ∀ (D1 : Dat), (∀ d i, ¬ (d = o + 1 ∧ (j : Int) ≤ i ∧ i ≤ j + (c + 1 : Nat)) → D1 d i = D d i) → dok (sh (D1 (o + 1)) j) (c + 1 + 1) → D1 (o + 1) ((j : Int) + (c + 1 : Nat)) = 0 → g = q + 1 → dv (sh (D1 (o + 1)) j) (c + 1) + hV = U - q * hV + 1000000000 ^ (c + 1) → ∀ (M l : Nat) (bk : Int) (D' : Dat), l + M = c + 1 → (bk = 0 ∨ bk = 1) → (∀ d i, ¬ (d = o + 1 ∧ (j : Int) ≤ i ∧ i < j + l) → D' d i = D1 d i) → dok (sh (D' (o + 1)) j) l → dv (sh (D' (o + 1)) j) l + bk * 1000000000 ^ l = dv (sh (D1 (o + 1)) j) l + dv (D (o + 2)) l →
        Wp P_X2_digit E 7 [some (aR o), some (aI j), some (aI ((c + 1 : Nat) : Int)), none, none, some (aL g), none, none, none, none, none, none, none, some (aI bk), some (aI l)] [] B S D' := by
      intro D1 hk1 hd1 hz1 hg1 hv1' M
      induction M with
      | zero =>
        intro l bk D' hl hbk hk hd hv'
        have hlc : l = c + 1 := by omega
        subst hlc
        rw [← hVd] at hv'
        have hdn := dv_nn hd
        have hb1 : bk = 1 := by
          rcases hbk with h | h
          · subst h; omega
          · exact h
        subst hb1
        refine wp_in ?_
        simp only [P_X2_digit, i_kil, i_icon, i_lcon, i_null, i_loadI, i_loadL, i_loadR, i_istore, i_lstore, i_astore, i_iinc, i_dup, i_dup2, i_pop, i_iadd, i_isub, i_imul, i_idiv, i_irem, i_ineg, i_iand, i_ior, i_ishl, i_ishr, i_lxor, i_ladd, i_lsub, i_lmul, i_ldiv, i_lrem, i_lneg, i_lshl, i_lcmp, i_i2l, i_l2i, i_i2b, i_i2s, i_ifeq, i_ifne, i_iflt, i_ifge, i_ifgt, i_ifle, i_cmpeq, i_cmpne, i_cmplt, i_cmpge, i_cmpgt, i_cmple, i_acmpeq, i_acmpne, i_ifnull, i_ifnonnull, i_getI, i_getR, i_putI, i_putZ, i_putR, i_ald, i_ldL, i_ldR, i_ast, i_stL, i_stR, i_alen, i_new, i_newa, i_iret, i_zret, i_lret, i_aret, i_vret, i_raise, i_throw, i_recv, i_objinit, i_tsw3, lget, lset, lput1, lput2, lkil, ltrim, largs, isL, takev, dropv, nthv, pushO, catv, gd, true_and, and_true, Option.some.injEq, Prod.mk.injEq, exists_eq_left', if_true, if_false, reduceCtorEq, Bool.false_eq_true, lcmp_ge, lcmp_lt, lcmp_le, lcmp_gt, lcmp_eq, true_or, or_true, not_true_eq_false, not_false_eq_true, false_implies, true_implies, List.length_cons, List.length_nil, o1, o2, o3, o4, o5]
        refine ⟨fun _ => ⟨by unfold inI; omega, in_small (by omega) (by omega), ?_⟩, fun h => by omega⟩
        rw [show g - 1 = q by omega]
        refine k D' (fun d i h => ?_) (fun i h0 h1 => ?_) ?_ (by omega)
        · rw [hk d i (fun h2 => h ⟨h2.1, h2.2.1, by omega⟩)]; exact hk1 d i h
        · by_cases hi : i = (c + 1 : Nat)
          · subst hi
            simp only [sh]
            rw [hk _ _ (fun h => by omega), hz1]; omega
          · exact hd i h0 (by omega)
        · rw [hk _ _ (fun h => by omega), hz1]
      | succ M ih =>
        intro l bk D' hl hbk hk hd hv'
        have cu := hd1 l (by omega) (by omega)
        simp only [sh] at cu
        have cv := hv l (by omega) (by omega)
        have hr1 : D' (o + 1) ((j : Int) + l) = D1 (o + 1) ((j : Int) + l) := hk _ _ (fun h => by omega)
        have hr2 : D' (o + 2) l = D (o + 2) l := by rw [hk _ _ (fun h => by omega), hk1 _ _ (fun h => by omega)]
        obtain ⟨x, hx⟩ : ∃ x, x = D1 (o + 1) ((j : Int) + l) + D (o + 2) l + bk := ⟨_, rfl⟩
        have nx : ∀ b2 : Int, (b2 = 0 ∨ b2 = 1) → (b2 = 1 ↔ 1000000000 ≤ x) → Wp P_X2_digit E 7 [some (aR o), some (aI j), some (aI ((c + 1 : Nat) : Int)), none, none, some (aL g), none, none, none, none, none, none, none, some (aI b2), some (aI ((l : Int) + 1))] [] B S (pmu D' (o + 1) ((j : Int) + l) (x - 1000000000 * b2)) := by
          intro b2 hb2 hb3
          have e1 : ∀ i, sh (pmu D' (o + 1) ((j : Int) + l) (x - 1000000000 * b2) (o + 1)) j i = if i = l then x - 1000000000 * b2 else sh (D' (o + 1)) j i := fun i => by
            simp only [sh, pmu, true_and]
            by_cases h : i = l
            · rw [if_pos (by omega), if_pos h]
            · rw [if_neg (by omega), if_neg h]
          refine ih (l + 1) b2 _ (by omega) hb2 (fun d i h => ?_) (fun i h0 h1 => ?_) ?_
          · simp only [pmu]
            rw [if_neg (fun h2 => h ⟨h2.1, by omega, by omega⟩)]
            exact hk d i (fun h2 => h ⟨h2.1, h2.2.1, by omega⟩)
          · rw [e1]; split
            · rcases hb2 with h | h <;> subst h <;> omega
            · exact hd i h0 (by omega)
          · simp only [dv, e1, if_true, pw_succ]
            rw [dv_congr (g := sh (D' (o + 1)) j) (fun i h5 h6 => by rw [e1, if_neg (by omega)])]
            have e2 : sh (D1 (o + 1)) j l = D1 (o + 1) ((j : Int) + l) := rfl
            rw [e2, hx]
            grind
        have L8 : ∀ b2 : Int, (b2 = 0 ∨ b2 = 1) → (b2 = 1 ↔ 1000000000 ≤ x) → Wp P_X2_digit E 8 [some (aR o), some (aI j), some (aI ((c + 1 : Nat) : Int)), none, none, some (aL g), none, none, none, none, none, none, none, none, some (aI l), some (aI x)] [aI b2] B S D' := by
          intro b2 hb2 hb3
          refine wp_in ?_
          simp only [P_X2_digit, i_kil, i_icon, i_lcon, i_null, i_loadI, i_loadL, i_loadR, i_istore, i_lstore, i_astore, i_iinc, i_dup, i_dup2, i_pop, i_iadd, i_isub, i_imul, i_idiv, i_irem, i_ineg, i_iand, i_ior, i_ishl, i_ishr, i_lxor, i_ladd, i_lsub, i_lmul, i_ldiv, i_lrem, i_lneg, i_lshl, i_lcmp, i_i2l, i_l2i, i_i2b, i_i2s, i_ifeq, i_ifne, i_iflt, i_ifge, i_ifgt, i_ifle, i_cmpeq, i_cmpne, i_cmplt, i_cmpge, i_cmpgt, i_cmple, i_acmpeq, i_acmpne, i_ifnull, i_ifnonnull, i_getI, i_getR, i_putI, i_putZ, i_putR, i_ald, i_ldL, i_ldR, i_ast, i_stL, i_stR, i_alen, i_new, i_newa, i_iret, i_zret, i_lret, i_aret, i_vret, i_raise, i_throw, i_recv, i_objinit, i_tsw3, lget, lset, lput1, lput2, lkil, ltrim, largs, isL, takev, dropv, nthv, pushO, catv, gd, true_and, and_true, Option.some.injEq, Prod.mk.injEq, exists_eq_left', if_true, if_false, reduceCtorEq, Bool.false_eq_true, lcmp_ge, lcmp_lt, lcmp_le, lcmp_gt, lcmp_eq, true_or, or_true, not_true_eq_false, not_false_eq_true, false_implies, true_implies, List.length_cons, List.length_nil, o1, o2, o3, o4, o5]
          exact ⟨in_small (by omega) (by omega), in_small (by omega) (by omega), in_small (by omega) (by omega), by omega, by omega, by simp [okT], in_small (by omega) (by omega), nx b2 hb2 hb3⟩
        refine wp_in ?_
        simp only [P_X2_digit, i_kil, i_icon, i_lcon, i_null, i_loadI, i_loadL, i_loadR, i_istore, i_lstore, i_astore, i_iinc, i_dup, i_dup2, i_pop, i_iadd, i_isub, i_imul, i_idiv, i_irem, i_ineg, i_iand, i_ior, i_ishl, i_ishr, i_lxor, i_ladd, i_lsub, i_lmul, i_ldiv, i_lrem, i_lneg, i_lshl, i_lcmp, i_i2l, i_l2i, i_i2b, i_i2s, i_ifeq, i_ifne, i_iflt, i_ifge, i_ifgt, i_ifle, i_cmpeq, i_cmpne, i_cmplt, i_cmpge, i_cmpgt, i_cmple, i_acmpeq, i_acmpne, i_ifnull, i_ifnonnull, i_getI, i_getR, i_putI, i_putZ, i_putR, i_ald, i_ldL, i_ldR, i_ast, i_stL, i_stR, i_alen, i_new, i_newa, i_iret, i_zret, i_lret, i_aret, i_vret, i_raise, i_throw, i_recv, i_objinit, i_tsw3, lget, lset, lput1, lput2, lkil, ltrim, largs, isL, takev, dropv, nthv, pushO, catv, gd, true_and, and_true, Option.some.injEq, Prod.mk.injEq, exists_eq_left', if_true, if_false, reduceCtorEq, Bool.false_eq_true, lcmp_ge, lcmp_lt, lcmp_le, lcmp_gt, lcmp_eq, true_or, or_true, not_true_eq_false, not_false_eq_true, false_implies, true_implies, List.length_cons, List.length_nil, o1, o2, o3, o4, o5, hr1, hr2]
        rw [← hx]
        refine ⟨fun h => by omega, fun _ => ⟨in_small (by omega) (by omega), by omega, by omega, by omega, by omega, in_small (by omega) (by omega), in_small (by omega) (by omega), fun h => L8 0 (Or.inl rfl) (by omega), fun h => L8 1 (Or.inr rfl) (by omega)⟩⟩
    -- u less so many v
    have subl : ∀ (M l : Nat) (ov : Int) (D' : Dat), l + M = c + 1 → (0 ≤ ov ∧ ov ≤ 1000000000) → (∀ d i, ¬ (d = o + 1 ∧ (j : Int) ≤ i ∧ i < j + l) → D' d i = D d i) → dok (sh (D' (o + 1)) j) l → dv (sh (D' (o + 1)) j) l + g * dv (D (o + 2)) l = dv (sh (D (o + 1)) j) l + ov * 1000000000 ^ l →
        Wp P_X2_digit E 4 [some (aR o), some (aI j), some (aI ((c + 1 : Nat) : Int)), none, none, some (aL g), none, none, none, some (aL ov), none, some (aI l)] [] B S D' := by
      intro M
      induction M with
      | zero =>
        intro l ov D' hl hov hk hd hv'
        have hlc : l = c + 1 := by omega
        subst hlc
        rw [← hVd] at hv'
        have hdn := dv_nn hd
        have hrd : D' (o + 1) ((j : Int) + ((c + 1 : Nat) : Int)) = sh (D (o + 1)) j ((c : Int) + 1) := by rw [hk _ _ (fun h => by omega), eu1]
        obtain ⟨en2, hen2⟩ : ∃ x, x = sh (D (o + 1)) j ((c : Int) + 1) - ov := ⟨_, rfl⟩
        have hdiff : U - g * hV = dv (sh (D' (o + 1)) j) (c + 1) + en2 * 1000000000 ^ (c + 1) := by rw [hUn, hen2]; grind
        obtain ⟨D1, hD1⟩ : ∃ D1, D1 = pmu D' (o + 1) ((j : Int) + ((c + 1 : Nat) : Int)) 0 := ⟨_, rfl⟩
        have e1 : ∀ i, sh (D1 (o + 1)) j i = if i = (c + 1 : Nat) then 0 else sh (D' (o + 1)) j i := fun i => by
          rw [hD1]
          simp only [sh, pmu, true_and]
          by_cases h : i = (c + 1 : Nat)
          · rw [if_pos (by omega), if_pos h]
          · rw [if_neg (by omega), if_neg h]
        have e2 : dv (sh (D1 (o + 1)) j) (c + 1) = dv (sh (D' (o + 1)) j) (c + 1) := dv_congr fun i h5 h6 => by rw [e1, if_neg (by omega)]
        have k1 : ∀ d i, ¬ (d = o + 1 ∧ (j : Int) ≤ i ∧ i ≤ j + (c + 1 : Nat)) → D1 d i = D d i := fun d i h => by
          rw [hD1]
          simp only [pmu]
          rw [if_neg (fun h2 => h ⟨h2.1, by omega, by omega⟩)]
          exact hk d i (fun h2 => h ⟨h2.1, h2.2.1, by omega⟩)
        have k2 : dok (sh (D1 (o + 1)) j) (c + 1 + 1) := fun i h0 h1 => by
          rw [e1]; split
          · omega
          · exact hd i h0 (by omega)
        have k3 : D1 (o + 1) ((j : Int) + ((c + 1 : Nat) : Int)) = 0 := by rw [hD1]; simp [pmu]
        have hpw := pw_pos (c + 1)
        refine wp_in ?_
        simp only [P_X2_digit, i_kil, i_icon, i_lcon, i_null, i_loadI, i_loadL, i_loadR, i_istore, i_lstore, i_astore, i_iinc, i_dup, i_dup2, i_pop, i_iadd, i_isub, i_imul, i_idiv, i_irem, i_ineg, i_iand, i_ior, i_ishl, i_ishr, i_lxor, i_ladd, i_lsub, i_lmul, i_ldiv, i_lrem, i_lneg, i_lshl, i_lcmp, i_i2l, i_l2i, i_i2b, i_i2s, i_ifeq, i_ifne, i_iflt, i_ifge, i_ifgt, i_ifle, i_cmpeq, i_cmpne, i_cmplt, i_cmpge, i_cmpgt, i_cmple, i_acmpeq, i_acmpne, i_ifnull, i_ifnonnull, i_getI, i_getR, i_putI, i_putZ, i_putR, i_ald, i_ldL, i_ldR, i_ast, i_stL, i_stR, i_alen, i_new, i_newa, i_iret, i_zret, i_lret, i_aret, i_vret, i_raise, i_throw, i_recv, i_objinit, i_tsw3, lget, lset, lput1, lput2, lkil, ltrim, largs, isL, takev, dropv, nthv, pushO, catv, gd, true_and, and_true, Option.some.injEq, Prod.mk.injEq, exists_eq_left', if_true, if_false, reduceCtorEq, Bool.false_eq_true, lcmp_ge, lcmp_lt, lcmp_le, lcmp_gt, lcmp_eq, true_or, or_true, not_true_eq_false, not_false_eq_true, false_implies, true_implies, List.length_cons, List.length_nil, o1, o2, o3, o4, o5, hrd]
        rw [← hD1, ← hen2]
        refine ⟨fun _ => ⟨in_small (by omega) (by omega), by omega, by omega, by unfold inL; omega, in_small (by omega) (by omega), by omega, by omega, by simp [okT], fun h => ?_, fun h => ⟨by unfold inI; omega, ?_⟩⟩, fun h => by omega⟩
        · -- too many
          have hneg : en2 * 1000000000 ^ (c + 1) ≤ -1 * 1000000000 ^ (c + 1) := Int.mul_le_mul_of_nonneg_right (by omega) (by omega)
          have hg1 : g = q + 1 := by
            rcases (show g = q ∨ g = q + 1 by omega) with h2 | h2
            · subst h2; omega
            · exact h2
          have hgV : g * hV = q * hV + hV := by rw [hg1]; grind
          have hen3 : en2 = -1 := by
            rcases Int.lt_or_le en2 (-1) with h2 | h2
            · have := Int.mul_le_mul_of_nonneg_right (show en2 ≤ -2 by omega) (Int.le_of_lt hpw)
              omega
            · omega
          refine again D1 k1 k2 k3 hg1 ?_ (c + 1) 0 0 D1 (by omega) (Or.inl rfl) (fun _ _ _ => rfl) (fun i h0 h1 => by omega) (by simp [dv])
          rw [e2]
          rw [hen3] at hdiff
          omega
        · have hpos : 0 ≤ en2 * 1000000000 ^ (c + 1) := Int.mul_nonneg h (by omega)
          have hg1 : g = q := by
            rcases (show g = q ∨ g = q + 1 by omega) with h2 | h2
            · exact h2
            · have hgV : g * hV = q * hV + hV := by rw [h2]; grind
              omega
          have hen3 : en2 = 0 := by
            rcases Int.lt_or_le 0 en2 with h2 | h2
            · have := Int.mul_le_mul_of_nonneg_right (show 1 ≤ en2 by omega) (Int.le_of_lt hpw)
              rw [hg1] at hdiff
              omega
            · omega
          rw [hg1]
          refine k D1 k1 k2 k3 ?_
          rw [e2]
          rw [hen3, hg1] at hdiff
          omega
      | succ M ih =>
        intro l ov D' hl hov hk hd hv'
        have cu := hu l (by omega) (by omega)
        simp only [sh] at cu
        have cv := hv l (by omega) (by omega)
        have hr1 : D' (o + 1) ((j : Int) + l) = D (o + 1) ((j : Int) + l) := hk _ _ (fun h => by omega)
        have hr2 : D' (o + 2) l = D (o + 2) l := hk _ _ (fun h => by omega)
        have hgv0 : 0 ≤ g * D (o + 2) l := Int.mul_nonneg (by omega) cv.1
        have hgv1 : g * D (o + 2) l ≤ 999999999 * 999999999 := Int.mul_le_mul (by omega) (by omega) cv.1 (by decide)
        obtain ⟨gv, hgv⟩ : ∃ x, x = g * D (o + 2) l := ⟨_, rfl⟩
        rw [← hgv] at hgv0 hgv1
        have L6 : ∀ x ov2 : Int, (0 ≤ x ∧ x < 1000000000) → (0 ≤ ov2 ∧ ov2 ≤ 1000000000) → x = D (o + 1) ((j : Int) + l) - ov - gv + 1000000000 * ov2 → Wp P_X2_digit E 6 [some (aR o), some (aI j), some (aI ((c + 1 : Nat) : Int)), none, none, some (aL g), none, none, none, some (aL ov2), none, some (aI l), some (aL x)] [] B S D' := by
          intro x ov2 hx hov2 hxe
          refine wp_in ?_
          simp only [P_X2_digit, i_kil, i_icon, i_lcon, i_null, i_loadI, i_loadL, i_loadR, i_istore, i_lstore, i_astore, i_iinc, i_dup, i_dup2, i_pop, i_iadd, i_isub, i_imul, i_idiv, i_irem, i_ineg, i_iand, i_ior, i_ishl, i_ishr, i_lxor, i_ladd, i_lsub, i_lmul, i_ldiv, i_lrem, i_lneg, i_lshl, i_lcmp, i_i2l, i_l2i, i_i2b, i_i2s, i_ifeq, i_ifne, i_iflt, i_ifge, i_ifgt, i_ifle, i_cmpeq, i_cmpne, i_cmplt, i_cmpge, i_cmpgt, i_cmple, i_acmpeq, i_acmpne, i_ifnull, i_ifnonnull, i_getI, i_getR, i_putI, i_putZ, i_putR, i_ald, i_ldL, i_ldR, i_ast, i_stL, i_stR, i_alen, i_new, i_newa, i_iret, i_zret, i_lret, i_aret, i_vret, i_raise, i_throw, i_recv, i_objinit, i_tsw3, lget, lset, lput1, lput2, lkil, ltrim, largs, isL, takev, dropv, nthv, pushO, catv, gd, true_and, and_true, Option.some.injEq, Prod.mk.injEq, exists_eq_left', if_true, if_false, reduceCtorEq, Bool.false_eq_true, lcmp_ge, lcmp_lt, lcmp_le, lcmp_gt, lcmp_eq, true_or, or_true, not_true_eq_false, not_false_eq_true, false_implies, true_implies, List.length_cons, List.length_nil, o1, o2, o3, o4, o5]
          refine ⟨in_small (by omega) (by omega), in_small (by omega) (by omega), by omega, by omega, by simp [okT], in_small (by omega) (by omega), ?_⟩
          have e1 : ∀ i, sh (pmu D' (o + 1) ((j : Int) + l) x (o + 1)) j i = if i = l then x else sh (D' (o + 1)) j i := fun i => by
            simp only [sh, pmu, true_and]
            by_cases h : i = l
            · rw [if_pos (by omega), if_pos h]
            · rw [if_neg (by omega), if_neg h]
          refine ih (l + 1) ov2 _ (by omega) hov2 (fun d i h => ?_) (fun i h0 h1 => ?_) ?_
          · simp only [pmu]
            rw [if_neg (fun h2 => h ⟨h2.1, by omega, by omega⟩)]
            exact hk d i (fun h2 => h ⟨h2.1, h2.2.1, by omega⟩)
          · rw [e1]; split
            · exact hx
            · exact hd i h0 (by omega)
          · simp only [dv, e1, if_true, pw_succ]
            rw [dv_congr (g := sh (D' (o + 1)) j) (fun i h5 h6 => by rw [e1, if_neg (by omega)])]
            have e2 : sh (D (o + 1)) j l = D (o + 1) ((j : Int) + l) := rfl
            rw [e2, hxe, hgv]
            grind
        have L5 : ∀ x ov2 : Int, (-1000000000 ≤ x ∧ x < 1000000000) → (0 ≤ ov2 ∧ ov2 ≤ 999999999) → x = D (o + 1) ((j : Int) + l) - ov - gv + 1000000000 * ov2 → Wp P_X2_digit E 5 [some (aR o), some (aI j), some (aI ((c + 1 : Nat) : Int)), none, none, some (aL g), none, none, none, some (aL ov2), none, some (aI l), some (aL x)] [] B S D' := by
          intro x ov2 hx hov2 hxe
          refine wp_in ?_
          simp only [P_X2_digit, i_kil, i_icon, i_lcon, i_null, i_loadI, i_loadL, i_loadR, i_istore, i_lstore, i_astore, i_iinc, i_dup, i_dup2, i_pop, i_iadd, i_isub, i_imul, i_idiv, i_irem, i_ineg, i_iand, i_ior, i_ishl, i_ishr, i_lxor, i_ladd, i_lsub, i_lmul, i_ldiv, i_lrem, i_lneg, i_lshl, i_lcmp, i_i2l, i_l2i, i_i2b, i_i2s, i_ifeq, i_ifne, i_iflt, i_ifge, i_ifgt, i_ifle, i_cmpeq, i_cmpne, i_cmplt, i_cmpge, i_cmpgt, i_cmple, i_acmpeq, i_acmpne, i_ifnull, i_ifnonnull, i_getI, i_getR, i_putI, i_putZ, i_putR, i_ald, i_ldL, i_ldR, i_ast, i_stL, i_stR, i_alen, i_new, i_newa, i_iret, i_zret, i_lret, i_aret, i_vret, i_raise, i_throw, i_recv, i_objinit, i_tsw3, lget, lset, lput1, lput2, lkil, ltrim, largs, isL, takev, dropv, nthv, pushO, catv, gd, true_and, and_true, Option.some.injEq, Prod.mk.injEq, exists_eq_left', if_true, if_false, reduceCtorEq, Bool.false_eq_true, lcmp_ge, lcmp_lt, lcmp_le, lcmp_gt, lcmp_eq, true_or, or_true, not_true_eq_false, not_false_eq_true, false_implies, true_implies, List.length_cons, List.length_nil, o1, o2, o3, o4, o5]
          refine ⟨fun h => L6 x ov2 ⟨h, hx.2⟩ ⟨hov2.1, by omega⟩ hxe, fun h => ⟨by unfold inL; omega, by unfold inL; omega, L6 _ _ (by omega) (by omega) (by omega)⟩⟩
        refine wp_in ?_
        simp only [P_X2_digit, i_kil, i_icon, i_lcon, i_null, i_loadI, i_loadL, i_loadR, i_istore, i_lstore, i_astore, i_iinc, i_dup, i_dup2, i_pop, i_iadd, i_isub, i_imul, i_idiv, i_irem, i_ineg, i_iand, i_ior, i_ishl, i_ishr, i_lxor, i_ladd, i_lsub, i_lmul, i_ldiv, i_lrem, i_lneg, i_lshl, i_lcmp, i_i2l, i_l2i, i_i2b, i_i2s, i_ifeq, i_ifne, i_iflt, i_ifge, i_ifgt, i_ifle, i_cmpeq, i_cmpne, i_cmplt, i_cmpge, i_cmpgt, i_cmple, i_acmpeq, i_acmpne, i_ifnull, i_ifnonnull, i_getI, i_getR, i_putI, i_putZ, i_putR, i_ald, i_ldL, i_ldR, i_ast, i_stL, i_stR, i_alen, i_new, i_newa, i_iret, i_zret, i_lret, i_aret, i_vret, i_raise, i_throw, i_recv, i_objinit, i_tsw3, lget, lset, lput1, lput2, lkil, ltrim, largs, isL, takev, dropv, nthv, pushO, catv, gd, true_and, and_true, Option.some.injEq, Prod.mk.injEq, exists_eq_left', if_true, if_false, reduceCtorEq, Bool.false_eq_true, lcmp_ge, lcmp_lt, lcmp_le, lcmp_gt, lcmp_eq, true_or, or_true, not_true_eq_false, not_false_eq_true, false_implies, true_implies, List.length_cons, List.length_nil, o1, o2, o3, o4, o5, hr1, hr2]
        rw [← hgv, tdiv_nn hgv0, tmod_nn hgv0]
        refine ⟨fun h => by omega, fun _ => ⟨in_small (by omega) (by omega), by omega, by omega, by unfold inL; omega, by omega, by omega, by unfold inL; omega, by decide, by unfold inL; omega, by unfold inL; omega, by omega, by omega, by unfold inL; omega, by decide, by unfold inL; omega, fun h => L5 _ _ (by omega) (by omega) (by omega), fun h => ⟨by unfold inL; omega, by unfold inL; omega, L5 _ _ (by omega) (by omega) (by omega)⟩⟩⟩
    refine wp_in ?_
    simp only [P_X2_digit, i_kil, i_icon, i_lcon, i_null, i_loadI, i_loadL, i_loadR, i_istore, i_lstore, i_astore, i_iinc, i_dup, i_dup2, i_pop, i_iadd, i_isub, i_imul, i_idiv, i_irem, i_ineg, i_iand, i_ior, i_ishl, i_ishr, i_lxor, i_ladd, i_lsub, i_lmul, i_ldiv, i_lrem, i_lneg, i_lshl, i_lcmp, i_i2l, i_l2i, i_i2b, i_i2s, i_ifeq, i_ifne, i_iflt, i_ifge, i_ifgt, i_ifle, i_cmpeq, i_cmpne, i_cmplt, i_cmpge, i_cmpgt, i_cmple, i_acmpeq, i_acmpne, i_ifnull, i_ifnonnull, i_getI, i_getR, i_putI, i_putZ, i_putR, i_ald, i_ldL, i_ldR, i_ast, i_stL, i_stR, i_alen, i_new, i_newa, i_iret, i_zret, i_lret, i_aret, i_vret, i_raise, i_throw, i_recv, i_objinit, i_tsw3, lget, lset, lput1, lput2, lkil, ltrim, largs, isL, takev, dropv, nthv, pushO, catv, gd, true_and, and_true, Option.some.injEq, Prod.mk.injEq, exists_eq_left', if_true, if_false, reduceCtorEq, Bool.false_eq_true, lcmp_ge, lcmp_lt, lcmp_le, lcmp_gt, lcmp_eq, true_or, or_true, not_true_eq_false, not_false_eq_true, false_implies, true_implies, List.length_cons, List.length_nil]
    exact subl (c + 1) 0 0 D (by omega) (by omega) (fun _ _ _ => rfl) (fun i h0 h1 => by omega) (by simp [dv])
  have loop : ∀ (N : Nat) (g : Int), g = q + N → g ≤ 1000000001 → 0 ≤ top - g * v1 → (c = 0 → g = q) →
      Wp P_X2_digit E 1 [some (aR o), some (aI j), some (aI ((c + 1 : Nat) : Int)), none, none, some (aL g), none, some (aL (top - g * v1))] [] B S D := by
    intro N
    -- the second digits
    have two : ∀ d : Nat, c = d + 1 → ∃ v2 u2 : Int, D (o + 2) ((c : Int) - 1) = v2 ∧ D (o + 1) ((j : Int) + c - 1) = u2 ∧ (0 ≤ v2 ∧ v2 < 1000000000) ∧ (0 ≤ u2 ∧ u2 < 1000000000) ∧ (∀ g, 0 ≤ g → g ≤ 1000000000 → g * v2 ≤ (top - g * v1) * 1000000000 + u2 → (g - 1) * hV ≤ U) ∧ q * v2 ≤ (top - q * v1) * 1000000000 + u2 := by
      intro d hd
      subst hd
      have ev : D (o + 2) (((d + 1 : Nat) : Int) - 1) = D (o + 2) d := by congr 1; omega
      have eu : D (o + 1) ((j : Int) + ((d + 1 : Nat) : Int) - 1) = sh (D (o + 1)) j d := by simp only [sh]; congr 1; omega
      refine ⟨_, _, ev, eu, hv d (by omega) (by omega), hu d (by omega) (by omega), ?_, ?_⟩
      · intro g g0 gB hg
        have hpd := pw_pos d
        have hr := dv_nn (hv.mono (show d ≤ d + 1 + 1 by omega))
        have hrU := dv_nn (hu.mono (show d ≤ d + 1 + 1 + 1 by omega))
        refine kn_hi (p := 1000000000 ^ d) (r := dv (D (o + 2)) d) (w := v1 * 1000000000 + D (o + 2) d) (z := top * 1000000000 + sh (D (o + 1)) j d) hpd hr.1 hr.2 ?_ ?_ g0 gB ?_ (by have := hv d (by omega) (by omega); omega)
        · rw [hV1]; simp only [dv, pw_succ]; grind
        · rw [hU1]; simp only [dv, pw_succ]; grind
        · grind
      · have hpd := pw_pos d
        have hr := dv_nn (hv.mono (show d ≤ d + 1 + 1 by omega))
        have hrU := dv_nn (hu.mono (show d ≤ d + 1 + 1 + 1 by omega))
        have h := kn_lo (U := U) (V := hV) (v1 := v1 * 1000000000 + D (o + 2) d) (top := top * 1000000000 + sh (D (o + 1)) j d) (q := q) hpd ?_ ?_ hq0 hq1
        · grind
        · rw [hU1]; simp only [dv, pw_succ]; grind
        · rw [hV1]; simp only [dv, pw_succ]; grind
    induction N with
    | zero =>
      intro g hg hg1 hl hc0
      have hgq : g = q := by omega
      subst hgq
      have bk := back g (Int.le_refl _) (by omega) hqB
      have hgv : 0 ≤ g * v1 := Int.mul_nonneg hq0 cv1.1
      have hgv2 : g * v1 ≤ 999999999 * 999999999 := Int.mul_le_mul (by omega) (by omega) cv1.1 (by decide)
      refine wp_in ?_
      simp only [P_X2_digit, i_kil, i_icon, i_lcon, i_null, i_loadI, i_loadL, i_loadR, i_istore, i_lstore, i_astore, i_iinc, i_dup, i_dup2, i_pop, i_iadd, i_isub, i_imul, i_idiv, i_irem, i_ineg, i_iand, i_ior, i_ishl, i_ishr, i_lxor, i_ladd, i_lsub, i_lmul, i_ldiv, i_lrem, i_lneg, i_lshl, i_lcmp, i_i2l, i_l2i, i_i2b, i_i2s, i_ifeq, i_ifne, i_iflt, i_ifge, i_ifgt, i_ifle, i_cmpeq, i_cmpne, i_cmplt, i_cmpge, i_cmpgt, i_cmple, i_acmpeq, i_acmpne, i_ifnull, i_ifnonnull, i_getI, i_getR, i_putI, i_putZ, i_putR, i_ald, i_ldL, i_ldR, i_ast, i_stL, i_stR, i_alen, i_new, i_newa, i_iret, i_zret, i_lret, i_aret, i_vret, i_raise, i_throw, i_recv, i_objinit, i_tsw3, lget, lset, lput1, lput2, lkil, ltrim, largs, isL, takev, dropv, nthv, pushO, catv, gd, true_and, and_true, Option.some.injEq, Prod.mk.injEq, exists_eq_left', if_true, if_false, reduceCtorEq, Bool.false_eq_true, lcmp_ge, lcmp_lt, lcmp_le, lcmp_gt, lcmp_eq, true_or, or_true, not_true_eq_false, not_false_eq_true, false_implies, true_implies, List.length_cons, List.length_nil, o1, o2, o3, o4, o5]
      refine ⟨fun _ => bk, fun h => ⟨fun h => by omega, fun _ => ⟨fun _ => bk, fun hc => ?_⟩⟩⟩
      obtain ⟨d, hd⟩ : ∃ d, c = d + 1 := ⟨c - 1, by omega⟩
      obtain ⟨v2, u2, f1, f2, f3, f4, -, f6⟩ := two d hd
      have x1 : D (o + 2) (((c + 1 : Nat) : Int) - 2) = v2 := by rw [← f1]; congr 1; omega
      have x2 : D (o + 1) ((j : Int) + ((c + 1 : Nat) : Int) - 2) = u2 := by rw [← f2]; congr 1; omega
      rw [x1, x2]
      have hgv3 : 0 ≤ g * v2 := Int.mul_nonneg hq0 f3.1
      have hgv4 : g * v2 ≤ 999999999 * 999999999 := Int.mul_le_mul (by omega) (by omega) f3.1 (by decide)
      refine ⟨in_small (by omega) (by omega), by omega, by omega, by unfold inL; omega, by unfold inL; omega, in_small (by omega) (by omega), in_small (by omega) (by omega), by omega, by omega, by unfold inL; omega, fun _ => bk, fun h => by omega⟩
    | succ N ih =>
      intro g hg hg1 hl hc0
      have hgv : 0 ≤ g * v1 := Int.mul_nonneg (by omega) cv1.1
      have e1 : (g - 1) * v1 = g * v1 - v1 := by grind
      have nx : (c = 0 → False) → Wp P_X2_digit E 2 [some (aR o), some (aI j), some (aI ((c + 1 : Nat) : Int)), none, none, some (aL g), none, some (aL (top - g * v1))] [] B S D := by
        intro hc
        refine wp_in ?_
        simp only [P_X2_digit, i_kil, i_icon, i_lcon, i_null, i_loadI, i_loadL, i_loadR, i_istore, i_lstore, i_astore, i_iinc, i_dup, i_dup2, i_pop, i_iadd, i_isub, i_imul, i_idiv, i_irem, i_ineg, i_iand, i_ior, i_ishl, i_ishr, i_lxor, i_ladd, i_lsub, i_lmul, i_ldiv, i_lrem, i_lneg, i_lshl, i_lcmp, i_i2l, i_l2i, i_i2b, i_i2s, i_ifeq, i_ifne, i_iflt, i_ifge, i_ifgt, i_ifle, i_cmpeq, i_cmpne, i_cmplt, i_cmpge, i_cmpgt, i_cmple, i_acmpeq, i_acmpne, i_ifnull, i_ifnonnull, i_getI, i_getR, i_putI, i_putZ, i_putR, i_ald, i_ldL, i_ldR, i_ast, i_stL, i_stR, i_alen, i_new, i_newa, i_iret, i_zret, i_lret, i_aret, i_vret, i_raise, i_throw, i_recv, i_objinit, i_tsw3, lget, lset, lput1, lput2, lkil, ltrim, largs, isL, takev, dropv, nthv, pushO, catv, gd, true_and, and_true, Option.some.injEq, Prod.mk.injEq, exists_eq_left', if_true, if_false, reduceCtorEq, Bool.false_eq_true, lcmp_ge, lcmp_lt, lcmp_le, lcmp_gt, lcmp_eq, true_or, or_true, not_true_eq_false, not_false_eq_true, false_implies, true_implies, List.length_cons, List.length_nil, o1, o2, o3, o4, o5, en, hvv]
        refine ⟨by unfold inL; omega, in_small (by omega) (by omega), by omega, by omega, by unfold inL; omega, ?_⟩
        have := ih (g - 1) (by omega) (by omega) (by omega) (fun h => (hc h).elim)
        rw [e1] at this
        rw [show top - g * v1 + v1 = top - (g * v1 - v1) by omega]
        exact this
      have hc : c ≠ 0 := fun h => by have := hc0 h; omega
      obtain ⟨d, hd⟩ : ∃ d, c = d + 1 := ⟨c - 1, by omega⟩
      obtain ⟨v2, u2, f1, f2, f3, f4, f5, f6⟩ := two d hd
      have x1 : D (o + 2) (((c + 1 : Nat) : Int) - 2) = v2 := by rw [← f1]; congr 1; omega
      have x2 : D (o + 1) ((j : Int) + ((c + 1 : Nat) : Int) - 2) = u2 := by rw [← f2]; congr 1; omega
      have hgv3 : 0 ≤ g * v2 := Int.mul_nonneg (by omega) f3.1
      have hgv4 : g * v2 ≤ 1000000001 * 999999999 := Int.mul_le_mul (by omega) (by omega) f3.1 (by decide)
      have fin : g < 1000000000 → g * v2 ≤ (top - g * v1) * 1000000000 + u2 → Wp P_X2_digit E 3 [some (aR o), some (aI j), some (aI ((c + 1 : Nat) : Int)), none, none, some (aL g)] [] B S D := by
        intro h1 h2
        refine back g (by omega) ?_ h1
        have h3 := f5 g (by omega) (by omega) h2
        have h4 : (g - 1) * hV < (q + 1) * hV := by omega
        have := Int.lt_of_mul_lt_mul_right h4 (by have := Int.mul_nonneg cv1.1 (Int.le_of_lt hpc); omega)
        omega
      have big : 1000000000 ≤ top - g * v1 → g < 1000000000 := fun h => by
        rcases Int.lt_or_le g 1000000000 with h1 | h1
        · exact h1
        · have := Int.mul_le_mul_of_nonneg_right h1 cv1.1
          omega
      refine wp_in ?_
      simp only [P_X2_digit, i_kil, i_icon, i_lcon, i_null, i_loadI, i_loadL, i_loadR, i_istore, i_lstore, i_astore, i_iinc, i_dup, i_dup2, i_pop, i_iadd, i_isub, i_imul, i_idiv, i_irem, i_ineg, i_iand, i_ior, i_ishl, i_ishr, i_lxor, i_ladd, i_lsub, i_lmul, i_ldiv, i_lrem, i_lneg, i_lshl, i_lcmp, i_i2l, i_l2i, i_i2b, i_i2s, i_ifeq, i_ifne, i_iflt, i_ifge, i_ifgt, i_ifle, i_cmpeq, i_cmpne, i_cmplt, i_cmpge, i_cmpgt, i_cmple, i_acmpeq, i_acmpne, i_ifnull, i_ifnonnull, i_getI, i_getR, i_putI, i_putZ, i_putR, i_ald, i_ldL, i_ldR, i_ast, i_stL, i_stR, i_alen, i_new, i_newa, i_iret, i_zret, i_lret, i_aret, i_vret, i_raise, i_throw, i_recv, i_objinit, i_tsw3, lget, lset, lput1, lput2, lkil, ltrim, largs, isL, takev, dropv, nthv, pushO, catv, gd, true_and, and_true, Option.some.injEq, Prod.mk.injEq, exists_eq_left', if_true, if_false, reduceCtorEq, Bool.false_eq_true, lcmp_ge, lcmp_lt, lcmp_le, lcmp_gt, lcmp_eq, true_or, or_true, not_true_eq_false, not_false_eq_true, false_implies, true_implies, List.length_cons, List.length_nil, o1, o2, o3, o4, o5]
      refine ⟨fun h => fin (big h) ?_, fun h => ⟨fun _ => nx hc, fun hgB => ⟨fun h => by omega, fun _ => ?_⟩⟩⟩
      · have := big h; omega
      rw [x1, x2]
      refine ⟨in_small (by omega) (by omega), by omega, by omega, by unfold inL; omega, by unfold inL; omega, in_small (by omega) (by omega), in_small (by omega) (by omega), by omega, by omega, by unfold inL; omega, fun h => fin hgB h, fun h => nx hc⟩
  refine wp_in ?_
  simp only [P_X2_digit, i_kil, i_icon, i_lcon, i_null, i_loadI, i_loadL, i_loadR, i_istore, i_lstore, i_astore, i_iinc, i_dup, i_dup2, i_pop, i_iadd, i_isub, i_imul, i_idiv, i_irem, i_ineg, i_iand, i_ior, i_ishl, i_ishr, i_lxor, i_ladd, i_lsub, i_lmul, i_ldiv, i_lrem, i_lneg, i_lshl, i_lcmp, i_i2l, i_l2i, i_i2b, i_i2s, i_ifeq, i_ifne, i_iflt, i_ifge, i_ifgt, i_ifle, i_cmpeq, i_cmpne, i_cmplt, i_cmpge, i_cmpgt, i_cmple, i_acmpeq, i_acmpne, i_ifnull, i_ifnonnull, i_getI, i_getR, i_putI, i_putZ, i_putR, i_ald, i_ldL, i_ldR, i_ast, i_stL, i_stR, i_alen, i_new, i_newa, i_iret, i_zret, i_lret, i_aret, i_vret, i_raise, i_throw, i_recv, i_objinit, i_tsw3, lget, lset, lput1, lput2, lkil, ltrim, largs, isL, takev, dropv, nthv, pushO, catv, gd, true_and, and_true, Option.some.injEq, Prod.mk.injEq, exists_eq_left', if_true, if_false, reduceCtorEq, Bool.false_eq_true, lcmp_ge, lcmp_lt, lcmp_le, lcmp_gt, lcmp_eq, true_or, or_true, not_true_eq_false, not_false_eq_true, false_implies, true_implies, List.length_cons, List.length_nil, o1, o2, o3, o4, o5, en, hvv, eu1, eu0]
  have ht0 : 0 ≤ top := by omega
  rw [htop, tdiv_nn ht0]
  have g1 : q ≤ top / v1 := (Int.le_ediv_iff_mul_le (by omega)).mpr hqt
  have g2 : top / v1 < 1000000002 := (Int.ediv_lt_iff_lt_mul (by omega)).mpr (by omega)
  have g3 : top / v1 * v1 ≤ top := Int.ediv_mul_le top (by omega)
  have g4 : 0 ≤ top / v1 * v1 := Int.mul_nonneg (by omega) (by omega)
  refine ⟨in_small (by omega) (by omega), by omega, by omega, by unfold inL; omega, in_small (by omega) (by omega), in_small (by omega) (by omega), by omega, by omega, by unfold inL; omega, in_small (by omega) (by omega), by omega, by omega, by omega, by unfold inL; omega, in_small (by omega) (by omega), by omega, by omega, by unfold inL; omega, by unfold inL; omega, ?_⟩
  refine loop (top / v1 - q).toNat (top / v1) (by omega) (by omega) (by omega) (fun hc => ?_)
  subst hc
  simp only [dv, Int.pow_zero, Int.mul_one, Int.zero_add] at hU1 hV1
  rw [hU1, hV1] at hq2
  have := (Int.ediv_lt_iff_lt_mul (a := top) (b := q + 1) (show 0 < v1 by omega)).mpr hq2
  omega
