/-! the model's sums: place, clear, terms, lead -/
set_option maxRecDepth 100000
set_option linter.unusedVariables false
/-- what a work on a sum may write -/
def smO (D D' : Dat) (s : Nat) : Prop := ∀ c i, (c < s ∨ s + 1824 < c) → D' c i = D c i
set_option maxHeartbeats 2000000 in
theorem sp_X19_place {E : Ex} {B : Nat × Nat} {S : Stat} {D : Dat} {s t n : Nat} {e : Nat → Nat} {φ : Nat → Rat} {z : Int} (hs : smS S s) (hD : smD D s φ n e) (ht : t < 455) (hz : z = tcode t)
    (K : ∀ (D' : Dat) (k n' : Nat) (e' : Nat → Nat), smO D D' s → smD D' s φ n' e' → k < n' → e' k = t → E (.inl (some (.inl (k : Int)))) B S D') : Wp P_X19_place E 0 [some (aR s), some (aI z)] [] B S D := by
  subst hz
  obtain ⟨s1, s2, s3, s4, s5, s6, s7, s8, s9⟩ := hs
  have hl := tcode_lim ht
  rcases Classical.em (∃ k, k < n ∧ e k = t) with ⟨k, hk, he⟩ | hno
  · have hat : D (s + 2) (tcode t) = k := by rw [← he]; exact (hD.2.2.1 k hk).2.2.1
    refine wp_in ?_
    simp only [P_X19_place, i_kil, i_icon, i_lcon, i_null, i_loadI, i_loadL, i_loadR, i_istore, i_lstore, i_astore, i_iinc, i_dup, i_dup2, i_pop, i_iadd, i_isub, i_imul, i_idiv, i_irem, i_ineg, i_iand, i_ior, i_ishl, i_ishr, i_lxor, i_ladd, i_lsub, i_lmul, i_ldiv, i_lrem, i_lneg, i_lshl, i_lcmp, i_i2l, i_l2i, i_i2b, i_i2s, i_ifeq, i_ifne, i_iflt, i_ifge, i_ifgt, i_ifle, i_cmpeq, i_cmpne, i_cmplt, i_cmpge, i_cmpgt, i_cmple, i_acmpeq, i_acmpne, i_ifnull, i_ifnonnull, i_getI, i_getR, i_putI, i_putZ, i_putR, i_ald, i_ldL, i_ldR, i_ast, i_stL, i_stR, i_alen, i_new, i_newa, i_iret, i_zret, i_lret, i_aret, i_vret, i_raise, i_throw, i_recv, i_objinit, i_tsw3, lget, lset, lput1, lput2, lkil, ltrim, largs, isL, takev, dropv, nthv, pushO, catv, gd, true_and, and_true, Option.some.injEq, Prod.mk.injEq, exists_eq_left', if_true, if_false, reduceCtorEq, Bool.false_eq_true, lcmp_ge, lcmp_lt, lcmp_le, lcmp_gt, lcmp_eq, true_or, or_true, not_true_eq_false, not_false_eq_true, false_implies, true_implies, List.length_cons, List.length_nil, s1, s4, s5, hat]
    repeat (first | refine ⟨in_small (by omega) (by omega), ?_⟩ | (show (_ → _) ∧ (_ → _); first | refine ⟨by omega, fun _ => ?_⟩ | refine ⟨fun _ => ?_, by omega⟩) | refine ⟨by omega, ?_⟩ | refine ⟨⟨_, rfl, by assumption⟩, ?_⟩ | refine ⟨okT_I _, ?_⟩ | refine call0 (gd_of rfl) ?_)
    refine wp_in ?_
    simp only [P_X19_place, i_kil, i_icon, i_lcon, i_null, i_loadI, i_loadL, i_loadR, i_istore, i_lstore, i_astore, i_iinc, i_dup, i_dup2, i_pop, i_iadd, i_isub, i_imul, i_idiv, i_irem, i_ineg, i_iand, i_ior, i_ishl, i_ishr, i_lxor, i_ladd, i_lsub, i_lmul, i_ldiv, i_lrem, i_lneg, i_lshl, i_lcmp, i_i2l, i_l2i, i_i2b, i_i2s, i_ifeq, i_ifne, i_iflt, i_ifge, i_ifgt, i_ifle, i_cmpeq, i_cmpne, i_cmplt, i_cmpge, i_cmpgt, i_cmple, i_acmpeq, i_acmpne, i_ifnull, i_ifnonnull, i_getI, i_getR, i_putI, i_putZ, i_putR, i_ald, i_ldL, i_ldR, i_ast, i_stL, i_stR, i_alen, i_new, i_newa, i_iret, i_zret, i_lret, i_aret, i_vret, i_raise, i_throw, i_recv, i_objinit, i_tsw3, lget, lset, lput1, lput2, lkil, ltrim, largs, isL, takev, dropv, nthv, pushO, catv, gd, true_and, and_true, Option.some.injEq, Prod.mk.injEq, exists_eq_left', if_true, if_false, reduceCtorEq, Bool.false_eq_true, lcmp_ge, lcmp_lt, lcmp_le, lcmp_gt, lcmp_eq, true_or, or_true, not_true_eq_false, not_false_eq_true, false_implies, true_implies, List.length_cons, List.length_nil, s1, s4, s5, hat]
    repeat (first | refine ⟨in_small (by omega) (by omega), ?_⟩ | (show (_ → _) ∧ (_ → _); first | refine ⟨by omega, fun _ => ?_⟩ | refine ⟨fun _ => ?_, by omega⟩) | refine ⟨by omega, ?_⟩ | refine ⟨⟨_, rfl, by assumption⟩, ?_⟩ | refine ⟨okT_I _, ?_⟩ | refine call0 (gd_of rfl) ?_)
    exact K D k n e (fun _ _ _ => rfl) hD hk he
  · have hne : ∀ k, k < n → e k ≠ t := fun k hk q => hno ⟨k, hk, q⟩
    have hD0 := hD
    obtain ⟨h1, h2, h3, h4, h5, h6⟩ := hD
    have hat : D (s + 2) (tcode t) = -1 := h4 _ (by omega) (by omega) fun k hk q => hne k hk (tcode_inj ht (h3 k hk).1 q).symm
    -- there is room
    have hn : n < 455 := by
      rcases Nat.lt_or_ge n 455 with q | q
      · exact q
      · exfalso
        have key : ∀ m, m ≤ n → pcnt (eres (fun _ => 1) e m) 455 = m := fun m => by
          induction m with
          | zero => intro _; rw [ecnt_pcnt 0 (fun k hk => by omega) (fun j k hj => by omega)]; rfl
          | succ m ih =>
            intro hm
            have a := ih (by omega)
            rw [ecnt_pcnt m (fun k hk => (h3 k (by omega)).1) (fun j k hj hk w => hD0.inj (by omega) (by omega) w)] at a
            rw [ecnt_pcnt (m + 1) (fun k hk => (h3 k (by omega)).1) (fun j k hj hk w => hD0.inj (by omega) (by omega) w)]
            simp only [ecnt]
            rw [a, if_neg (by decide)]
        have a := key n (Nat.le_refl _)
        have b : pcnt (pupd (eres (fun _ => 1) e n) t 1) 455 = n + 1 := by
          have w := (pcnt_upd (eres (fun _ => 1) e n) t 1 455).2 ht
          rw [if_pos ((eres_at n t).1 hne), if_neg (by decide), a] at w
          omega
        have c := pcnt_le (pupd (eres (fun _ => 1) e n) t 1) 455
        omega
    obtain ⟨n1, n2⟩ := s7.2 n hn
    obtain ⟨d1, d2⟩ := s9.2 n hn
    have s71 := s7.1
    have s91 := s9.1
    have w1 := n2.1
    have w2 := d2.1
    refine wp_in ?_
    simp only [P_X19_place, i_kil, i_icon, i_lcon, i_null, i_loadI, i_loadL, i_loadR, i_istore, i_lstore, i_astore, i_iinc, i_dup, i_dup2, i_pop, i_iadd, i_isub, i_imul, i_idiv, i_irem, i_ineg, i_iand, i_ior, i_ishl, i_ishr, i_lxor, i_ladd, i_lsub, i_lmul, i_ldiv, i_lrem, i_lneg, i_lshl, i_lcmp, i_i2l, i_l2i, i_i2b, i_i2s, i_ifeq, i_ifne, i_iflt, i_ifge, i_ifgt, i_ifle, i_cmpeq, i_cmpne, i_cmplt, i_cmpge, i_cmpgt, i_cmple, i_acmpeq, i_acmpne, i_ifnull, i_ifnonnull, i_getI, i_getR, i_putI, i_putZ, i_putR, i_ald, i_ldL, i_ldR, i_ast, i_stL, i_stR, i_alen, i_new, i_newa, i_iret, i_zret, i_lret, i_aret, i_vret, i_raise, i_throw, i_recv, i_objinit, i_tsw3, lget, lset, lput1, lput2, lkil, ltrim, largs, isL, takev, dropv, nthv, pushO, catv, gd, true_and, and_true, Option.some.injEq, Prod.mk.injEq, exists_eq_left', if_true, if_false, reduceCtorEq, Bool.false_eq_true, lcmp_ge, lcmp_lt, lcmp_le, lcmp_gt, lcmp_eq, true_or, or_true, not_true_eq_false, not_false_eq_true, false_implies, true_implies, List.length_cons, List.length_nil, s1, s2, s3, s4, s5, s6, s8, hat, h2]
    repeat (first | refine ⟨in_small (by omega) (by omega), ?_⟩ | (show (_ → _) ∧ (_ → _); first | refine ⟨by omega, fun _ => ?_⟩ | refine ⟨fun _ => ?_, by omega⟩) | refine ⟨by omega, ?_⟩ | refine ⟨⟨_, rfl, by assumption⟩, ?_⟩ | refine ⟨okT_I _, ?_⟩ | refine call0 (gd_of rfl) ?_)
    have m1 : pmu D (s + 2) (tcode t) (n : Int) s 0 = n := by simp only [pmu]; rw [if_neg (fun q => by omega)]; exact h2
    simp only [P_X19_place, i_kil, i_icon, i_lcon, i_null, i_loadI, i_loadL, i_loadR, i_istore, i_lstore, i_astore, i_iinc, i_dup, i_dup2, i_pop, i_iadd, i_isub, i_imul, i_idiv, i_irem, i_ineg, i_iand, i_ior, i_ishl, i_ishr, i_lxor, i_ladd, i_lsub, i_lmul, i_ldiv, i_lrem, i_lneg, i_lshl, i_lcmp, i_i2l, i_l2i, i_i2b, i_i2s, i_ifeq, i_ifne, i_iflt, i_ifge, i_ifgt, i_ifle, i_cmpeq, i_cmpne, i_cmplt, i_cmpge, i_cmpgt, i_cmple, i_acmpeq, i_acmpne, i_ifnull, i_ifnonnull, i_getI, i_getR, i_putI, i_putZ, i_putR, i_ald, i_ldL, i_ldR, i_ast, i_stL, i_stR, i_alen, i_new, i_newa, i_iret, i_zret, i_lret, i_aret, i_vret, i_raise, i_throw, i_recv, i_objinit, i_tsw3, lget, lset, lput1, lput2, lkil, ltrim, largs, isL, takev, dropv, nthv, pushO, catv, gd, true_and, and_true, Option.some.injEq, Prod.mk.injEq, exists_eq_left', if_true, if_false, reduceCtorEq, Bool.false_eq_true, lcmp_ge, lcmp_lt, lcmp_le, lcmp_gt, lcmp_eq, true_or, or_true, not_true_eq_false, not_false_eq_true, false_implies, true_implies, List.length_cons, List.length_nil, s1, s2, s3, s6, s71, n1, m1]
    repeat (first | refine ⟨in_small (by omega) (by omega), ?_⟩ | (show (_ → _) ∧ (_ → _); first | refine ⟨by omega, fun _ => ?_⟩ | refine ⟨fun _ => ?_, by omega⟩) | refine ⟨by omega, ?_⟩ | refine ⟨⟨_, rfl, by assumption⟩, ?_⟩ | refine ⟨okT_I _, ?_⟩ | refine call0 (gd_of rfl) ?_)
    have m2 : pmu (pmu D (s + 2) (tcode t) (n : Int)) (s + 1) (n : Int) (tcode t) s 0 = n := by simp only [pmu]; rw [if_neg (fun q => by omega), if_neg (fun q => by omega)]; exact h2
    simp only [P_X19_place, i_kil, i_icon, i_lcon, i_null, i_loadI, i_loadL, i_loadR, i_istore, i_lstore, i_astore, i_iinc, i_dup, i_dup2, i_pop, i_iadd, i_isub, i_imul, i_idiv, i_irem, i_ineg, i_iand, i_ior, i_ishl, i_ishr, i_lxor, i_ladd, i_lsub, i_lmul, i_ldiv, i_lrem, i_lneg, i_lshl, i_lcmp, i_i2l, i_l2i, i_i2b, i_i2s, i_ifeq, i_ifne, i_iflt, i_ifge, i_ifgt, i_ifle, i_cmpeq, i_cmpne, i_cmplt, i_cmpge, i_cmpgt, i_cmple, i_acmpeq, i_acmpne, i_ifnull, i_ifnonnull, i_getI, i_getR, i_putI, i_putZ, i_putR, i_ald, i_ldL, i_ldR, i_ast, i_stL, i_stR, i_alen, i_new, i_newa, i_iret, i_zret, i_lret, i_aret, i_vret, i_raise, i_throw, i_recv, i_objinit, i_tsw3, lget, lset, lput1, lput2, lkil, ltrim, largs, isL, takev, dropv, nthv, pushO, catv, gd, true_and, and_true, Option.some.injEq, Prod.mk.injEq, exists_eq_left', if_true, if_false, reduceCtorEq, Bool.false_eq_true, lcmp_ge, lcmp_lt, lcmp_le, lcmp_gt, lcmp_eq, true_or, or_true, not_true_eq_false, not_false_eq_true, false_implies, true_implies, List.length_cons, List.length_nil, s1, s2, s3, s6, s71, n1, m2]
    repeat (first | refine ⟨in_small (by omega) (by omega), ?_⟩ | (show (_ → _) ∧ (_ → _); first | refine ⟨by omega, fun _ => ?_⟩ | refine ⟨fun _ => ?_, by omega⟩) | refine ⟨by omega, ?_⟩ | refine ⟨⟨_, rfl, by assumption⟩, ?_⟩ | refine ⟨okT_I _, ?_⟩ | refine call0 (gd_of rfl) ?_)
    refine sp_X17_set n2 (by omega) (by omega) (by omega) fun D1 f1 f2 => ?_
    have m3 : D1 s 0 = n := by rw [f1 _ _ (by omega) (by omega)]; exact m2
    simp only [P_X19_place, i_kil, i_icon, i_lcon, i_null, i_loadI, i_loadL, i_loadR, i_istore, i_lstore, i_astore, i_iinc, i_dup, i_dup2, i_pop, i_iadd, i_isub, i_imul, i_idiv, i_irem, i_ineg, i_iand, i_ior, i_ishl, i_ishr, i_lxor, i_ladd, i_lsub, i_lmul, i_ldiv, i_lrem, i_lneg, i_lshl, i_lcmp, i_i2l, i_l2i, i_i2b, i_i2s, i_ifeq, i_ifne, i_iflt, i_ifge, i_ifgt, i_ifle, i_cmpeq, i_cmpne, i_cmplt, i_cmpge, i_cmpgt, i_cmple, i_acmpeq, i_acmpne, i_ifnull, i_ifnonnull, i_getI, i_getR, i_putI, i_putZ, i_putR, i_ald, i_ldL, i_ldR, i_ast, i_stL, i_stR, i_alen, i_new, i_newa, i_iret, i_zret, i_lret, i_aret, i_vret, i_raise, i_throw, i_recv, i_objinit, i_tsw3, lget, lset, lput1, lput2, lkil, ltrim, largs, isL, takev, dropv, nthv, pushO, catv, gd, true_and, and_true, Option.some.injEq, Prod.mk.injEq, exists_eq_left', if_true, if_false, reduceCtorEq, Bool.false_eq_true, lcmp_ge, lcmp_lt, lcmp_le, lcmp_gt, lcmp_eq, true_or, or_true, not_true_eq_false, not_false_eq_true, false_implies, true_implies, List.length_cons, List.length_nil, s1, s8, s91, d1, m3]
    repeat (first | refine ⟨in_small (by omega) (by omega), ?_⟩ | (show (_ → _) ∧ (_ → _); first | refine ⟨by omega, fun _ => ?_⟩ | refine ⟨fun _ => ?_, by omega⟩) | refine ⟨by omega, ?_⟩ | refine ⟨⟨_, rfl, by assumption⟩, ?_⟩ | refine ⟨okT_I _, ?_⟩ | refine call0 (gd_of rfl) ?_)
    refine sp_X17_set d2 (by omega) (by omega) (by omega) fun D2 g1 g2 => ?_
    have m4 : D2 s 0 = n := by rw [g1 _ _ (by omega) (by omega)]; exact m3
    simp only [P_X19_place, i_kil, i_icon, i_lcon, i_null, i_loadI, i_loadL, i_loadR, i_istore, i_lstore, i_astore, i_iinc, i_dup, i_dup2, i_pop, i_iadd, i_isub, i_imul, i_idiv, i_irem, i_ineg, i_iand, i_ior, i_ishl, i_ishr, i_lxor, i_ladd, i_lsub, i_lmul, i_ldiv, i_lrem, i_lneg, i_lshl, i_lcmp, i_i2l, i_l2i, i_i2b, i_i2s, i_ifeq, i_ifne, i_iflt, i_ifge, i_ifgt, i_ifle, i_cmpeq, i_cmpne, i_cmplt, i_cmpge, i_cmpgt, i_cmple, i_acmpeq, i_acmpne, i_ifnull, i_ifnonnull, i_getI, i_getR, i_putI, i_putZ, i_putR, i_ald, i_ldL, i_ldR, i_ast, i_stL, i_stR, i_alen, i_new, i_newa, i_iret, i_zret, i_lret, i_aret, i_vret, i_raise, i_throw, i_recv, i_objinit, i_tsw3, lget, lset, lput1, lput2, lkil, ltrim, largs, isL, takev, dropv, nthv, pushO, catv, gd, true_and, and_true, Option.some.injEq, Prod.mk.injEq, exists_eq_left', if_true, if_false, reduceCtorEq, Bool.false_eq_true, lcmp_ge, lcmp_lt, lcmp_le, lcmp_gt, lcmp_eq, true_or, or_true, not_true_eq_false, not_false_eq_true, false_implies, true_implies, List.length_cons, List.length_nil, s1, m4]
    repeat (first | refine ⟨in_small (by omega) (by omega), ?_⟩ | (show (_ → _) ∧ (_ → _); first | refine ⟨by omega, fun _ => ?_⟩ | refine ⟨fun _ => ?_, by omega⟩) | refine ⟨by omega, ?_⟩ | refine ⟨⟨_, rfl, by assumption⟩, ?_⟩ | refine ⟨okT_I _, ?_⟩ | refine call0 (gd_of rfl) ?_)
    -- what stands then
    have fr : ∀ c i, (c < s ∨ s + 1824 < c) → pmu D2 s 0 ((n : Int) + 1) c i = D c i := fun c i hc => by
      simp only [pmu]
      rw [if_neg (fun q => by omega), g1 _ _ (by omega) (by omega), f1 _ _ (by omega) (by omega)]
      simp only [pmu]
      rw [if_neg (fun q => by omega), if_neg (fun q => by omega)]
    have fr2 : ∀ c i, (s + 3 ≤ c ∧ c ≠ s + 4 + 2 * n ∧ c ≠ s + 4 + 2 * n + 1 ∧ c ≠ s + 915 + 2 * n ∧ c ≠ s + 915 + 2 * n + 1) → pmu D2 s 0 ((n : Int) + 1) c i = D c i := fun c i hc => by
      simp only [pmu]
      rw [if_neg (fun q => by omega), g1 _ _ (by omega) (by omega), f1 _ _ (by omega) (by omega)]
      simp only [pmu]
      rw [if_neg (fun q => by omega), if_neg (fun q => by omega)]
    have e1 : ∀ i, pmu D2 s 0 ((n : Int) + 1) (s + 1) i = if i = n then tcode t else D (s + 1) i := fun i => by
      simp only [pmu]
      rw [if_neg (fun q => by omega), g1 _ _ (by omega) (by omega), f1 _ _ (by omega) (by omega)]
      simp only [pmu, true_and]
      by_cases q : i = n
      · rw [if_pos q, if_pos q]
      · rw [if_neg q, if_neg q, if_neg (fun q => by omega)]
    have e2 : ∀ i, pmu D2 s 0 ((n : Int) + 1) (s + 2) i = if i = tcode t then (n : Int) else D (s + 2) i := fun i => by
      simp only [pmu]
      rw [if_neg (fun q => by omega), g1 _ _ (by omega) (by omega), f1 _ _ (by omega) (by omega)]
      simp only [pmu, true_and]
      rw [if_neg (fun q => by omega)]
    have hsm : smD (pmu D2 s 0 ((n : Int) + 1)) s φ (n + 1) (eupd e n t) := by
      refine ⟨by omega, by simp [pmu], fun k hk => ?_, fun z z1 z2 z3 => ?_, fun u hu hu2 => ?_, h6⟩
      · by_cases q : k = n
        · subst q
          have ek : eupd e k t k = t := by unfold eupd; rw [if_pos rfl]
          rw [ek, e1, e2, if_pos rfl, if_pos rfl]
          have z0 : φ t = 0 := h5 t ht hne
          rw [z0]
          refine ⟨ht, rfl, rfl, ?_, ?_⟩
          · exact f2.congr (fun i => by simp only [pmu]; rw [if_neg (fun q => by omega), g1 _ _ (by omega) (by omega)]) (fun i => by simp only [pmu]; rw [if_neg (fun q => by omega), g1 _ _ (by omega) (by omega)])
          · exact g2.congr (fun i => by simp only [pmu]; rw [if_neg (fun q => by omega)]) (fun i => by simp only [pmu]; rw [if_neg (fun q => by omega)])
        · have ek : eupd e n t k = e k := by unfold eupd; rw [if_neg q]
          obtain ⟨a1, a2, a3, a4⟩ := h3 k (by omega)
          rw [ek, e1, e2, if_neg (by omega), if_neg (fun w => hne k (by omega) (tcode_inj a1 ht w))]
          exact ⟨a1, a2, a3, a4.congr fun c i hc => fr2 c i (by omega)⟩
      · rw [e2]
        have q := z3 n (by omega)
        have ek : eupd e n t n = t := by unfold eupd; rw [if_pos rfl]
        rw [ek] at q
        rw [if_neg q]
        refine h4 z z1 z2 fun k hk => ?_
        have q2 := z3 k (by omega)
        have ek : eupd e n t k = e k := by unfold eupd; rw [if_neg (by omega)]
        rwa [ek] at q2
      · refine h5 u hu fun k hk => ?_
        have q2 := hu2 k (by omega)
        have ek : eupd e n t k = e k := by unfold eupd; rw [if_neg (by omega)]
        rwa [ek] at q2
    have hat2 : pmu D2 s 0 ((n : Int) + 1) (s + 2) (tcode t) = n := by rw [e2, if_pos rfl]
    refine wp_in ?_
    simp only [P_X19_place, i_kil, i_icon, i_lcon, i_null, i_loadI, i_loadL, i_loadR, i_istore, i_lstore, i_astore, i_iinc, i_dup, i_dup2, i_pop, i_iadd, i_isub, i_imul, i_idiv, i_irem, i_ineg, i_iand, i_ior, i_ishl, i_ishr, i_lxor, i_ladd, i_lsub, i_lmul, i_ldiv, i_lrem, i_lneg, i_lshl, i_lcmp, i_i2l, i_l2i, i_i2b, i_i2s, i_ifeq, i_ifne, i_iflt, i_ifge, i_ifgt, i_ifle, i_cmpeq, i_cmpne, i_cmplt, i_cmpge, i_cmpgt, i_cmple, i_acmpeq, i_acmpne, i_ifnull, i_ifnonnull, i_getI, i_getR, i_putI, i_putZ, i_putR, i_ald, i_ldL, i_ldR, i_ast, i_stL, i_stR, i_alen, i_new, i_newa, i_iret, i_zret, i_lret, i_aret, i_vret, i_raise, i_throw, i_recv, i_objinit, i_tsw3, lget, lset, lput1, lput2, lkil, ltrim, largs, isL, takev, dropv, nthv, pushO, catv, gd, true_and, and_true, Option.some.injEq, Prod.mk.injEq, exists_eq_left', if_true, if_false, reduceCtorEq, Bool.false_eq_true, lcmp_ge, lcmp_lt, lcmp_le, lcmp_gt, lcmp_eq, true_or, or_true, not_true_eq_false, not_false_eq_true, false_implies, true_implies, List.length_cons, List.length_nil, s1, s4, s5, hat2]
    repeat (first | refine ⟨in_small (by omega) (by omega), ?_⟩ | (show (_ → _) ∧ (_ → _); first | refine ⟨by omega, fun _ => ?_⟩ | refine ⟨fun _ => ?_, by omega⟩) | refine ⟨by omega, ?_⟩ | refine ⟨⟨_, rfl, by assumption⟩, ?_⟩ | refine ⟨okT_I _, ?_⟩ | refine call0 (gd_of rfl) ?_)
    exact K _ n (n + 1) (eupd e n t) fr hsm (by omega) (by unfold eupd; rw [if_pos rfl])
theorem sp_X19_clear {E : Ex} {B : Nat × Nat} {S : Stat} {D : Dat} {s : Nat} {φ : Nat → Rat} (hs : smS S s) (hD : smP D s φ)
    (K : ∀ D' : Dat, smO D D' s → smP D' s (fun _ => 0) → E (.inl none) B S D') : Wp P_X19_clear E 0 [some (aR s)] [] B S D := by
  obtain ⟨s1, s2, s3, s4, s5, s6, s7, s8, s9⟩ := hs
  obtain ⟨n, e, h1, h2, h3, h4, h5, h6⟩ := hD
  have loop : ∀ (L k : Nat) (D' : Dat), k + L = n → (∀ c i, c ≠ s + 2 → D' c i = D c i) → (∀ z, 0 ≤ z → z < 4096 → (∀ j, k ≤ j → j < n → z ≠ tcode (e j)) → D' (s + 2) z = -1) → Wp P_X19_clear E 1 [some (aR s), some (aI k)] [] B S D' := by
    intro L
    induction L with
    | zero =>
      intro k D' hk f1 f2
      have m1 : D' s 0 = n := by rw [f1 _ _ (by omega)]; exact h2
      refine wp_in ?_
      simp only [P_X19_clear, i_kil, i_icon, i_lcon, i_null, i_loadI, i_loadL, i_loadR, i_istore, i_lstore, i_astore, i_iinc, i_dup, i_dup2, i_pop, i_iadd, i_isub, i_imul, i_idiv, i_irem, i_ineg, i_iand, i_ior, i_ishl, i_ishr, i_lxor, i_ladd, i_lsub, i_lmul, i_ldiv, i_lrem, i_lneg, i_lshl, i_lcmp, i_i2l, i_l2i, i_i2b, i_i2s, i_ifeq, i_ifne, i_iflt, i_ifge, i_ifgt, i_ifle, i_cmpeq, i_cmpne, i_cmplt, i_cmpge, i_cmpgt, i_cmple, i_acmpeq, i_acmpne, i_ifnull, i_ifnonnull, i_getI, i_getR, i_putI, i_putZ, i_putR, i_ald, i_ldL, i_ldR, i_ast, i_stL, i_stR, i_alen, i_new, i_newa, i_iret, i_zret, i_lret, i_aret, i_vret, i_raise, i_throw, i_recv, i_objinit, i_tsw3, lget, lset, lput1, lput2, lkil, ltrim, largs, isL, takev, dropv, nthv, pushO, catv, gd, true_and, and_true, Option.some.injEq, Prod.mk.injEq, exists_eq_left', if_true, if_false, reduceCtorEq, Bool.false_eq_true, lcmp_ge, lcmp_lt, lcmp_le, lcmp_gt, lcmp_eq, true_or, or_true, not_true_eq_false, not_false_eq_true, false_implies, true_implies, List.length_cons, List.length_nil, s1, m1]
      repeat (first | refine ⟨in_small (by omega) (by omega), ?_⟩ | (show (_ → _) ∧ (_ → _); first | refine ⟨by omega, fun _ => ?_⟩ | refine ⟨fun _ => ?_, by omega⟩) | refine ⟨by omega, ?_⟩ | refine ⟨⟨_, rfl, by assumption⟩, ?_⟩ | refine ⟨okT_I _, ?_⟩ | refine call0 (gd_of rfl) ?_)
      refine K _ (fun c i hc => by simp only [pmu]; rw [if_neg (fun q => by omega)]; exact f1 c i (by omega)) ⟨0, e, by omega, by simp [pmu], fun k hk => by omega, fun z z1 z2 z3 => ?_, fun _ _ _ => rfl, phi.zero⟩
      simp only [pmu]; rw [if_neg (fun q => by omega)]; exact f2 z z1 z2 fun j hj hj2 => by omega
    | succ L ih =>
      intro k D' hk f1 f2
      have m1 : D' s 0 = n := by rw [f1 _ _ (by omega)]; exact h2
      obtain ⟨a1, a2, a3, a4⟩ := h3 k (by omega)
      have m2 : D' (s + 1) k = tcode (e k) := by rw [f1 _ _ (by omega)]; exact a2
      have hl := tcode_lim a1
      refine wp_in ?_
      simp only [P_X19_clear, i_kil, i_icon, i_lcon, i_null, i_loadI, i_loadL, i_loadR, i_istore, i_lstore, i_astore, i_iinc, i_dup, i_dup2, i_pop, i_iadd, i_isub, i_imul, i_idiv, i_irem, i_ineg, i_iand, i_ior, i_ishl, i_ishr, i_lxor, i_ladd, i_lsub, i_lmul, i_ldiv, i_lrem, i_lneg, i_lshl, i_lcmp, i_i2l, i_l2i, i_i2b, i_i2s, i_ifeq, i_ifne, i_iflt, i_ifge, i_ifgt, i_ifle, i_cmpeq, i_cmpne, i_cmplt, i_cmpge, i_cmpgt, i_cmple, i_acmpeq, i_acmpne, i_ifnull, i_ifnonnull, i_getI, i_getR, i_putI, i_putZ, i_putR, i_ald, i_ldL, i_ldR, i_ast, i_stL, i_stR, i_alen, i_new, i_newa, i_iret, i_zret, i_lret, i_aret, i_vret, i_raise, i_throw, i_recv, i_objinit, i_tsw3, lget, lset, lput1, lput2, lkil, ltrim, largs, isL, takev, dropv, nthv, pushO, catv, gd, true_and, and_true, Option.some.injEq, Prod.mk.injEq, exists_eq_left', if_true, if_false, reduceCtorEq, Bool.false_eq_true, lcmp_ge, lcmp_lt, lcmp_le, lcmp_gt, lcmp_eq, true_or, or_true, not_true_eq_false, not_false_eq_true, false_implies, true_implies, List.length_cons, List.length_nil, s1, s2, s3, s4, s5, m1, m2]
      repeat (first | refine ⟨in_small (by omega) (by omega), ?_⟩ | (show (_ → _) ∧ (_ → _); first | refine ⟨by omega, fun _ => ?_⟩ | refine ⟨fun _ => ?_, by omega⟩) | refine ⟨by omega, ?_⟩ | refine ⟨⟨_, rfl, by assumption⟩, ?_⟩ | refine ⟨okT_I _, ?_⟩ | refine call0 (gd_of rfl) ?_)
      refine ih (k + 1) _ (by omega) (fun c i hc => by simp only [pmu]; rw [if_neg (fun q => hc q.1)]; exact f1 c i hc) fun z z1 z2 z3 => ?_
      simp only [pmu, true_and]
      by_cases q : z = tcode (e k)
      · rw [if_pos q]
      · rw [if_neg q]
        refine f2 z z1 z2 fun j hj hj2 => ?_
        by_cases w : j = k
        · rw [w]; exact q
        · exact z3 j (by omega) hj2
  refine wp_in ?_
  simp only [P_X19_clear, i_kil, i_icon, i_lcon, i_null, i_loadI, i_loadL, i_loadR, i_istore, i_lstore, i_astore, i_iinc, i_dup, i_dup2, i_pop, i_iadd, i_isub, i_imul, i_idiv, i_irem, i_ineg, i_iand, i_ior, i_ishl, i_ishr, i_lxor, i_ladd, i_lsub, i_lmul, i_ldiv, i_lrem, i_lneg, i_lshl, i_lcmp, i_i2l, i_l2i, i_i2b, i_i2s, i_ifeq, i_ifne, i_iflt, i_ifge, i_ifgt, i_ifle, i_cmpeq, i_cmpne, i_cmplt, i_cmpge, i_cmpgt, i_cmple, i_acmpeq, i_acmpne, i_ifnull, i_ifnonnull, i_getI, i_getR, i_putI, i_putZ, i_putR, i_ald, i_ldL, i_ldR, i_ast, i_stL, i_stR, i_alen, i_new, i_newa, i_iret, i_zret, i_lret, i_aret, i_vret, i_raise, i_throw, i_recv, i_objinit, i_tsw3, lget, lset, lput1, lput2, lkil, ltrim, largs, isL, takev, dropv, nthv, pushO, catv, gd, true_and, and_true, Option.some.injEq, Prod.mk.injEq, exists_eq_left', if_true, if_false, reduceCtorEq, Bool.false_eq_true, lcmp_ge, lcmp_lt, lcmp_le, lcmp_gt, lcmp_eq, true_or, or_true, not_true_eq_false, not_false_eq_true, false_implies, true_implies, List.length_cons, List.length_nil]
  exact loop n 0 D (by omega) (fun _ _ _ => rfl) fun z z1 z2 z3 => h4 z z1 z2 fun j hj => z3 j (Nat.zero_le _) hj
theorem sp_X19_terms {E : Ex} {B : Nat × Nat} {S : Stat} {D : Dat} {s : Nat} {φ : Nat → Rat} (hs : smS S s) (hD : smP D s φ)
    (K : E (.inl (some (.inl (pcnt φ 455 : Nat)))) B S D) : Wp P_X19_terms E 0 [some (aR s)] [] B S D := by
  obtain ⟨s1, s2, s3, s4, s5, s6, s7, s8, s9⟩ := hs
  obtain ⟨n, e, hD⟩ := hD
  have hD0 := hD
  obtain ⟨h1, h2, h3, h4, h5, h6⟩ := hD
  have s71 := s7.1
  have hle : ∀ k, ecnt φ e k ≤ k := fun k => by
    induction k with
    | zero => exact Nat.le_refl _
    | succ k ih => simp only [ecnt]; split <;> omega
  have loop : ∀ (L k : Nat), k + L = n → Wp P_X19_terms E 1 [some (aR s), some (aI (ecnt φ e k : Nat)), some (aI k)] [] B S D := by
    intro L
    induction L with
    | zero =>
      intro k hk
      have : k = n := by omega
      subst this
      refine wp_in ?_
      simp only [P_X19_terms, i_kil, i_icon, i_lcon, i_null, i_loadI, i_loadL, i_loadR, i_istore, i_lstore, i_astore, i_iinc, i_dup, i_dup2, i_pop, i_iadd, i_isub, i_imul, i_idiv, i_irem, i_ineg, i_iand, i_ior, i_ishl, i_ishr, i_lxor, i_ladd, i_lsub, i_lmul, i_ldiv, i_lrem, i_lneg, i_lshl, i_lcmp, i_i2l, i_l2i, i_i2b, i_i2s, i_ifeq, i_ifne, i_iflt, i_ifge, i_ifgt, i_ifle, i_cmpeq, i_cmpne, i_cmplt, i_cmpge, i_cmpgt, i_cmple, i_acmpeq, i_acmpne, i_ifnull, i_ifnonnull, i_getI, i_getR, i_putI, i_putZ, i_putR, i_ald, i_ldL, i_ldR, i_ast, i_stL, i_stR, i_alen, i_new, i_newa, i_iret, i_zret, i_lret, i_aret, i_vret, i_raise, i_throw, i_recv, i_objinit, i_tsw3, lget, lset, lput1, lput2, lkil, ltrim, largs, isL, takev, dropv, nthv, pushO, catv, gd, true_and, and_true, Option.some.injEq, Prod.mk.injEq, exists_eq_left', if_true, if_false, reduceCtorEq, Bool.false_eq_true, lcmp_ge, lcmp_lt, lcmp_le, lcmp_gt, lcmp_eq, true_or, or_true, not_true_eq_false, not_false_eq_true, false_implies, true_implies, List.length_cons, List.length_nil, s1, h2]
      repeat (first | refine ⟨in_small (by omega) (by omega), ?_⟩ | (show (_ → _) ∧ (_ → _); first | refine ⟨by omega, fun _ => ?_⟩ | refine ⟨fun _ => ?_, by omega⟩) | refine ⟨by omega, ?_⟩ | refine ⟨⟨_, rfl, by assumption⟩, ?_⟩ | refine ⟨okT_I _, ?_⟩ | refine call0 (gd_of rfl) ?_)
      rw [ecnt_all (fun k hk => (h3 k hk).1) (fun j k hj hk w => hD0.inj hj hk w) h5]
      exact K
    | succ L ih =>
      intro k hk
      obtain ⟨a1, a2, a3, a4⟩ := h3 k (by omega)
      obtain ⟨n1, n2⟩ := s7.2 k (by omega)
      have w1 := n2.1
      have hz := fr_zero a4
      have := hle k
      refine wp_in ?_
      simp only [P_X19_terms, i_kil, i_icon, i_lcon, i_null, i_loadI, i_loadL, i_loadR, i_istore, i_lstore, i_astore, i_iinc, i_dup, i_dup2, i_pop, i_iadd, i_isub, i_imul, i_idiv, i_irem, i_ineg, i_iand, i_ior, i_ishl, i_ishr, i_lxor, i_ladd, i_lsub, i_lmul, i_ldiv, i_lrem, i_lneg, i_lshl, i_lcmp, i_i2l, i_l2i, i_i2b, i_i2s, i_ifeq, i_ifne, i_iflt, i_ifge, i_ifgt, i_ifle, i_cmpeq, i_cmpne, i_cmplt, i_cmpge, i_cmpgt, i_cmple, i_acmpeq, i_acmpne, i_ifnull, i_ifnonnull, i_getI, i_getR, i_putI, i_putZ, i_putR, i_ald, i_ldL, i_ldR, i_ast, i_stL, i_stR, i_alen, i_new, i_newa, i_iret, i_zret, i_lret, i_aret, i_vret, i_raise, i_throw, i_recv, i_objinit, i_tsw3, lget, lset, lput1, lput2, lkil, ltrim, largs, isL, takev, dropv, nthv, pushO, catv, gd, true_and, and_true, Option.some.injEq, Prod.mk.injEq, exists_eq_left', if_true, if_false, reduceCtorEq, Bool.false_eq_true, lcmp_ge, lcmp_lt, lcmp_le, lcmp_gt, lcmp_eq, true_or, or_true, not_true_eq_false, not_false_eq_true, false_implies, true_implies, List.length_cons, List.length_nil, s1, s6, s71, n1, w1, h2]
      repeat (first | refine ⟨in_small (by omega) (by omega), ?_⟩ | (show (_ → _) ∧ (_ → _); first | refine ⟨by omega, fun _ => ?_⟩ | refine ⟨fun _ => ?_, by omega⟩) | refine ⟨by omega, ?_⟩ | refine ⟨⟨_, rfl, by assumption⟩, ?_⟩ | refine ⟨okT_I _, ?_⟩ | refine call0 (gd_of rfl) ?_)
      refine ⟨fun q => ?_, fun q => ?_⟩
      · have q2 : ¬ φ (e k) = 0 := fun w => q (hz.mpr w)
        refine wp_in ?_
        simp only [P_X19_terms, i_kil, i_icon, i_lcon, i_null, i_loadI, i_loadL, i_loadR, i_istore, i_lstore, i_astore, i_iinc, i_dup, i_dup2, i_pop, i_iadd, i_isub, i_imul, i_idiv, i_irem, i_ineg, i_iand, i_ior, i_ishl, i_ishr, i_lxor, i_ladd, i_lsub, i_lmul, i_ldiv, i_lrem, i_lneg, i_lshl, i_lcmp, i_i2l, i_l2i, i_i2b, i_i2s, i_ifeq, i_ifne, i_iflt, i_ifge, i_ifgt, i_ifle, i_cmpeq, i_cmpne, i_cmplt, i_cmpge, i_cmpgt, i_cmple, i_acmpeq, i_acmpne, i_ifnull, i_ifnonnull, i_getI, i_getR, i_putI, i_putZ, i_putR, i_ald, i_ldL, i_ldR, i_ast, i_stL, i_stR, i_alen, i_new, i_newa, i_iret, i_zret, i_lret, i_aret, i_vret, i_raise, i_throw, i_recv, i_objinit, i_tsw3, lget, lset, lput1, lput2, lkil, ltrim, largs, isL, takev, dropv, nthv, pushO, catv, gd, true_and, and_true, Option.some.injEq, Prod.mk.injEq, exists_eq_left', if_true, if_false, reduceCtorEq, Bool.false_eq_true, lcmp_ge, lcmp_lt, lcmp_le, lcmp_gt, lcmp_eq, true_or, or_true, not_true_eq_false, not_false_eq_true, false_implies, true_implies, List.length_cons, List.length_nil]
        repeat (first | refine ⟨in_small (by omega) (by omega), ?_⟩ | (show (_ → _) ∧ (_ → _); first | refine ⟨by omega, fun _ => ?_⟩ | refine ⟨fun _ => ?_, by omega⟩) | refine ⟨by omega, ?_⟩ | refine ⟨⟨_, rfl, by assumption⟩, ?_⟩ | refine ⟨okT_I _, ?_⟩ | refine call0 (gd_of rfl) ?_)
        have := ih (k + 1) (by omega)
        simp only [ecnt] at this
        rw [if_neg q2] at this
        exact this
      · have q2 := hz.mp q
        refine wp_in ?_
        simp only [P_X19_terms, i_kil, i_icon, i_lcon, i_null, i_loadI, i_loadL, i_loadR, i_istore, i_lstore, i_astore, i_iinc, i_dup, i_dup2, i_pop, i_iadd, i_isub, i_imul, i_idiv, i_irem, i_ineg, i_iand, i_ior, i_ishl, i_ishr, i_lxor, i_ladd, i_lsub, i_lmul, i_ldiv, i_lrem, i_lneg, i_lshl, i_lcmp, i_i2l, i_l2i, i_i2b, i_i2s, i_ifeq, i_ifne, i_iflt, i_ifge, i_ifgt, i_ifle, i_cmpeq, i_cmpne, i_cmplt, i_cmpge, i_cmpgt, i_cmple, i_acmpeq, i_acmpne, i_ifnull, i_ifnonnull, i_getI, i_getR, i_putI, i_putZ, i_putR, i_ald, i_ldL, i_ldR, i_ast, i_stL, i_stR, i_alen, i_new, i_newa, i_iret, i_zret, i_lret, i_aret, i_vret, i_raise, i_throw, i_recv, i_objinit, i_tsw3, lget, lset, lput1, lput2, lkil, ltrim, largs, isL, takev, dropv, nthv, pushO, catv, gd, true_and, and_true, Option.some.injEq, Prod.mk.injEq, exists_eq_left', if_true, if_false, reduceCtorEq, Bool.false_eq_true, lcmp_ge, lcmp_lt, lcmp_le, lcmp_gt, lcmp_eq, true_or, or_true, not_true_eq_false, not_false_eq_true, false_implies, true_implies, List.length_cons, List.length_nil]
        repeat (first | refine ⟨in_small (by omega) (by omega), ?_⟩ | (show (_ → _) ∧ (_ → _); first | refine ⟨by omega, fun _ => ?_⟩ | refine ⟨fun _ => ?_, by omega⟩) | refine ⟨by omega, ?_⟩ | refine ⟨⟨_, rfl, by assumption⟩, ?_⟩ | refine ⟨okT_I _, ?_⟩ | refine call0 (gd_of rfl) ?_)
        have := ih (k + 1) (by omega)
        simp only [ecnt] at this
        rw [if_pos q2] at this
        exact this
  refine wp_in ?_
  simp only [P_X19_terms, i_kil, i_icon, i_lcon, i_null, i_loadI, i_loadL, i_loadR, i_istore, i_lstore, i_astore, i_iinc, i_dup, i_dup2, i_pop, i_iadd, i_isub, i_imul, i_idiv, i_irem, i_ineg, i_iand, i_ior, i_ishl, i_ishr, i_lxor, i_ladd, i_lsub, i_lmul, i_ldiv, i_lrem, i_lneg, i_lshl, i_lcmp, i_i2l, i_l2i, i_i2b, i_i2s, i_ifeq, i_ifne, i_iflt, i_ifge, i_ifgt, i_ifle, i_cmpeq, i_cmpne, i_cmplt, i_cmpge, i_cmpgt, i_cmple, i_acmpeq, i_acmpne, i_ifnull, i_ifnonnull, i_getI, i_getR, i_putI, i_putZ, i_putR, i_ald, i_ldL, i_ldR, i_ast, i_stL, i_stR, i_alen, i_new, i_newa, i_iret, i_zret, i_lret, i_aret, i_vret, i_raise, i_throw, i_recv, i_objinit, i_tsw3, lget, lset, lput1, lput2, lkil, ltrim, largs, isL, takev, dropv, nthv, pushO, catv, gd, true_and, and_true, Option.some.injEq, Prod.mk.injEq, exists_eq_left', if_true, if_false, reduceCtorEq, Bool.false_eq_true, lcmp_ge, lcmp_lt, lcmp_le, lcmp_gt, lcmp_eq, true_or, or_true, not_true_eq_false, not_false_eq_true, false_implies, true_implies, List.length_cons, List.length_nil]
  exact loop n 0 (by omega)
/-- the best of the first k terms of a sum: -1 or its place -/
def isBest (c g : Nat) (φ : Nat → Rat) (e : Nat → Nat) (k : Nat) (b : Int) : Prop := (b = -1 ∧ ∀ j, j < k → φ (e j) = 0) ∨ ∃ j : Nat, b = j ∧ j < k ∧ φ (e j) ≠ 0 ∧ ∀ i, i < k → φ (e i) ≠ 0 → i ≠ j → 0 < rankI c g (e j) (e i)
theorem compare_at {E : Ex} {B : Nat × Nat} {S : Stat} {D : Dat} {c g t u : Nat} {x y z w : Int} (ho : ordOK c g) (ht : t < 455) (hu : u < 455) (hx : x = tcode t) (hy : y = tcode u) (hw : w = (c : Int) - 9) (hz : z = g ∨ c ≠ 12)
    (h : ∀ v : Int, (0 < v ↔ 0 < rankI c g t u) → (v < 0 ↔ rankI c g t u < 0) → E (.inl (some (.inl v))) B S D) : Wp P_X16_compareTerms E 0 [some (aI x), some (aI y), some (aI w), some (aI z)] [] B S D := by
  subst hx; subst hy; subst hw
  refine sp_X16_compareTerms ho ht hu hz (h _ ?_ ?_)
  · rcases sgn_cases (rankI c g t u) with q | q | q <;> rw [q.1] <;> omega
  · rcases sgn_cases (rankI c g t u) with q | q | q <;> rw [q.1] <;> omega
theorem sp_X19_lead {E : Ex} {B : Nat × Nat} {S : Stat} {D : Dat} {s c g n : Nat} {e : Nat → Nat} {z : Int} {φ : Nat → Rat} (hs : smS S s) (hD : smD D s φ n e) (ho : ordOK c g) (hz : z = g ∨ c ≠ 12)
    (K1 : (∀ t, t < 455 → φ t = 0) → E (.inl (some (.inl (-1)))) B S D) (K2 : ∀ k : Nat, k < n → isLead c g φ (e k) → E (.inl (some (.inl (k : Int)))) B S D) : Wp P_X19_lead E 0 [some (aR s), some (aI ((c : Int) - 9)), some (aI z)] [] B S D := by
  obtain ⟨s1, s2, s3, s4, s5, s6, s7, s8, s9⟩ := hs
  have hD0 := hD
  obtain ⟨h1, h2, h3, h4, h5, h6⟩ := hD
  have s71 := s7.1
  have loop : ∀ (L k : Nat) (b : Int), k + L = n → isBest c g φ e k b → Wp P_X19_lead E 1 [some (aR s), some (aI ((c : Int) - 9)), some (aI z), some (aI b), some (aI k)] [] B S D := by
    intro L
    induction L with
    | zero =>
      intro k b hk hb
      have : k = n := by omega
      subst this
      refine wp_in ?_
      simp only [P_X19_lead, i_kil, i_icon, i_lcon, i_null, i_loadI, i_loadL, i_loadR, i_istore, i_lstore, i_astore, i_iinc, i_dup, i_dup2, i_pop, i_iadd, i_isub, i_imul, i_idiv, i_irem, i_ineg, i_iand, i_ior, i_ishl, i_ishr, i_lxor, i_ladd, i_lsub, i_lmul, i_ldiv, i_lrem, i_lneg, i_lshl, i_lcmp, i_i2l, i_l2i, i_i2b, i_i2s, i_ifeq, i_ifne, i_iflt, i_ifge, i_ifgt, i_ifle, i_cmpeq, i_cmpne, i_cmplt, i_cmpge, i_cmpgt, i_cmple, i_acmpeq, i_acmpne, i_ifnull, i_ifnonnull, i_getI, i_getR, i_putI, i_putZ, i_putR, i_ald, i_ldL, i_ldR, i_ast, i_stL, i_stR, i_alen, i_new, i_newa, i_iret, i_zret, i_lret, i_aret, i_vret, i_raise, i_throw, i_recv, i_objinit, i_tsw3, lget, lset, lput1, lput2, lkil, ltrim, largs, isL, takev, dropv, nthv, pushO, catv, gd, true_and, and_true, Option.some.injEq, Prod.mk.injEq, exists_eq_left', if_true, if_false, reduceCtorEq, Bool.false_eq_true, lcmp_ge, lcmp_lt, lcmp_le, lcmp_gt, lcmp_eq, true_or, or_true, not_true_eq_false, not_false_eq_true, false_implies, true_implies, List.length_cons, List.length_nil, s1, h2]
      repeat (first | refine ⟨in_small (by omega) (by omega), ?_⟩ | (show (_ → _) ∧ (_ → _); first | refine ⟨by omega, fun _ => ?_⟩ | refine ⟨fun _ => ?_, by omega⟩) | refine ⟨by omega, ?_⟩ | refine ⟨⟨_, rfl, by assumption⟩, ?_⟩ | refine ⟨okT_I _, ?_⟩ | refine call0 (gd_of rfl) ?_)
      rcases hb with ⟨rfl, hb⟩ | ⟨j, rfl, hj, hj0, hb⟩
      · refine K1 fun t ht => ?_
        rcases Classical.em (∃ j, j < k ∧ e j = t) with ⟨j, q1, q2⟩ | q
        · rw [← q2]; exact hb j q1
        · exact h5 t ht fun j hj w => q ⟨j, hj, w⟩
      · refine K2 j hj ⟨(h3 j hj).1, hj0, fun u hu hu0 hne => ?_⟩
        rcases Classical.em (∃ i, i < k ∧ e i = u) with ⟨i, q1, q2⟩ | q
        · rw [← q2]
          exact hb i q1 (by rw [q2]; exact hu0) fun w => hne (by rw [← q2, w])
        · exact absurd (h5 u hu fun j hj w => q ⟨j, hj, w⟩) hu0
    | succ L ih =>
      intro k b hk hb
      obtain ⟨a1, a2, a3, a4⟩ := h3 k (by omega)
      obtain ⟨n1, n2⟩ := s7.2 k (by omega)
      have w1 := n2.1
      have hz0 := fr_zero a4
      have next : ∀ b' : Int, isBest c g φ e (k + 1) b' → Wp P_X19_lead E 3 [some (aR s), some (aI ((c : Int) - 9)), some (aI z), some (aI b'), some (aI k)] [] B S D := fun b' hb' => by
        refine wp_in ?_
        simp only [P_X19_lead, i_kil, i_icon, i_lcon, i_null, i_loadI, i_loadL, i_loadR, i_istore, i_lstore, i_astore, i_iinc, i_dup, i_dup2, i_pop, i_iadd, i_isub, i_imul, i_idiv, i_irem, i_ineg, i_iand, i_ior, i_ishl, i_ishr, i_lxor, i_ladd, i_lsub, i_lmul, i_ldiv, i_lrem, i_lneg, i_lshl, i_lcmp, i_i2l, i_l2i, i_i2b, i_i2s, i_ifeq, i_ifne, i_iflt, i_ifge, i_ifgt, i_ifle, i_cmpeq, i_cmpne, i_cmplt, i_cmpge, i_cmpgt, i_cmple, i_acmpeq, i_acmpne, i_ifnull, i_ifnonnull, i_getI, i_getR, i_putI, i_putZ, i_putR, i_ald, i_ldL, i_ldR, i_ast, i_stL, i_stR, i_alen, i_new, i_newa, i_iret, i_zret, i_lret, i_aret, i_vret, i_raise, i_throw, i_recv, i_objinit, i_tsw3, lget, lset, lput1, lput2, lkil, ltrim, largs, isL, takev, dropv, nthv, pushO, catv, gd, true_and, and_true, Option.some.injEq, Prod.mk.injEq, exists_eq_left', if_true, if_false, reduceCtorEq, Bool.false_eq_true, lcmp_ge, lcmp_lt, lcmp_le, lcmp_gt, lcmp_eq, true_or, or_true, not_true_eq_false, not_false_eq_true, false_implies, true_implies, List.length_cons, List.length_nil]
        repeat (first | refine ⟨in_small (by omega) (by omega), ?_⟩ | (show (_ → _) ∧ (_ → _); first | refine ⟨by omega, fun _ => ?_⟩ | refine ⟨fun _ => ?_, by omega⟩) | refine ⟨by omega, ?_⟩ | refine ⟨⟨_, rfl, by assumption⟩, ?_⟩ | refine ⟨okT_I _, ?_⟩ | refine call0 (gd_of rfl) ?_)
        exact ih (k + 1) b' (by omega) hb'
      have take : isBest c g φ e (k + 1) k → Wp P_X19_lead E 2 [some (aR s), some (aI ((c : Int) - 9)), some (aI z), none, some (aI k)] [] B S D := fun hb' => by
        refine wp_in ?_
        simp only [P_X19_lead, i_kil, i_icon, i_lcon, i_null, i_loadI, i_loadL, i_loadR, i_istore, i_lstore, i_astore, i_iinc, i_dup, i_dup2, i_pop, i_iadd, i_isub, i_imul, i_idiv, i_irem, i_ineg, i_iand, i_ior, i_ishl, i_ishr, i_lxor, i_ladd, i_lsub, i_lmul, i_ldiv, i_lrem, i_lneg, i_lshl, i_lcmp, i_i2l, i_l2i, i_i2b, i_i2s, i_ifeq, i_ifne, i_iflt, i_ifge, i_ifgt, i_ifle, i_cmpeq, i_cmpne, i_cmplt, i_cmpge, i_cmpgt, i_cmple, i_acmpeq, i_acmpne, i_ifnull, i_ifnonnull, i_getI, i_getR, i_putI, i_putZ, i_putR, i_ald, i_ldL, i_ldR, i_ast, i_stL, i_stR, i_alen, i_new, i_newa, i_iret, i_zret, i_lret, i_aret, i_vret, i_raise, i_throw, i_recv, i_objinit, i_tsw3, lget, lset, lput1, lput2, lkil, ltrim, largs, isL, takev, dropv, nthv, pushO, catv, gd, true_and, and_true, Option.some.injEq, Prod.mk.injEq, exists_eq_left', if_true, if_false, reduceCtorEq, Bool.false_eq_true, lcmp_ge, lcmp_lt, lcmp_le, lcmp_gt, lcmp_eq, true_or, or_true, not_true_eq_false, not_false_eq_true, false_implies, true_implies, List.length_cons, List.length_nil]
        exact next _ hb'
      refine wp_in ?_
      simp only [P_X19_lead, i_kil, i_icon, i_lcon, i_null, i_loadI, i_loadL, i_loadR, i_istore, i_lstore, i_astore, i_iinc, i_dup, i_dup2, i_pop, i_iadd, i_isub, i_imul, i_idiv, i_irem, i_ineg, i_iand, i_ior, i_ishl, i_ishr, i_lxor, i_ladd, i_lsub, i_lmul, i_ldiv, i_lrem, i_lneg, i_lshl, i_lcmp, i_i2l, i_l2i, i_i2b, i_i2s, i_ifeq, i_ifne, i_iflt, i_ifge, i_ifgt, i_ifle, i_cmpeq, i_cmpne, i_cmplt, i_cmpge, i_cmpgt, i_cmple, i_acmpeq, i_acmpne, i_ifnull, i_ifnonnull, i_getI, i_getR, i_putI, i_putZ, i_putR, i_ald, i_ldL, i_ldR, i_ast, i_stL, i_stR, i_alen, i_new, i_newa, i_iret, i_zret, i_lret, i_aret, i_vret, i_raise, i_throw, i_recv, i_objinit, i_tsw3, lget, lset, lput1, lput2, lkil, ltrim, largs, isL, takev, dropv, nthv, pushO, catv, gd, true_and, and_true, Option.some.injEq, Prod.mk.injEq, exists_eq_left', if_true, if_false, reduceCtorEq, Bool.false_eq_true, lcmp_ge, lcmp_lt, lcmp_le, lcmp_gt, lcmp_eq, true_or, or_true, not_true_eq_false, not_false_eq_true, false_implies, true_implies, List.length_cons, List.length_nil, s1, s2, s3, s6, s71, n1, w1, h2]
      repeat (first | refine ⟨in_small (by omega) (by omega), ?_⟩ | (show (_ → _) ∧ (_ → _); first | refine ⟨by omega, fun _ => ?_⟩ | refine ⟨fun _ => ?_, by omega⟩) | refine ⟨by omega, ?_⟩ | refine ⟨⟨_, rfl, by assumption⟩, ?_⟩ | refine ⟨okT_I _, ?_⟩ | refine call0 (gd_of rfl) ?_)
      refine ⟨fun q => next b ?_, fun q => ?_⟩
      · have q2 := hz0.mp q
        rcases hb with ⟨rfl, hb⟩ | ⟨j, rfl, hj, hj0, hb⟩
        · refine .inl ⟨rfl, fun j hj => ?_⟩
          by_cases w : j = k
          · rw [w]; exact q2
          · exact hb j (by omega)
        · refine .inr ⟨j, rfl, by omega, hj0, fun i hi hi0 hne => ?_⟩
          by_cases w : i = k
          · rw [w] at hi0; exact absurd q2 hi0
          · exact hb i (by omega) hi0 hne
      · have q2 : ¬ φ (e k) = 0 := fun w => q (hz0.mpr w)
        rcases hb with ⟨rfl, hb⟩ | ⟨j, rfl, hj, hj0, hb⟩
        · repeat (first | refine ⟨in_small (by omega) (by omega), ?_⟩ | (show (_ → _) ∧ (_ → _); first | refine ⟨by omega, fun _ => ?_⟩ | refine ⟨fun _ => ?_, by omega⟩) | refine ⟨by omega, ?_⟩ | refine ⟨⟨_, rfl, by assumption⟩, ?_⟩ | refine ⟨okT_I _, ?_⟩ | refine call0 (gd_of rfl) ?_)
          exact take (.inr ⟨k, rfl, by omega, q2, fun i hi hi0 hne => absurd (hb i (by omega)) hi0⟩)
        · obtain ⟨b1, b2, b3, b4⟩ := h3 j (by omega)
          refine ⟨fun w => by omega, fun _ => ?_⟩
          repeat (first | refine ⟨in_small (by omega) (by omega), ?_⟩ | (show (_ → _) ∧ (_ → _); first | refine ⟨by omega, fun _ => ?_⟩ | refine ⟨fun _ => ?_, by omega⟩) | refine ⟨by omega, ?_⟩ | refine ⟨⟨_, rfl, by assumption⟩, ?_⟩ | refine ⟨okT_I _, ?_⟩ | refine call0 (gd_of rfl) ?_)
          refine compare_at ho a1 b1 a2 b2 rfl hz fun v v1 v2 => ?_
          simp only [P_X19_lead, i_kil, i_icon, i_lcon, i_null, i_loadI, i_loadL, i_loadR, i_istore, i_lstore, i_astore, i_iinc, i_dup, i_dup2, i_pop, i_iadd, i_isub, i_imul, i_idiv, i_irem, i_ineg, i_iand, i_ior, i_ishl, i_ishr, i_lxor, i_ladd, i_lsub, i_lmul, i_ldiv, i_lrem, i_lneg, i_lshl, i_lcmp, i_i2l, i_l2i, i_i2b, i_i2s, i_ifeq, i_ifne, i_iflt, i_ifge, i_ifgt, i_ifle, i_cmpeq, i_cmpne, i_cmplt, i_cmpge, i_cmpgt, i_cmple, i_acmpeq, i_acmpne, i_ifnull, i_ifnonnull, i_getI, i_getR, i_putI, i_putZ, i_putR, i_ald, i_ldL, i_ldR, i_ast, i_stL, i_stR, i_alen, i_new, i_newa, i_iret, i_zret, i_lret, i_aret, i_vret, i_raise, i_throw, i_recv, i_objinit, i_tsw3, lget, lset, lput1, lput2, lkil, ltrim, largs, isL, takev, dropv, nthv, pushO, catv, gd, true_and, and_true, Option.some.injEq, Prod.mk.injEq, exists_eq_left', if_true, if_false, reduceCtorEq, Bool.false_eq_true, lcmp_ge, lcmp_lt, lcmp_le, lcmp_gt, lcmp_eq, true_or, or_true, not_true_eq_false, not_false_eq_true, false_implies, true_implies, List.length_cons, List.length_nil]
          have hne : e k ≠ e j := fun w => by have := hD0.inj (by omega) (by omega) w; omega
          have hr := rank_ne ho a1 b1 hne
          have ha := rank_anti ho (e k) (e j)
          refine ⟨fun w => next _ (.inr ⟨j, rfl, by omega, hj0, fun i hi hi0 hne => ?_⟩), fun w => take (.inr ⟨k, rfl, by omega, q2, fun i hi hi0 hne => ?_⟩)⟩
          · by_cases x : i = k
            · subst x; omega
            · exact hb i (by omega) hi0 hne
          · have r1 : 0 < rankI c g (e k) (e j) := v1.mp (by omega)
            by_cases x : i = j
            · subst x; exact r1
            · exact rank_trans ho r1 (hb i (by omega) hi0 x)
  refine wp_in ?_
  simp only [P_X19_lead, i_kil, i_icon, i_lcon, i_null, i_loadI, i_loadL, i_loadR, i_istore, i_lstore, i_astore, i_iinc, i_dup, i_dup2, i_pop, i_iadd, i_isub, i_imul, i_idiv, i_irem, i_ineg, i_iand, i_ior, i_ishl, i_ishr, i_lxor, i_ladd, i_lsub, i_lmul, i_ldiv, i_lrem, i_lneg, i_lshl, i_lcmp, i_i2l, i_l2i, i_i2b, i_i2s, i_ifeq, i_ifne, i_iflt, i_ifge, i_ifgt, i_ifle, i_cmpeq, i_cmpne, i_cmplt, i_cmpge, i_cmpgt, i_cmple, i_acmpeq, i_acmpne, i_ifnull, i_ifnonnull, i_getI, i_getR, i_putI, i_putZ, i_putR, i_ald, i_ldL, i_ldR, i_ast, i_stL, i_stR, i_alen, i_new, i_newa, i_iret, i_zret, i_lret, i_aret, i_vret, i_raise, i_throw, i_recv, i_objinit, i_tsw3, lget, lset, lput1, lput2, lkil, ltrim, largs, isL, takev, dropv, nthv, pushO, catv, gd, true_and, and_true, Option.some.injEq, Prod.mk.injEq, exists_eq_left', if_true, if_false, reduceCtorEq, Bool.false_eq_true, lcmp_ge, lcmp_lt, lcmp_le, lcmp_gt, lcmp_eq, true_or, or_true, not_true_eq_false, not_false_eq_true, false_implies, true_implies, List.length_cons, List.length_nil]
  exact loop n 0 (-1) (by omega) (.inl ⟨rfl, fun j hj => by omega⟩)
