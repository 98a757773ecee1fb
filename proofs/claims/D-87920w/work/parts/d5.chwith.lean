/-! chains of the component: put, without -/
-- needs: d4.chsize 79k.fac
set_option maxRecDepth 100000
set_option linter.unusedVariables false
/-- the lower part of a row -/
def low (h : Nat → Int) (k : Nat) : Nat → Int := fun j => if j < k then h j else 0
theorem zlow (g h : Nat → Int) (k j : Nat) : ∀ n, zcv g (low h (k + 1)) n j = zcv g (low h k) n j + (if k ≤ j ∧ j - k < n then h k * g (j - k) else 0) := by
  intro n
  induction n with
  | zero => simp only [zcv]; rw [if_neg (by omega)]; rfl
  | succ n ih =>
    simp only [zcv]
    rw [ih]
    rw [show low h (k + 1) (j - n) = (if j - n < k + 1 then h (j - n) else 0) from rfl, show low h k (j - n) = (if j - n < k then h (j - n) else 0) from rfl]
    generalize zcv g (low h k) n j = Z
    by_cases w : j < n
    · rw [if_pos w, if_pos w]
      by_cases q : k ≤ j ∧ j - k < n
      · rw [if_pos q, if_pos (show k ≤ j ∧ j - k < n + 1 by omega)]; simp only [Int.add_zero]
      · rw [if_neg q, if_neg (show ¬ (k ≤ j ∧ j - k < n + 1) by omega)]
    · rw [if_neg w, if_neg w]
      by_cases q : k ≤ j ∧ j - k < n
      · rw [if_pos q, if_pos (show k ≤ j ∧ j - k < n + 1 by omega), if_pos (show j - n < k + 1 by omega), if_pos (show j - n < k by omega)]; omega
      · rw [if_neg q]
        by_cases q2 : k ≤ j ∧ j - k < n + 1
        · have e : j - k = n := by omega
          have e2 : j - n = k := by omega
          rw [if_pos q2, e, e2, if_pos (show k < k + 1 by omega), if_neg (show ¬ k < k by omega), Int.mul_comm]; omega
        · rw [if_neg q2]
          by_cases q3 : j - n < k
          · rw [if_pos (show j - n < k + 1 by omega), if_pos q3]; simp only [Int.add_zero]
          · rw [if_neg (show ¬ j - n < k + 1 by omega), if_neg q3]; simp only [Int.add_zero]
theorem ztop (g h : Nat → Int) (k e : Nat) : zcv g (low h (k + 1)) (e + 1) (k + e) = g e * h k := by
  have key : ∀ n, n ≤ e → zcv g (low h (k + 1)) n (k + e) = 0 := by
    intro n
    induction n with
    | zero => intro _; rfl
    | succ n ih =>
      intro hn
      simp only [zcv]
      rw [ih (by omega), if_neg (by omega)]
      unfold low
      rw [if_neg (by omega)]; omega
  simp only [zcv]
  rw [key e (Nat.le_refl _), if_neg (by omega), show k + e - e = k by omega]
  unfold low
  rw [if_pos (by omega)]; omega
theorem zcv_abs {g a : Nat → Int} {G H : Nat} {j : Nat} : ∀ n, (∀ t, t < n → (g t).natAbs ≤ G) → (∀ t, (a t).natAbs ≤ H) → (zcv g a n j).natAbs ≤ n * (G * H) := by
  intro n
  induction n with
  | zero => intro _ _; simp [zcv]
  | succ n ih =>
    intro hg ha
    have h1 := ih (fun t ht => hg t (by omega)) ha
    simp only [zcv]
    rw [Nat.succ_mul]
    have h2 : (g n * a (j - n)).natAbs ≤ G * H := by rw [Int.natAbs_mul]; exact Nat.mul_le_mul (hg n (by omega)) (ha _)
    split
    · generalize n * (G * H) = U at *; omega
    · generalize n * (G * H) = U at *
      generalize G * H = V at *
      omega
theorem low_abs {h : Nat → Int} {H k : Nat} (hh : ∀ t, t < k → (h t).natAbs ≤ H) (t : Nat) : (low h k t).natAbs ≤ H := by
  unfold low
  split
  · exact hh t (by assumption)
  · exact Nat.zero_le _
section WITHOUT
variable {b o : Nat}
theorem clw_cw {b r k j : Nat} (hr : r < 10) (hk : k < 9) : cw b r k + 1 < clw b j := by unfold cw clw; omega
set_option maxHeartbeats 4000000 in
theorem sp_X8_without {E : Ex} {B : Nat × Nat} {S : Stat} {D : Dat} {f g h : Nat → Int} {d e p G H : Nat} (hS : chS S b o) (hd : d < 9) (he : e ≤ d) (hd0 : D (b + 12) 0 = d) (hf : chR D b 0 d f) (hl : ∀ k, k ≤ e → wD 1 2 D (clw b k) (g k)) (g0 : g e ≠ 0) (hz : ∀ k, d - e < k → h k = 0) (hq : ∀ k, k ≤ d → f k = zcv g h (e + 1) k) (hG : ∀ k, k ≤ e → (g k).natAbs ≤ G) (hH : ∀ k, k ≤ d - e → (h k).natAbs ≤ H) (hGp : (G : Int) < 1000000000 ^ p) (hHp : (H : Int) < 1000000000 ^ p) (hsz : ((10 * (G * H) : Nat) : Int) < 1000000000 ^ p) (p80 : p ≤ 80)
    (K : ∀ D' : Dat, chF b o D D' → D' (b + 12) 0 = ((d - e : Nat) : Int) → chR D' b 0 (d - e) h → E (.inl none) B S D') : Wp P_X8_without E 0 [some (aR b), some (aI e)] [] B S D := by
  have hS0 := hS
  obtain ⟨ho, s1, s2, s3, s4, s5, s6, s7, s8, s9, s10, s11, s12, s13, s14, s15, s16, s17, s18, s19, s20⟩ := hS
  have ho1 := ho.1
  obtain ⟨r1, r2⟩ := s5 0 (by omega)
  obtain ⟨q1, q2⟩ := s5 1 (by omega)
  have r1' : S.2.1 (b + 1) (0 : Int) = some (b + 2 + 0) := r1
  have q1' : S.2.1 (b + 1) (1 : Int) = some (b + 2 + 1) := q1
  have p160 : p ≤ 160 := by omega
  -- bounds
  have zb : ∀ k j, (zcv g (low h k) (e + 1) j).natAbs ≤ 9 * (G * H) := fun k j => by
    have h1 := zcv_abs (g := g) (a := low h k) (G := G) (H := H) (j := j) (e + 1) (fun t ht => hG t (by omega)) (low_abs fun t ht => by
      rcases Nat.lt_or_ge (d - e) t with w | w
      · rw [hz t w]; exact Nat.zero_le _
      · exact hH t w)
    exact Nat.le_trans h1 (Nat.mul_le_mul_right _ (by omega))
  have zbp : ∀ z : Int, z.natAbs ≤ 10 * (G * H) → (z.natAbs : Int) < 1000000000 ^ 160 := fun z hz => Int.lt_of_lt_of_le (nat_pw hz hsz) (pw_mono p160)
  have hb1 : ∀ k i, k ≤ d - e → i ≤ e → (h k * g i).natAbs ≤ G * H := fun k i hk hi => by
    rw [Int.natAbs_mul, Nat.mul_comm]
    exact Nat.mul_le_mul (hG i hi) (hH k hk)
  -- what stands outside of what changes
  have third : ∀ (L j : Nat) (D1 : Dat), j + L = d - e + 1 → chF b o D D1 → (∀ k, k ≤ d - e → wD 1 2 D1 (cw b 1 k) (h k)) → (∀ k, k < j → wD 1 2 D1 (cw b 0 k) (h k)) → Wp P_X8_without E 3 [some (aR b), none, some (aI ((d - e : Nat) : Int)), some (aI j)] [] B S D1 := by
    intro L
    induction L with
    | zero =>
      intro j D1 hj hfr h1 h0
      refine wp_in ?_
      simp only [P_X8_without, i_kil, i_icon, i_lcon, i_null, i_loadI, i_loadL, i_loadR, i_istore, i_lstore, i_astore, i_iinc, i_dup, i_dup2, i_pop, i_iadd, i_isub, i_imul, i_idiv, i_irem, i_ineg, i_iand, i_ior, i_ishl, i_ishr, i_lxor, i_ladd, i_lsub, i_lmul, i_ldiv, i_lrem, i_lneg, i_lshl, i_lcmp, i_i2l, i_l2i, i_i2b, i_i2s, i_ifeq, i_ifne, i_iflt, i_ifge, i_ifgt, i_ifle, i_cmpeq, i_cmpne, i_cmplt, i_cmpge, i_cmpgt, i_cmple, i_acmpeq, i_acmpne, i_ifnull, i_ifnonnull, i_getI, i_getR, i_putI, i_putZ, i_putR, i_ald, i_ldL, i_ldR, i_ast, i_stL, i_stR, i_alen, i_new, i_newa, i_iret, i_zret, i_lret, i_aret, i_vret, i_raise, i_throw, i_recv, i_objinit, i_tsw3, lget, lset, lput1, lput2, lkil, ltrim, largs, isL, takev, dropv, nthv, pushO, catv, gd, true_and, and_true, Option.some.injEq, Prod.mk.injEq, exists_eq_left', if_true, if_false, reduceCtorEq, Bool.false_eq_true, lcmp_ge, lcmp_lt, lcmp_le, lcmp_gt, lcmp_eq, true_or, or_true, not_true_eq_false, not_false_eq_true, false_implies, true_implies, List.length_cons, List.length_nil, s1, s7, s8]
      repeat (first | refine ⟨in_small (by omega) (by omega), ?_⟩ | (show (_ → _) ∧ (_ → _); first | refine ⟨by omega, fun _ => ?_⟩ | refine ⟨fun _ => ?_, by omega⟩) | refine ⟨by omega, ?_⟩ | refine ⟨⟨_, rfl, by assumption⟩, ?_⟩ | refine ⟨okT_I _, ?_⟩ | refine ⟨okT_S (by omega) (by omega), ?_⟩ | refine ⟨okT_B (by omega) (by omega), ?_⟩ | refine call0 (gd_of rfl) ?_)
      refine K _ (fun c i c1 c2 => ?_) ?_ fun k hk => (h0 k (by omega)).congr (fun i => ?_) fun i => ?_
      · simp only [pmu]; rw [if_neg (by omega)]; exact hfr c i c1 c2
      · simp only [pmu, and_self, if_true]
      · simp only [pmu]; rw [if_neg (by unfold cw; omega)]
      · simp only [pmu]; rw [if_neg (by unfold cw; omega)]
    | succ L ih =>
      intro j D1 hj hfr h1 h0
      obtain ⟨t1, t2⟩ := s6 0 j (by omega) (by omega)
      obtain ⟨u1, u2⟩ := s6 1 j (by omega) (by omega)
      have t3 := t2.1
      have lh : ((h j).natAbs : Int) < 1000000000 ^ 160 := Int.lt_of_lt_of_le (nat_pw (hH j (by omega)) hHp) (pw_mono p160)
      have nb := cw_ne (b := b) (r := 1) (r' := 0) (k := j) (k' := j) (by omega) (by omega) (fun w2 => by omega)
      refine wp_in ?_
      simp only [P_X8_without, i_kil, i_icon, i_lcon, i_null, i_loadI, i_loadL, i_loadR, i_istore, i_lstore, i_astore, i_iinc, i_dup, i_dup2, i_pop, i_iadd, i_isub, i_imul, i_idiv, i_irem, i_ineg, i_iand, i_ior, i_ishl, i_ishr, i_lxor, i_ladd, i_lsub, i_lmul, i_ldiv, i_lrem, i_lneg, i_lshl, i_lcmp, i_i2l, i_l2i, i_i2b, i_i2s, i_ifeq, i_ifne, i_iflt, i_ifge, i_ifgt, i_ifle, i_cmpeq, i_cmpne, i_cmplt, i_cmpge, i_cmpgt, i_cmple, i_acmpeq, i_acmpne, i_ifnull, i_ifnonnull, i_getI, i_getR, i_putI, i_putZ, i_putR, i_ald, i_ldL, i_ldR, i_ast, i_stL, i_stR, i_alen, i_new, i_newa, i_iret, i_zret, i_lret, i_aret, i_vret, i_raise, i_throw, i_recv, i_objinit, i_tsw3, lget, lset, lput1, lput2, lkil, ltrim, largs, isL, takev, dropv, nthv, pushO, catv, gd, true_and, and_true, Option.some.injEq, Prod.mk.injEq, exists_eq_left', if_true, if_false, reduceCtorEq, Bool.false_eq_true, lcmp_ge, lcmp_lt, lcmp_le, lcmp_gt, lcmp_eq, true_or, or_true, not_true_eq_false, not_false_eq_true, false_implies, true_implies, List.length_cons, List.length_nil, s1, s3, s4, r1', r2, q1', q2, t1, u1]
      repeat (first | refine ⟨in_small (by omega) (by omega), ?_⟩ | (show (_ → _) ∧ (_ → _); first | refine ⟨by omega, fun _ => ?_⟩ | refine ⟨fun _ => ?_, by omega⟩) | refine ⟨by omega, ?_⟩ | refine ⟨⟨_, rfl, by assumption⟩, ?_⟩ | refine ⟨okT_I _, ?_⟩ | refine ⟨okT_S (by omega) (by omega), ?_⟩ | refine ⟨okT_B (by omega) (by omega), ?_⟩ | refine call0 (gd_of rfl) ?_)
      refine sp_X3_be t2 u2 (by omega) (h1 j (by omega)) lh lh (by decide) fun D2 g1 g2 => ?_
      simp only [P_X8_without, i_kil, i_icon, i_lcon, i_null, i_loadI, i_loadL, i_loadR, i_istore, i_lstore, i_astore, i_iinc, i_dup, i_dup2, i_pop, i_iadd, i_isub, i_imul, i_idiv, i_irem, i_ineg, i_iand, i_ior, i_ishl, i_ishr, i_lxor, i_ladd, i_lsub, i_lmul, i_ldiv, i_lrem, i_lneg, i_lshl, i_lcmp, i_i2l, i_l2i, i_i2b, i_i2s, i_ifeq, i_ifne, i_iflt, i_ifge, i_ifgt, i_ifle, i_cmpeq, i_cmpne, i_cmplt, i_cmpge, i_cmpgt, i_cmple, i_acmpeq, i_acmpne, i_ifnull, i_ifnonnull, i_getI, i_getR, i_putI, i_putZ, i_putR, i_ald, i_ldL, i_ldR, i_ast, i_stL, i_stR, i_alen, i_new, i_newa, i_iret, i_zret, i_lret, i_aret, i_vret, i_raise, i_throw, i_recv, i_objinit, i_tsw3, lget, lset, lput1, lput2, lkil, ltrim, largs, isL, takev, dropv, nthv, pushO, catv, gd, true_and, and_true, Option.some.injEq, Prod.mk.injEq, exists_eq_left', if_true, if_false, reduceCtorEq, Bool.false_eq_true, lcmp_ge, lcmp_lt, lcmp_le, lcmp_gt, lcmp_eq, true_or, or_true, not_true_eq_false, not_false_eq_true, false_implies, true_implies, List.length_cons, List.length_nil]
      repeat (first | refine ⟨in_small (by omega) (by omega), ?_⟩ | (show (_ → _) ∧ (_ → _); first | refine ⟨by omega, fun _ => ?_⟩ | refine ⟨fun _ => ?_, by omega⟩) | refine ⟨by omega, ?_⟩ | refine ⟨⟨_, rfl, by assumption⟩, ?_⟩ | refine ⟨okT_I _, ?_⟩ | refine ⟨okT_S (by omega) (by omega), ?_⟩ | refine ⟨okT_B (by omega) (by omega), ?_⟩ | refine call0 (gd_of rfl) ?_)
      refine ih (j + 1) D2 (by omega) (fun c i c1 c2 => ?_) (fun k hk => ?_) fun k hk => ?_
      · rw [g1 c i (by unfold cw; omega) (by unfold cw; omega)]; exact hfr c i c1 c2
      · have nb := cw_ne (b := b) (r := 1) (r' := 0) (k := k) (k' := j) (by omega) (by omega) (fun w2 => by omega)
        exact (h1 k hk).congr (fun i => g1 _ i (by omega) (by omega)) fun i => g1 _ i (by omega) (by omega)
      · by_cases w : k = j
        · rw [w]; exact g2
        · have nb := cw_ne (b := b) (r := 0) (r' := 0) (k := k) (k' := j) (by omega) (by omega) (fun w2 => w w2.2)
          exact (h0 k (by omega)).congr (fun i => g1 _ i (by omega) (by omega)) fun i => g1 _ i (by omega) (by omega)
  have first : ∀ (kk : Nat) (D1 : Dat), kk ≤ d - e + 1 → chF b o D D1 → (∀ k, k ≤ e → wD 1 2 D1 (clw b k) (g k)) → (∀ k, kk ≤ k → k ≤ d - e → wD 1 2 D1 (cw b 1 k) (h k)) → (∀ j, j ≤ d → wD 1 2 D1 (cw b 0 j) (zcv g (low h kk) (e + 1) j)) → Wp P_X8_without E 1 [some (aR b), some (aI e), some (aI ((d - e : Nat) : Int)), some (aI ((kk : Int) - 1))] [] B S D1 := by
    intro kk
    induction kk with
    | zero =>
      intro D1 hk hfr hg h1 h0
      refine wp_in ?_
      simp only [P_X8_without, i_kil, i_icon, i_lcon, i_null, i_loadI, i_loadL, i_loadR, i_istore, i_lstore, i_astore, i_iinc, i_dup, i_dup2, i_pop, i_iadd, i_isub, i_imul, i_idiv, i_irem, i_ineg, i_iand, i_ior, i_ishl, i_ishr, i_lxor, i_ladd, i_lsub, i_lmul, i_ldiv, i_lrem, i_lneg, i_lshl, i_lcmp, i_i2l, i_l2i, i_i2b, i_i2s, i_ifeq, i_ifne, i_iflt, i_ifge, i_ifgt, i_ifle, i_cmpeq, i_cmpne, i_cmplt, i_cmpge, i_cmpgt, i_cmple, i_acmpeq, i_acmpne, i_ifnull, i_ifnonnull, i_getI, i_getR, i_putI, i_putZ, i_putR, i_ald, i_ldL, i_ldR, i_ast, i_stL, i_stR, i_alen, i_new, i_newa, i_iret, i_zret, i_lret, i_aret, i_vret, i_raise, i_throw, i_recv, i_objinit, i_tsw3, lget, lset, lput1, lput2, lkil, ltrim, largs, isL, takev, dropv, nthv, pushO, catv, gd, true_and, and_true, Option.some.injEq, Prod.mk.injEq, exists_eq_left', if_true, if_false, reduceCtorEq, Bool.false_eq_true, lcmp_ge, lcmp_lt, lcmp_le, lcmp_gt, lcmp_eq, true_or, or_true, not_true_eq_false, not_false_eq_true, false_implies, true_implies, List.length_cons, List.length_nil]
      refine ⟨fun _ => ?_, fun w => absurd w (by decide)⟩
      exact third (d - e + 1) 0 D1 (by omega) hfr (fun k hk => h1 k (by omega) hk) fun k hk => by omega
    | succ k ih =>
      intro D1 hk hfr hg h1 h0
      obtain ⟨t1, t2⟩ := s6 1 k (by omega) (by omega)
      obtain ⟨u1, u2⟩ := s6 0 (k + e) (by omega) (by omega)
      obtain ⟨v1, v2⟩ := s11 e (by omega)
      have t3 := t2.1
      have ek : ((k + 1 : Nat) : Int) - 1 = (k : Int) := by omega
      have eke : (k : Int) + e = ((k + e : Nat) : Int) := by omega
      rw [ek]
      refine wp_in ?_
      simp only [P_X8_without, i_kil, i_icon, i_lcon, i_null, i_loadI, i_loadL, i_loadR, i_istore, i_lstore, i_astore, i_iinc, i_dup, i_dup2, i_pop, i_iadd, i_isub, i_imul, i_idiv, i_irem, i_ineg, i_iand, i_ior, i_ishl, i_ishr, i_lxor, i_ladd, i_lsub, i_lmul, i_ldiv, i_lrem, i_lneg, i_lshl, i_lcmp, i_i2l, i_l2i, i_i2b, i_i2s, i_ifeq, i_ifne, i_iflt, i_ifge, i_ifgt, i_ifle, i_cmpeq, i_cmpne, i_cmplt, i_cmpge, i_cmpgt, i_cmple, i_acmpeq, i_acmpne, i_ifnull, i_ifnonnull, i_getI, i_getR, i_putI, i_putZ, i_putR, i_ald, i_ldL, i_ldR, i_ast, i_stL, i_stR, i_alen, i_new, i_newa, i_iret, i_zret, i_lret, i_aret, i_vret, i_raise, i_throw, i_recv, i_objinit, i_tsw3, lget, lset, lput1, lput2, lkil, ltrim, largs, isL, takev, dropv, nthv, pushO, catv, gd, true_and, and_true, Option.some.injEq, Prod.mk.injEq, exists_eq_left', if_true, if_false, reduceCtorEq, Bool.false_eq_true, lcmp_ge, lcmp_lt, lcmp_le, lcmp_gt, lcmp_eq, true_or, or_true, not_true_eq_false, not_false_eq_true, false_implies, true_implies, List.length_cons, List.length_nil, s1, s2, s3, s4, s9, s10, r1', r2, q1', q2, t1, eke, u1, v1]
      repeat (first | refine ⟨in_small (by omega) (by omega), ?_⟩ | (show (_ → _) ∧ (_ → _); first | refine ⟨by omega, fun _ => ?_⟩ | refine ⟨fun _ => ?_, by omega⟩) | refine ⟨by omega, ?_⟩ | refine ⟨⟨_, rfl, by assumption⟩, ?_⟩ | refine ⟨okT_I _, ?_⟩ | refine ⟨okT_S (by omega) (by omega), ?_⟩ | refine ⟨okT_B (by omega) (by omega), ?_⟩ | refine call0 (gd_of rfl) ?_)
      have hv := h0 (k + e) (by omega)
      rw [ztop] at hv
      have hlv : ((g e * h k).natAbs : Int) < 1000000000 ^ p := by
        have h2 := hb1 k e (by omega) (Nat.le_refl _)
        rw [Int.mul_comm] at h2
        exact nat_pw (H := 10 * (G * H)) (by omega) hsz
      refine sp_X2_part (p := p) ho t2 u2 v2 (by unfold wN cw; omega) (by unfold wN cw; omega) (by unfold wN clw; omega) hv (hg e (Nat.le_refl _)) g0 hlv (Int.lt_of_lt_of_le (nat_pw (hG e (Nat.le_refl _)) hGp) (pw_mono p160)) p160 p160 p160 (by decide) (by decide) (by decide) fun D2 g1 g2 => ?_
      rw [Int.mul_tdiv_cancel_left _ g0] at g2
      -- the inner loop
      have inner : ∀ (L i : Nat) (D3 : Dat), i + L = e + 1 → chF b o D D3 → (∀ k, k ≤ e → wD 1 2 D3 (clw b k) (g k)) → (∀ k', k ≤ k' → k' ≤ d - e → wD 1 2 D3 (cw b 1 k') (h k')) → (∀ j, j ≤ d → (j < k + i → wD 1 2 D3 (cw b 0 j) (zcv g (low h k) (e + 1) j)) ∧ (k + i ≤ j → wD 1 2 D3 (cw b 0 j) (zcv g (low h (k + 1)) (e + 1) j))) → Wp P_X8_without E 2 [some (aR b), some (aI e), some (aI ((d - e : Nat) : Int)), some (aI k), some (aI i)] [] B S D3 := by
        intro L
        induction L with
        | zero =>
          intro i D3 hi hfr3 hg3 h13 h03
          refine wp_in ?_
          simp only [P_X8_without, i_kil, i_icon, i_lcon, i_null, i_loadI, i_loadL, i_loadR, i_istore, i_lstore, i_astore, i_iinc, i_dup, i_dup2, i_pop, i_iadd, i_isub, i_imul, i_idiv, i_irem, i_ineg, i_iand, i_ior, i_ishl, i_ishr, i_lxor, i_ladd, i_lsub, i_lmul, i_ldiv, i_lrem, i_lneg, i_lshl, i_lcmp, i_i2l, i_l2i, i_i2b, i_i2s, i_ifeq, i_ifne, i_iflt, i_ifge, i_ifgt, i_ifle, i_cmpeq, i_cmpne, i_cmplt, i_cmpge, i_cmpgt, i_cmple, i_acmpeq, i_acmpne, i_ifnull, i_ifnonnull, i_getI, i_getR, i_putI, i_putZ, i_putR, i_ald, i_ldL, i_ldR, i_ast, i_stL, i_stR, i_alen, i_new, i_newa, i_iret, i_zret, i_lret, i_aret, i_vret, i_raise, i_throw, i_recv, i_objinit, i_tsw3, lget, lset, lput1, lput2, lkil, ltrim, largs, isL, takev, dropv, nthv, pushO, catv, gd, true_and, and_true, Option.some.injEq, Prod.mk.injEq, exists_eq_left', if_true, if_false, reduceCtorEq, Bool.false_eq_true, lcmp_ge, lcmp_lt, lcmp_le, lcmp_gt, lcmp_eq, true_or, or_true, not_true_eq_false, not_false_eq_true, false_implies, true_implies, List.length_cons, List.length_nil]
          repeat (first | refine ⟨in_small (by omega) (by omega), ?_⟩ | (show (_ → _) ∧ (_ → _); first | refine ⟨by omega, fun _ => ?_⟩ | refine ⟨fun _ => ?_, by omega⟩) | refine ⟨by omega, ?_⟩ | refine ⟨⟨_, rfl, by assumption⟩, ?_⟩ | refine ⟨okT_I _, ?_⟩ | refine ⟨okT_S (by omega) (by omega), ?_⟩ | refine ⟨okT_B (by omega) (by omega), ?_⟩ | refine call0 (gd_of rfl) ?_)
          refine ih D3 (by omega) hfr3 hg3 h13 fun j hj => ?_
          rcases Nat.lt_or_ge j (k + i) with w | w
          · exact (h03 j hj).1 w
          · have := (h03 j hj).2 w
            rwa [zlow, if_neg (by omega), Int.add_zero] at this
        | succ L ihL =>
          intro i D3 hi hfr3 hg3 h13 h03
          obtain ⟨a1, a2⟩ := s11 i (by omega)
          obtain ⟨b1, b2⟩ := s6 0 (k + i) (by omega) (by omega)
          have eki : (k : Int) + i = ((k + i : Nat) : Int) := by omega
          have b3 := b2.1
          have w3 := s17.1
          refine wp_in ?_
          simp only [P_X8_without, i_kil, i_icon, i_lcon, i_null, i_loadI, i_loadL, i_loadR, i_istore, i_lstore, i_astore, i_iinc, i_dup, i_dup2, i_pop, i_iadd, i_isub, i_imul, i_idiv, i_irem, i_ineg, i_iand, i_ior, i_ishl, i_ishr, i_lxor, i_ladd, i_lsub, i_lmul, i_ldiv, i_lrem, i_lneg, i_lshl, i_lcmp, i_i2l, i_l2i, i_i2b, i_i2s, i_ifeq, i_ifne, i_iflt, i_ifge, i_ifgt, i_ifle, i_cmpeq, i_cmpne, i_cmplt, i_cmpge, i_cmpgt, i_cmple, i_acmpeq, i_acmpne, i_ifnull, i_ifnonnull, i_getI, i_getR, i_putI, i_putZ, i_putR, i_ald, i_ldL, i_ldR, i_ast, i_stL, i_stR, i_alen, i_new, i_newa, i_iret, i_zret, i_lret, i_aret, i_vret, i_raise, i_throw, i_recv, i_objinit, i_tsw3, lget, lset, lput1, lput2, lkil, ltrim, largs, isL, takev, dropv, nthv, pushO, catv, gd, true_and, and_true, Option.some.injEq, Prod.mk.injEq, exists_eq_left', if_true, if_false, reduceCtorEq, Bool.false_eq_true, lcmp_ge, lcmp_lt, lcmp_le, lcmp_gt, lcmp_eq, true_or, or_true, not_true_eq_false, not_false_eq_true, false_implies, true_implies, List.length_cons, List.length_nil, s1, s2, s3, s4, s9, s10, s16, r1', r2, q1', q2, t1, eki, b1, a1]
          repeat (first | refine ⟨in_small (by omega) (by omega), ?_⟩ | (show (_ → _) ∧ (_ → _); first | refine ⟨by omega, fun _ => ?_⟩ | refine ⟨fun _ => ?_, by omega⟩) | refine ⟨by omega, ?_⟩ | refine ⟨⟨_, rfl, by assumption⟩, ?_⟩ | refine ⟨okT_I _, ?_⟩ | refine ⟨okT_S (by omega) (by omega), ?_⟩ | refine ⟨okT_B (by omega) (by omega), ?_⟩ | refine call0 (gd_of rfl) ?_)
          refine sp_X2_times (p := p) (q := p) s17 t2 a2 (by unfold cw; omega) (by unfold clw; omega) (h13 k (Nat.le_refl _) (by omega)) (hg3 i (by omega)) (nat_pw (hH k (by omega)) hHp) (nat_pw (hG i (by omega)) hGp) p160 p160 (by omega) (by decide) (by decide) (by decide) fun D4 i1 i2 => ?_
          have hold : wD 1 2 D4 (cw b 0 (k + i)) (zcv g (low h (k + 1)) (e + 1) (k + i)) := ((h03 (k + i) (by omega)).2 (Nat.le_refl _)).congr (fun i' => i1 _ i' (by unfold cw; omega) (by unfold cw; omega)) fun i' => i1 _ i' (by unfold cw; omega) (by unfold cw; omega)
          have l1 := zb (k + 1) (k + i)
          have l2 := hb1 k i (by omega) (by omega)
          simp only [P_X8_without, i_kil, i_icon, i_lcon, i_null, i_loadI, i_loadL, i_loadR, i_istore, i_lstore, i_astore, i_iinc, i_dup, i_dup2, i_pop, i_iadd, i_isub, i_imul, i_idiv, i_irem, i_ineg, i_iand, i_ior, i_ishl, i_ishr, i_lxor, i_ladd, i_lsub, i_lmul, i_ldiv, i_lrem, i_lneg, i_lshl, i_lcmp, i_i2l, i_l2i, i_i2b, i_i2s, i_ifeq, i_ifne, i_iflt, i_ifge, i_ifgt, i_ifle, i_cmpeq, i_cmpne, i_cmplt, i_cmpge, i_cmpgt, i_cmple, i_acmpeq, i_acmpne, i_ifnull, i_ifnonnull, i_getI, i_getR, i_putI, i_putZ, i_putR, i_ald, i_ldL, i_ldR, i_ast, i_stL, i_stR, i_alen, i_new, i_newa, i_iret, i_zret, i_lret, i_aret, i_vret, i_raise, i_throw, i_recv, i_objinit, i_tsw3, lget, lset, lput1, lput2, lkil, ltrim, largs, isL, takev, dropv, nthv, pushO, catv, gd, true_and, and_true, Option.some.injEq, Prod.mk.injEq, exists_eq_left', if_true, if_false, reduceCtorEq, Bool.false_eq_true, lcmp_ge, lcmp_lt, lcmp_le, lcmp_gt, lcmp_eq, true_or, or_true, not_true_eq_false, not_false_eq_true, false_implies, true_implies, List.length_cons, List.length_nil, s1, s2, s3, s4, s9, s10, s16, r1', r2, q1', q2, t1, eki, b1, a1]
          repeat (first | refine ⟨in_small (by omega) (by omega), ?_⟩ | (show (_ → _) ∧ (_ → _); first | refine ⟨by omega, fun _ => ?_⟩ | refine ⟨fun _ => ?_, by omega⟩) | refine ⟨by omega, ?_⟩ | refine ⟨⟨_, rfl, by assumption⟩, ?_⟩ | refine ⟨okT_I _, ?_⟩ | refine ⟨okT_S (by omega) (by omega), ?_⟩ | refine ⟨okT_B (by omega) (by omega), ?_⟩ | refine call0 (gd_of rfl) ?_)
          refine sp_X2_add ho1 b2 b2 s17 hold i2 (.inr rfl) (zbp _ (by omega)) (zbp _ (by omega)) ?_ (by decide) (by decide) (by decide) fun D5 j1 j2 => ?_
          · refine Int.lt_of_lt_of_le ?_ (pw_mono p160)
            have h9 : 10 * (G * H) = 9 * (G * H) + G * H := by omega
            rw [h9] at hsz
            generalize 9 * (G * H) = U at *
            generalize G * H = V at *
            omega
          simp only [P_X8_without, i_kil, i_icon, i_lcon, i_null, i_loadI, i_loadL, i_loadR, i_istore, i_lstore, i_astore, i_iinc, i_dup, i_dup2, i_pop, i_iadd, i_isub, i_imul, i_idiv, i_irem, i_ineg, i_iand, i_ior, i_ishl, i_ishr, i_lxor, i_ladd, i_lsub, i_lmul, i_ldiv, i_lrem, i_lneg, i_lshl, i_lcmp, i_i2l, i_l2i, i_i2b, i_i2s, i_ifeq, i_ifne, i_iflt, i_ifge, i_ifgt, i_ifle, i_cmpeq, i_cmpne, i_cmplt, i_cmpge, i_cmpgt, i_cmple, i_acmpeq, i_acmpne, i_ifnull, i_ifnonnull, i_getI, i_getR, i_putI, i_putZ, i_putR, i_ald, i_ldL, i_ldR, i_ast, i_stL, i_stR, i_alen, i_new, i_newa, i_iret, i_zret, i_lret, i_aret, i_vret, i_raise, i_throw, i_recv, i_objinit, i_tsw3, lget, lset, lput1, lput2, lkil, ltrim, largs, isL, takev, dropv, nthv, pushO, catv, gd, true_and, and_true, Option.some.injEq, Prod.mk.injEq, exists_eq_left', if_true, if_false, reduceCtorEq, Bool.false_eq_true, lcmp_ge, lcmp_lt, lcmp_le, lcmp_gt, lcmp_eq, true_or, or_true, not_true_eq_false, not_false_eq_true, false_implies, true_implies, List.length_cons, List.length_nil]
          repeat (first | refine ⟨in_small (by omega) (by omega), ?_⟩ | (show (_ → _) ∧ (_ → _); first | refine ⟨by omega, fun _ => ?_⟩ | refine ⟨fun _ => ?_, by omega⟩) | refine ⟨by omega, ?_⟩ | refine ⟨⟨_, rfl, by assumption⟩, ?_⟩ | refine ⟨okT_I _, ?_⟩ | refine ⟨okT_S (by omega) (by omega), ?_⟩ | refine ⟨okT_B (by omega) (by omega), ?_⟩ | refine call0 (gd_of rfl) ?_)
          have enew : zcv g (low h (k + 1)) (e + 1) (k + i) + -1 * (h k * g i) = zcv g (low h k) (e + 1) (k + i) := by
            rw [zlow, if_pos (by omega), show k + i - k = i by omega]; omega
          rw [enew] at j2
          have fr : ∀ c i', c ≠ b + 18 → c ≠ b + 19 → c ≠ cw b 0 (k + i) → c ≠ cw b 0 (k + i) + 1 → D5 c i' = D3 c i' := fun c i' c1 c2 c3 c4 => by rw [j1 c i' c3 c4, i1 c i' c1 c2]
          refine ihL (i + 1) D5 (by omega) (fun c i' c1 c2 => ?_) (fun k' hk' => ?_) (fun k' hk1 hk2 => ?_) fun j hj => ⟨fun w => ?_, fun w => ?_⟩
          · rw [fr c i' (by omega) (by omega) (by unfold cw; omega) (by unfold cw; omega)]; exact hfr3 c i' c1 c2
          · have := clw_cw (b := b) (r := 0) (k := k + i) (j := k') (by omega) (by omega)
            exact (hg3 k' hk').congr (fun i' => fr _ i' (by unfold clw; omega) (by unfold clw; omega) (by omega) (by omega)) fun i' => fr _ i' (by unfold clw; omega) (by unfold clw; omega) (by omega) (by omega)
          · have nb := cw_ne (b := b) (r := 1) (r' := 0) (k := k') (k' := k + i) (by omega) (by omega) (fun w2 => by omega)
            exact (h13 k' hk1 hk2).congr (fun i' => fr _ i' (by unfold cw; omega) (by unfold cw; omega) (by omega) (by omega)) fun i' => fr _ i' (by unfold cw; omega) (by unfold cw; omega) (by omega) (by omega)
          · by_cases q : j = k + i
            · rw [q]; exact j2
            · have nb := cw_ne (b := b) (r := 0) (r' := 0) (k := j) (k' := k + i) (by omega) (by omega) (fun w2 => q w2.2)
              exact ((h03 j hj).1 (by omega)).congr (fun i' => fr _ i' (by unfold cw; omega) (by unfold cw; omega) (by omega) (by omega)) fun i' => fr _ i' (by unfold cw; omega) (by unfold cw; omega) (by omega) (by omega)
          · have nb := cw_ne (b := b) (r := 0) (r' := 0) (k := j) (k' := k + i) (by omega) (by omega) (fun w2 => by omega)
            exact ((h03 j hj).2 (by omega)).congr (fun i' => fr _ i' (by unfold cw; omega) (by unfold cw; omega) (by omega) (by omega)) fun i' => fr _ i' (by unfold cw; omega) (by unfold cw; omega) (by omega) (by omega)
      simp only [P_X8_without, i_kil, i_icon, i_lcon, i_null, i_loadI, i_loadL, i_loadR, i_istore, i_lstore, i_astore, i_iinc, i_dup, i_dup2, i_pop, i_iadd, i_isub, i_imul, i_idiv, i_irem, i_ineg, i_iand, i_ior, i_ishl, i_ishr, i_lxor, i_ladd, i_lsub, i_lmul, i_ldiv, i_lrem, i_lneg, i_lshl, i_lcmp, i_i2l, i_l2i, i_i2b, i_i2s, i_ifeq, i_ifne, i_iflt, i_ifge, i_ifgt, i_ifle, i_cmpeq, i_cmpne, i_cmplt, i_cmpge, i_cmpgt, i_cmple, i_acmpeq, i_acmpne, i_ifnull, i_ifnonnull, i_getI, i_getR, i_putI, i_putZ, i_putR, i_ald, i_ldL, i_ldR, i_ast, i_stL, i_stR, i_alen, i_new, i_newa, i_iret, i_zret, i_lret, i_aret, i_vret, i_raise, i_throw, i_recv, i_objinit, i_tsw3, lget, lset, lput1, lput2, lkil, ltrim, largs, isL, takev, dropv, nthv, pushO, catv, gd, true_and, and_true, Option.some.injEq, Prod.mk.injEq, exists_eq_left', if_true, if_false, reduceCtorEq, Bool.false_eq_true, lcmp_ge, lcmp_lt, lcmp_le, lcmp_gt, lcmp_eq, true_or, or_true, not_true_eq_false, not_false_eq_true, false_implies, true_implies, List.length_cons, List.length_nil]
      have fr : ∀ c i', c ≠ cw b 1 k → c ≠ cw b 1 k + 1 → (c ≤ o ∨ o + 10 < c) → D2 c i' = D1 c i' := fun c i' c1 c2 c3 => g1 c i' c1 c2 c3
      refine inner (e + 1) 0 D2 (by omega) (fun c i' c1 c2 => ?_) (fun k' hk' => ?_) (fun k' hk1 hk2 => ?_) fun j hj => ⟨fun w => ?_, fun w => ?_⟩
      · rw [fr c i' (by unfold cw; omega) (by unfold cw; omega) c2]; exact hfr c i' c1 c2
      · have := clw_cw (b := b) (r := 1) (k := k) (j := k') (by omega) (by omega)
        exact (hg k' hk').congr (fun i' => fr _ i' (by omega) (by omega) (by unfold clw; omega)) fun i' => fr _ i' (by omega) (by omega) (by unfold clw; omega)
      · by_cases q : k' = k
        · rw [q]; exact g2
        · have nb := cw_ne (b := b) (r := 1) (r' := 1) (k := k') (k' := k) (by omega) (by omega) (fun w2 => q w2.2)
          exact (h1 k' (by omega) hk2).congr (fun i' => fr _ i' (by omega) (by omega) (by unfold cw; omega)) fun i' => fr _ i' (by omega) (by omega) (by unfold cw; omega)
      · have nb := cw_ne (b := b) (r := 0) (r' := 1) (k := j) (k' := k) (by omega) (by omega) (fun w2 => by omega)
        have := (h0 j hj).congr (D' := D2) (fun i' => fr _ i' (by omega) (by omega) (by unfold cw; omega)) fun i' => fr _ i' (by omega) (by omega) (by unfold cw; omega)
        rwa [zlow, if_neg (by omega), Int.add_zero] at this
      · have nb := cw_ne (b := b) (r := 0) (r' := 1) (k := j) (k' := k) (by omega) (by omega) (fun w2 => by omega)
        exact (h0 j hj).congr (fun i' => fr _ i' (by omega) (by omega) (by unfold cw; omega)) fun i' => fr _ i' (by omega) (by omega) (by unfold cw; omega)
  have ed : (d : Int) - e = ((d - e : Nat) : Int) := by omega
  refine wp_in ?_
  simp only [P_X8_without, i_kil, i_icon, i_lcon, i_null, i_loadI, i_loadL, i_loadR, i_istore, i_lstore, i_astore, i_iinc, i_dup, i_dup2, i_pop, i_iadd, i_isub, i_imul, i_idiv, i_irem, i_ineg, i_iand, i_ior, i_ishl, i_ishr, i_lxor, i_ladd, i_lsub, i_lmul, i_ldiv, i_lrem, i_lneg, i_lshl, i_lcmp, i_i2l, i_l2i, i_i2b, i_i2s, i_ifeq, i_ifne, i_iflt, i_ifge, i_ifgt, i_ifle, i_cmpeq, i_cmpne, i_cmplt, i_cmpge, i_cmpgt, i_cmple, i_acmpeq, i_acmpne, i_ifnull, i_ifnonnull, i_getI, i_getR, i_putI, i_putZ, i_putR, i_ald, i_ldL, i_ldR, i_ast, i_stL, i_stR, i_alen, i_new, i_newa, i_iret, i_zret, i_lret, i_aret, i_vret, i_raise, i_throw, i_recv, i_objinit, i_tsw3, lget, lset, lput1, lput2, lkil, ltrim, largs, isL, takev, dropv, nthv, pushO, catv, gd, true_and, and_true, Option.some.injEq, Prod.mk.injEq, exists_eq_left', if_true, if_false, reduceCtorEq, Bool.false_eq_true, lcmp_ge, lcmp_lt, lcmp_le, lcmp_gt, lcmp_eq, true_or, or_true, not_true_eq_false, not_false_eq_true, false_implies, true_implies, List.length_cons, List.length_nil, s1, s7, s8, hd0, ed]
  repeat (first | refine ⟨in_small (by omega) (by omega), ?_⟩ | (show (_ → _) ∧ (_ → _); first | refine ⟨by omega, fun _ => ?_⟩ | refine ⟨fun _ => ?_, by omega⟩) | refine ⟨by omega, ?_⟩ | refine ⟨⟨_, rfl, by assumption⟩, ?_⟩ | refine ⟨okT_I _, ?_⟩ | refine ⟨okT_S (by omega) (by omega), ?_⟩ | refine ⟨okT_B (by omega) (by omega), ?_⟩ | refine call0 (gd_of rfl) ?_)
  have := first (d - e + 1) D (Nat.le_refl _) (fun _ _ _ _ => rfl) hl (fun k h1 h2 => by omega) fun j hj => by
    have h2 : zcv g (low h (d - e + 1)) (e + 1) j = f j := by
      rw [hq j hj]
      congr 1
      funext t
      unfold low
      by_cases w : t < d - e + 1
      · rw [if_pos w]
      · rw [if_neg w, hz t (by omega)]
    rw [h2]; exact hf j hj
  rwa [show ((d - e + 1 : Nat) : Int) - 1 = ((d - e : Nat) : Int) by omega] at this
end WITHOUT
