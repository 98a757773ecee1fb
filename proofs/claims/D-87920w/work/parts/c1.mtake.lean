/-! the model's rows: one less a multiple of another, as small as may be -/
set_option maxRecDepth 100000
set_option linter.unusedVariables false
/-- the model's places for rows -/
def mwS (S : Stat) (M : Nat) : Prop := S.2.1 M 60 = some (M + 10781) ∧ wS 17 S (M + 10781) 260 ∧ S.2.1 M 61 = some (M + 10783) ∧ wS 17 S (M + 10783) 260 ∧ S.2.1 M 62 = some (M + 10785) ∧ wS 17 S (M + 10785) 260 ∧ S.2.1 M 63 = some (M + 10787) ∧ wS 17 S (M + 10787) 260
/-- what may be written: the reckoning places, the row, the places for rows -/
def taW (M vb : Nat) (D D' : Dat) : Prop := ∀ c i, (c ≤ M ∨ M + 16 < c) → (c < vb ∨ vb + 139 < c) → (c < M + 10781 ∨ M + 10788 < c) → D' c i = D c i
def zrow (D : Dat) (vb : Nat) (V : Nat → Int) : Prop := ∀ k : Nat, k < 70 → wD 2 1 D (vb + 2 * k) (V k)
theorem zrow.congr {D D' : Dat} {vb : Nat} {V : Nat → Int} (h : zrow D vb V) (e : ∀ c i, vb ≤ c → c ≤ vb + 139 → D' c i = D c i) : zrow D' vb V := fun k hk => (h k hk).congr (fun i => e _ _ (by omega) (by omega)) (fun i => e _ _ (by omega) (by omega))
/-- V'' is a primitive multiple of V a - Y b -/
def tkR (V Y V' : Nat → Int) (c : Nat) : Prop := ∃ a b G : Int, a ≠ 0 ∧ a * V c = b * Y c ∧ (∀ k, k < 70 → V k * a - Y k * b = G * V' k) ∧ ((∀ k, k < 70 → V k * a - Y k * b = 0 ∧ V' k = 0) ∨ (G ≠ 0 ∧ ∀ r : Nat, 1 < r → ∃ k, k < 70 ∧ ¬ (r : Int) ∣ V' k))
set_option maxHeartbeats 4000000 in
theorem sp_X16_takeAway {E : Ex} {B : Nat × Nat} {S : Stat} {D : Dat} {M va vb ya yb c : Nat} {V Y : Nat → Int} {xc : Int} (hM : mS S M) (hW : mwS S M) (hV : nmS S va vb 70 26) (hY : nmS S ya yb 70 26) (lv : M + 16 < vb ∧ vb + 139 < M + 10781) (ly : M + 16 < yb ∧ yb + 139 < M + 10781) (lvy : vb + 139 < yb ∨ yb + 139 < vb) (hv : zrow D vb V) (hy : zrow D yb Y) (hv2 : ∀ k, k < 70 → ((V k).natAbs : Int) < 1000000000 ^ 12) (hy2 : ∀ k, k < 70 → ((Y k).natAbs : Int) < 1000000000 ^ 11) (hc : c < 70) (hvc : V c ≠ 0) (hyc : Y c ≠ 0) (hxc : xc = c)
    (K : ∀ (D' : Dat) (V' : Nat → Int), taW M vb D D' → zrow D' vb V' → (∀ k, k < 70 → ((V' k).natAbs : Int) < 1000000000 ^ 24) → tkR V Y V' c → E (.inl none) B S D') : Wp P_X16_takeAway E 0 [some (aR M), some (aR va), some (aR ya), some (aI xc)] [] B S D := by
  subst hxc
  obtain ⟨w1, w2, w3, w4, w5, w6, w7, w8⟩ := hW
  have hR := hM.r
  have hWw := hM.w
  obtain ⟨M1, M2, M3, m3, m4, m5, m6, m7, m8, m9, m10, m11, m12, m13, m14, m15, m16, m17, m18, m19, m20⟩ := id hM
  have hV1 := hV.1
  have hY1 := hY.1
  have c1 := w2.1
  have c2 := w4.1
  have c3 := w6.1
  have c4' := w8.1
  obtain ⟨vc1, vc2⟩ := hV.2 c hc
  obtain ⟨yc1, yc2⟩ := hY.2 c hc
  have p26 : ∀ {z : Int} {p : Nat}, p ≤ 26 → (z.natAbs : Int) < 1000000000 ^ p → (z.natAbs : Int) < 1000000000 ^ 26 := fun hp h => Int.lt_of_lt_of_le h (pw_mono hp)
  have p260 : ∀ {z : Int} {p : Nat}, p ≤ 260 → (z.natAbs : Int) < 1000000000 ^ p → (z.natAbs : Int) < 1000000000 ^ 260 := fun hp h => Int.lt_of_lt_of_le h (pw_mono hp)
  -- the gcd and the two factors
  let g : Int := (Int.gcd (V c) (Y c) : Int)
  let a : Int := (Y c).tdiv g
  let b : Int := (V c).tdiv g
  have hg0 : g ≠ 0 := by
    show ((Int.gcd (V c) (Y c) : Nat) : Int) ≠ 0
    intro w
    have : Int.gcd (V c) (Y c) = 0 := by omega
    exact hvc (Int.gcd_eq_zero_iff.mp this).1
  have hga : g * a = Y c := Int.mul_tdiv_cancel' (Int.gcd_dvd_right ..)
  have hgb : g * b = V c := Int.mul_tdiv_cancel' (Int.gcd_dvd_left ..)
  have ha0 : a ≠ 0 := fun w => hyc (by rw [← hga, w, Int.mul_zero])
  have hab : a * V c = b * Y c := by rw [← hga, ← hgb]; grind
  have ha2 : ((a).natAbs : Int) < 1000000000 ^ 11 := tdiv_le (hy2 c hc)
  have hb2 : ((b).natAbs : Int) < 1000000000 ^ 12 := tdiv_le (hv2 c hc)
  let T : Nat → Int := fun k => V k * a - Y k * b
  have hT : ∀ k, k < 70 → ((T k).natAbs : Int) < 1000000000 ^ 24 := fun k hk => by
    have h1 := pw_mul (hv2 k hk) ha2
    have h2 := pw_mul (hy2 k hk) hb2
    have e : (1000000000 : Int) ^ 24 = 1000000000 * 1000000000 ^ 23 := pw_succ 23
    have hp := pw_pos 23
    show ((V k * a - Y k * b).natAbs : Int) < _
    rw [e]
    rw [show 12 + 11 = 23 from rfl] at h1
    rw [show 11 + 12 = 23 from rfl] at h2
    generalize (1000000000 : Int) ^ 23 = H at *
    generalize V k * a = X at *
    generalize Y k * b = Z at *
    omega
  -- the last loop: everything over the common divisor
  have last : ∀ (G : Int), 0 ≤ G → (∀ j, j < 70 → G ∣ T j) → (∀ r : Int, (∀ j, j < 70 → r ∣ T j) → r ∣ G) → (G = 0 → ∀ j, j < 70 → T j = 0) → ∀ (L k : Nat) (D1 : Dat), k + L = 70 → taW M vb D D1 → wD 2 1 D1 (M + 10787) G → (G.natAbs : Int) < 1000000000 ^ 24 → (∀ j : Nat, j < k → wD 2 1 D1 (vb + 2 * j) ((T j).tdiv G)) → (∀ j : Nat, k ≤ j → j < 70 → wD 2 1 D1 (vb + 2 * j) (T j)) → Wp P_X16_takeAway E 5 [some (aR M), some (aR va), none, none, some (aI k)] [] B S D1 := by
    intro G hG0 hGd hGg hGz
    have hdiv : ∀ j, j < 70 → G * (T j).tdiv G = T j := fun j hj => Int.mul_tdiv_cancel' (hGd j hj)
    have fin : ∀ D1 : Dat, taW M vb D D1 → (∀ j : Nat, j < 70 → wD 2 1 D1 (vb + 2 * j) ((T j).tdiv G)) → Wp P_X16_takeAway E 7 [] [] B S D1 := fun D1 f1 f2 => by
      refine wp_in ?_
      simp only [P_X16_takeAway, i_kil, i_icon, i_lcon, i_null, i_loadI, i_loadL, i_loadR, i_istore, i_lstore, i_astore, i_iinc, i_dup, i_dup2, i_pop, i_iadd, i_isub, i_imul, i_idiv, i_irem, i_ineg, i_iand, i_ior, i_ishl, i_ishr, i_lxor, i_ladd, i_lsub, i_lmul, i_ldiv, i_lrem, i_lneg, i_lshl, i_lcmp, i_i2l, i_l2i, i_i2b, i_i2s, i_ifeq, i_ifne, i_iflt, i_ifge, i_ifgt, i_ifle, i_cmpeq, i_cmpne, i_cmplt, i_cmpge, i_cmpgt, i_cmple, i_acmpeq, i_acmpne, i_ifnull, i_ifnonnull, i_getI, i_getR, i_putI, i_putZ, i_putR, i_ald, i_ldL, i_ldR, i_ast, i_stL, i_stR, i_alen, i_new, i_newa, i_iret, i_zret, i_lret, i_aret, i_vret, i_raise, i_throw, i_recv, i_objinit, i_tsw3, lget, lset, lput1, lput2, lkil, ltrim, largs, isL, takev, dropv, nthv, pushO, catv, gd, true_and, and_true, Option.some.injEq, Prod.mk.injEq, exists_eq_left', if_true, if_false, reduceCtorEq, Bool.false_eq_true, lcmp_ge, lcmp_lt, lcmp_le, lcmp_gt, lcmp_eq, true_or, or_true, not_true_eq_false, not_false_eq_true, false_implies, true_implies, List.length_cons, List.length_nil]
      refine K D1 (fun j => (T j).tdiv G) f1 f2 (fun j hj => tdiv_le (hT j hj)) ⟨a, b, G, ha0, hab, fun j hj => (hdiv j hj).symm, ?_⟩
      by_cases z : G = 0
      · left
        intro j hj
        have := hGz z j hj
        exact ⟨this, by show (T j).tdiv G = 0; rw [this]; exact Int.zero_tdiv _⟩
      · right
        refine ⟨z, fun r hr => ?_⟩
        refine Classical.byContradiction fun w => ?_
        have all : ∀ j, j < 70 → (r : Int) ∣ (T j).tdiv G := fun j hj => Classical.byContradiction fun y => w ⟨j, hj, y⟩
        have h2 := hGg (G * r) fun j hj => by
          rw [← hdiv j hj]
          exact Int.mul_dvd_mul_left G (all j hj)
        obtain ⟨s, hs⟩ := h2
        have h3 : (r : Int) * s = 1 := by
          have : G * ((r : Int) * s) = G * 1 := by rw [← Int.mul_assoc, ← hs, Int.mul_one]
          exact Int.eq_of_mul_eq_mul_left z this
        have h4 : (r : Int) ∣ 1 := ⟨s, h3.symm⟩
        have h5 := Int.natAbs_dvd_natAbs.mpr h4
        have h6 := Nat.le_of_dvd (by decide) h5
        omega
    intro L
    induction L with
    | zero =>
      intro k D1 hk f1 f2 f2b f3 f4
      have : k = 70 := by omega
      subst this
      refine wp_in ?_
      simp only [P_X16_takeAway, i_kil, i_icon, i_lcon, i_null, i_loadI, i_loadL, i_loadR, i_istore, i_lstore, i_astore, i_iinc, i_dup, i_dup2, i_pop, i_iadd, i_isub, i_imul, i_idiv, i_irem, i_ineg, i_iand, i_ior, i_ishl, i_ishr, i_lxor, i_ladd, i_lsub, i_lmul, i_ldiv, i_lrem, i_lneg, i_lshl, i_lcmp, i_i2l, i_l2i, i_i2b, i_i2s, i_ifeq, i_ifne, i_iflt, i_ifge, i_ifgt, i_ifle, i_cmpeq, i_cmpne, i_cmplt, i_cmpge, i_cmpgt, i_cmple, i_acmpeq, i_acmpne, i_ifnull, i_ifnonnull, i_getI, i_getR, i_putI, i_putZ, i_putR, i_ald, i_ldL, i_ldR, i_ast, i_stL, i_stR, i_alen, i_new, i_newa, i_iret, i_zret, i_lret, i_aret, i_vret, i_raise, i_throw, i_recv, i_objinit, i_tsw3, lget, lset, lput1, lput2, lkil, ltrim, largs, isL, takev, dropv, nthv, pushO, catv, gd, true_and, and_true, Option.some.injEq, Prod.mk.injEq, exists_eq_left', if_true, if_false, reduceCtorEq, Bool.false_eq_true, lcmp_ge, lcmp_lt, lcmp_le, lcmp_gt, lcmp_eq, true_or, or_true, not_true_eq_false, not_false_eq_true, false_implies, true_implies, List.length_cons, List.length_nil]
      repeat (first | refine ⟨in_small (by omega) (by omega), ?_⟩ | (show (_ → _) ∧ (_ → _); first | refine ⟨by omega, fun _ => ?_⟩ | refine ⟨fun _ => ?_, by omega⟩) | refine ⟨by omega, ?_⟩ | refine ⟨⟨_, rfl, by assumption⟩, ?_⟩ | refine ⟨okT_I _, ?_⟩ | refine ⟨okT_S (by omega) (by omega), ?_⟩ | refine ⟨okT_B (by omega) (by omega), ?_⟩ | refine call0 (gd_of rfl) ?_)
      exact fin D1 f1 f3
    | succ L ih =>
      intro k D1 hk f1 f2 f2b f3 f4
      obtain ⟨vk1, vk2⟩ := hV.2 k (by omega)
      have vk3 := vk2.1
      have hk4 := f4 k (Nat.le_refl _) (by omega)
      have hs := wD_nn hk4
      refine wp_in ?_
      simp only [P_X16_takeAway, i_kil, i_icon, i_lcon, i_null, i_loadI, i_loadL, i_loadR, i_istore, i_lstore, i_astore, i_iinc, i_dup, i_dup2, i_pop, i_iadd, i_isub, i_imul, i_idiv, i_irem, i_ineg, i_iand, i_ior, i_ishl, i_ishr, i_lxor, i_ladd, i_lsub, i_lmul, i_ldiv, i_lrem, i_lneg, i_lshl, i_lcmp, i_i2l, i_l2i, i_i2b, i_i2s, i_ifeq, i_ifne, i_iflt, i_ifge, i_ifgt, i_ifle, i_cmpeq, i_cmpne, i_cmplt, i_cmpge, i_cmpgt, i_cmple, i_acmpeq, i_acmpne, i_ifnull, i_ifnonnull, i_getI, i_getR, i_putI, i_putZ, i_putR, i_ald, i_ldL, i_ldR, i_ast, i_stL, i_stR, i_alen, i_new, i_newa, i_iret, i_zret, i_lret, i_aret, i_vret, i_raise, i_throw, i_recv, i_objinit, i_tsw3, lget, lset, lput1, lput2, lkil, ltrim, largs, isL, takev, dropv, nthv, pushO, catv, gd, true_and, and_true, Option.some.injEq, Prod.mk.injEq, exists_eq_left', if_true, if_false, reduceCtorEq, Bool.false_eq_true, lcmp_ge, lcmp_lt, lcmp_le, lcmp_gt, lcmp_eq, true_or, or_true, not_true_eq_false, not_false_eq_true, false_implies, true_implies, List.length_cons, List.length_nil, M1, w7]
      repeat (first | refine ⟨in_small (by omega) (by omega), ?_⟩ | (show (_ → _) ∧ (_ → _); first | refine ⟨by omega, fun _ => ?_⟩ | refine ⟨fun _ => ?_, by omega⟩) | refine ⟨by omega, ?_⟩ | refine ⟨⟨_, rfl, by assumption⟩, ?_⟩ | refine ⟨okT_I _, ?_⟩ | refine ⟨okT_S (by omega) (by omega), ?_⟩ | refine ⟨okT_B (by omega) (by omega), ?_⟩ | refine call0 (gd_of rfl) ?_)
      refine isOne_at w8 f2 (by omega) (by omega) fun v v1 v2 => ?_
      simp only [P_X16_takeAway, i_kil, i_icon, i_lcon, i_null, i_loadI, i_loadL, i_loadR, i_istore, i_lstore, i_astore, i_iinc, i_dup, i_dup2, i_pop, i_iadd, i_isub, i_imul, i_idiv, i_irem, i_ineg, i_iand, i_ior, i_ishl, i_ishr, i_lxor, i_ladd, i_lsub, i_lmul, i_ldiv, i_lrem, i_lneg, i_lshl, i_lcmp, i_i2l, i_l2i, i_i2b, i_i2s, i_ifeq, i_ifne, i_iflt, i_ifge, i_ifgt, i_ifle, i_cmpeq, i_cmpne, i_cmplt, i_cmpge, i_cmpgt, i_cmple, i_acmpeq, i_acmpne, i_ifnull, i_ifnonnull, i_getI, i_getR, i_putI, i_putZ, i_putR, i_ald, i_ldL, i_ldR, i_ast, i_stL, i_stR, i_alen, i_new, i_newa, i_iret, i_zret, i_lret, i_aret, i_vret, i_raise, i_throw, i_recv, i_objinit, i_tsw3, lget, lset, lput1, lput2, lkil, ltrim, largs, isL, takev, dropv, nthv, pushO, catv, gd, true_and, and_true, Option.some.injEq, Prod.mk.injEq, exists_eq_left', if_true, if_false, reduceCtorEq, Bool.false_eq_true, lcmp_ge, lcmp_lt, lcmp_le, lcmp_gt, lcmp_eq, true_or, or_true, not_true_eq_false, not_false_eq_true, false_implies, true_implies, List.length_cons, List.length_nil, M1, w7, hV1, vk1, vk3, hs]
      refine ⟨fun y => ?_, fun y => ?_⟩
      · have hG1 : G = 1 := Classical.byContradiction fun z => y (v2.mpr z)
        refine fin D1 f1 fun j hj => ?_
        rw [hG1, Int.tdiv_one]
        rcases Nat.lt_or_ge j k with z | z
        · have := f3 j z; rw [hG1, Int.tdiv_one] at this; exact this
        · exact f4 j z hj
      · repeat (first | refine ⟨in_small (by omega) (by omega), ?_⟩ | (show (_ → _) ∧ (_ → _); first | refine ⟨by omega, fun _ => ?_⟩ | refine ⟨fun _ => ?_, by omega⟩) | refine ⟨by omega, ?_⟩ | refine ⟨⟨_, rfl, by assumption⟩, ?_⟩ | refine ⟨okT_I _, ?_⟩ | refine ⟨okT_S (by omega) (by omega), ?_⟩ | refine ⟨okT_B (by omega) (by omega), ?_⟩ | refine call0 (gd_of rfl) ?_)
        have next : ∀ D2 : Dat, (∀ x i, (x ≤ M ∨ M + 16 < x) → x ≠ vb + 2 * k → x ≠ vb + 2 * k + 1 → D2 x i = D1 x i) → wD 2 1 D2 (vb + 2 * k) ((T k).tdiv G) → Wp P_X16_takeAway E 6 [some (aR M), some (aR va), none, none, some (aI k)] [] B S D2 := fun D2 g1 g2 => by
          refine wp_in ?_
          simp only [P_X16_takeAway, i_kil, i_icon, i_lcon, i_null, i_loadI, i_loadL, i_loadR, i_istore, i_lstore, i_astore, i_iinc, i_dup, i_dup2, i_pop, i_iadd, i_isub, i_imul, i_idiv, i_irem, i_ineg, i_iand, i_ior, i_ishl, i_ishr, i_lxor, i_ladd, i_lsub, i_lmul, i_ldiv, i_lrem, i_lneg, i_lshl, i_lcmp, i_i2l, i_l2i, i_i2b, i_i2s, i_ifeq, i_ifne, i_iflt, i_ifge, i_ifgt, i_ifle, i_cmpeq, i_cmpne, i_cmplt, i_cmpge, i_cmpgt, i_cmple, i_acmpeq, i_acmpne, i_ifnull, i_ifnonnull, i_getI, i_getR, i_putI, i_putZ, i_putR, i_ald, i_ldL, i_ldR, i_ast, i_stL, i_stR, i_alen, i_new, i_newa, i_iret, i_zret, i_lret, i_aret, i_vret, i_raise, i_throw, i_recv, i_objinit, i_tsw3, lget, lset, lput1, lput2, lkil, ltrim, largs, isL, takev, dropv, nthv, pushO, catv, gd, true_and, and_true, Option.some.injEq, Prod.mk.injEq, exists_eq_left', if_true, if_false, reduceCtorEq, Bool.false_eq_true, lcmp_ge, lcmp_lt, lcmp_le, lcmp_gt, lcmp_eq, true_or, or_true, not_true_eq_false, not_false_eq_true, false_implies, true_implies, List.length_cons, List.length_nil]
          repeat (first | refine ⟨in_small (by omega) (by omega), ?_⟩ | (show (_ → _) ∧ (_ → _); first | refine ⟨by omega, fun _ => ?_⟩ | refine ⟨fun _ => ?_, by omega⟩) | refine ⟨by omega, ?_⟩ | refine ⟨⟨_, rfl, by assumption⟩, ?_⟩ | refine ⟨okT_I _, ?_⟩ | refine ⟨okT_S (by omega) (by omega), ?_⟩ | refine ⟨okT_B (by omega) (by omega), ?_⟩ | refine call0 (gd_of rfl) ?_)
          refine ih (k + 1) D2 (by omega) (fun x i y1 y2 y3 => by rw [g1 x i y1 (by omega) (by omega)]; exact f1 x i y1 y2 y3) (f2.congr (fun i => g1 _ _ (by omega) (by omega) (by omega)) (fun i => g1 _ _ (by omega) (by omega) (by omega))) f2b (fun j hj => ?_) (fun j hj hj2 => ?_)
          · by_cases z : j = k
            · rw [z]; exact g2
            · exact (f3 j (by omega)).congr (fun i => g1 _ _ (by omega) (by omega) (by omega)) (fun i => g1 _ _ (by omega) (by omega) (by omega))
          · exact (f4 j (by omega) hj2).congr (fun i => g1 _ _ (by omega) (by omega) (by omega)) (fun i => g1 _ _ (by omega) (by omega) (by omega))
        refine ⟨fun z => ?_, fun z => ?_⟩
        · have hT0 : T k = 0 := Int.sign_eq_zero_iff_zero.mp z
          refine next D1 (fun _ _ _ _ _ => rfl) ?_
          rw [hT0, Int.zero_tdiv]
          rw [hT0] at hk4; exact hk4
        · repeat (first | refine ⟨in_small (by omega) (by omega), ?_⟩ | (show (_ → _) ∧ (_ → _); first | refine ⟨by omega, fun _ => ?_⟩ | refine ⟨fun _ => ?_, by omega⟩) | refine ⟨by omega, ?_⟩ | refine ⟨⟨_, rfl, by assumption⟩, ?_⟩ | refine ⟨okT_I _, ?_⟩ | refine ⟨okT_S (by omega) (by omega), ?_⟩ | refine ⟨okT_B (by omega) (by omega), ?_⟩ | refine call0 (gd_of rfl) ?_)
          have hT0 : T k ≠ 0 := fun w => by rw [w] at z; exact z rfl
          have hGne : G ≠ 0 := fun w => hT0 (hGz w k (by omega))
          refine sp_X16_divide_q hR hWw vk2 vk2 w8 hk4 f2 hGne (p26 (by omega) (hT k (by omega))) (p260 (by omega) f2b) (p26 (by omega) (hT k (by omega))) (by omega) (by omega) (by omega) fun D2 g1 g2 => ?_
          simp only [P_X16_takeAway, i_kil, i_icon, i_lcon, i_null, i_loadI, i_loadL, i_loadR, i_istore, i_lstore, i_astore, i_iinc, i_dup, i_dup2, i_pop, i_iadd, i_isub, i_imul, i_idiv, i_irem, i_ineg, i_iand, i_ior, i_ishl, i_ishr, i_lxor, i_ladd, i_lsub, i_lmul, i_ldiv, i_lrem, i_lneg, i_lshl, i_lcmp, i_i2l, i_l2i, i_i2b, i_i2s, i_ifeq, i_ifne, i_iflt, i_ifge, i_ifgt, i_ifle, i_cmpeq, i_cmpne, i_cmplt, i_cmpge, i_cmpgt, i_cmple, i_acmpeq, i_acmpne, i_ifnull, i_ifnonnull, i_getI, i_getR, i_putI, i_putZ, i_putR, i_ald, i_ldL, i_ldR, i_ast, i_stL, i_stR, i_alen, i_new, i_newa, i_iret, i_zret, i_lret, i_aret, i_vret, i_raise, i_throw, i_recv, i_objinit, i_tsw3, lget, lset, lput1, lput2, lkil, ltrim, largs, isL, takev, dropv, nthv, pushO, catv, gd, true_and, and_true, Option.some.injEq, Prod.mk.injEq, exists_eq_left', if_true, if_false, reduceCtorEq, Bool.false_eq_true, lcmp_ge, lcmp_lt, lcmp_le, lcmp_gt, lcmp_eq, true_or, or_true, not_true_eq_false, not_false_eq_true, false_implies, true_implies, List.length_cons, List.length_nil]
          exact next D2 (fun x i y1 y2 y3 => g1 x i (by omega) (by omega) (by omega) y2 y3) g2
  -- the common divisor
  have gcds : ∀ (L k : Nat) (G : Int) (D1 : Dat), k + L = 70 → taW M vb D D1 → wD 2 1 D1 (M + 10787) G → 0 ≤ G → (G.natAbs : Int) < 1000000000 ^ 24 → (∀ j, j < k → G ∣ T j) → (∀ r : Int, (∀ j, j < 70 → r ∣ T j) → r ∣ G) → (G = 0 → ∀ j, j < k → T j = 0) → (∀ j : Nat, j < 70 → wD 2 1 D1 (vb + 2 * j) (T j)) → Wp P_X16_takeAway E 2 [some (aR M), some (aR va), none, none, some (aI k)] [] B S D1 := by
    intro L
    have go : ∀ (G : Int) (D1 : Dat), taW M vb D D1 → wD 2 1 D1 (M + 10787) G → 0 ≤ G → (G.natAbs : Int) < 1000000000 ^ 24 → (∀ j, j < 70 → G ∣ T j) → (∀ r : Int, (∀ j, j < 70 → r ∣ T j) → r ∣ G) → (G = 0 → ∀ j, j < 70 → T j = 0) → (∀ j : Nat, j < 70 → wD 2 1 D1 (vb + 2 * j) (T j)) → Wp P_X16_takeAway E 4 [some (aR M), some (aR va)] [] B S D1 := fun G D1 f1 f2 f3 f4 f5 f6 f7 f8 => by
      refine wp_in ?_
      simp only [P_X16_takeAway, i_kil, i_icon, i_lcon, i_null, i_loadI, i_loadL, i_loadR, i_istore, i_lstore, i_astore, i_iinc, i_dup, i_dup2, i_pop, i_iadd, i_isub, i_imul, i_idiv, i_irem, i_ineg, i_iand, i_ior, i_ishl, i_ishr, i_lxor, i_ladd, i_lsub, i_lmul, i_ldiv, i_lrem, i_lneg, i_lshl, i_lcmp, i_i2l, i_l2i, i_i2b, i_i2s, i_ifeq, i_ifne, i_iflt, i_ifge, i_ifgt, i_ifle, i_cmpeq, i_cmpne, i_cmplt, i_cmpge, i_cmpgt, i_cmple, i_acmpeq, i_acmpne, i_ifnull, i_ifnonnull, i_getI, i_getR, i_putI, i_putZ, i_putR, i_ald, i_ldL, i_ldR, i_ast, i_stL, i_stR, i_alen, i_new, i_newa, i_iret, i_zret, i_lret, i_aret, i_vret, i_raise, i_throw, i_recv, i_objinit, i_tsw3, lget, lset, lput1, lput2, lkil, ltrim, largs, isL, takev, dropv, nthv, pushO, catv, gd, true_and, and_true, Option.some.injEq, Prod.mk.injEq, exists_eq_left', if_true, if_false, reduceCtorEq, Bool.false_eq_true, lcmp_ge, lcmp_lt, lcmp_le, lcmp_gt, lcmp_eq, true_or, or_true, not_true_eq_false, not_false_eq_true, false_implies, true_implies, List.length_cons, List.length_nil]
      exact last G f3 f5 f6 f7 70 0 D1 rfl f1 f2 f4 (fun j hj => by omega) fun j _ hj => f8 j hj
    induction L with
    | zero =>
      intro k G D1 hk f1 f2 f3 f4 f5 f6 f7 f8
      have : k = 70 := by omega
      subst this
      refine wp_in ?_
      simp only [P_X16_takeAway, i_kil, i_icon, i_lcon, i_null, i_loadI, i_loadL, i_loadR, i_istore, i_lstore, i_astore, i_iinc, i_dup, i_dup2, i_pop, i_iadd, i_isub, i_imul, i_idiv, i_irem, i_ineg, i_iand, i_ior, i_ishl, i_ishr, i_lxor, i_ladd, i_lsub, i_lmul, i_ldiv, i_lrem, i_lneg, i_lshl, i_lcmp, i_i2l, i_l2i, i_i2b, i_i2s, i_ifeq, i_ifne, i_iflt, i_ifge, i_ifgt, i_ifle, i_cmpeq, i_cmpne, i_cmplt, i_cmpge, i_cmpgt, i_cmple, i_acmpeq, i_acmpne, i_ifnull, i_ifnonnull, i_getI, i_getR, i_putI, i_putZ, i_putR, i_ald, i_ldL, i_ldR, i_ast, i_stL, i_stR, i_alen, i_new, i_newa, i_iret, i_zret, i_lret, i_aret, i_vret, i_raise, i_throw, i_recv, i_objinit, i_tsw3, lget, lset, lput1, lput2, lkil, ltrim, largs, isL, takev, dropv, nthv, pushO, catv, gd, true_and, and_true, Option.some.injEq, Prod.mk.injEq, exists_eq_left', if_true, if_false, reduceCtorEq, Bool.false_eq_true, lcmp_ge, lcmp_lt, lcmp_le, lcmp_gt, lcmp_eq, true_or, or_true, not_true_eq_false, not_false_eq_true, false_implies, true_implies, List.length_cons, List.length_nil]
      repeat (first | refine ⟨in_small (by omega) (by omega), ?_⟩ | (show (_ → _) ∧ (_ → _); first | refine ⟨by omega, fun _ => ?_⟩ | refine ⟨fun _ => ?_, by omega⟩) | refine ⟨by omega, ?_⟩ | refine ⟨⟨_, rfl, by assumption⟩, ?_⟩ | refine ⟨okT_I _, ?_⟩ | refine ⟨okT_S (by omega) (by omega), ?_⟩ | refine ⟨okT_B (by omega) (by omega), ?_⟩ | refine call0 (gd_of rfl) ?_)
      exact go G D1 f1 f2 f3 f4 f5 f6 f7 f8
    | succ L ih =>
      intro k G D1 hk f1 f2 f3 f4 f5 f6 f7 f8
      obtain ⟨vk1, vk2⟩ := hV.2 k (by omega)
      have vk3 := vk2.1
      have hk4 := f8 k (by omega)
      have hs := wD_nn hk4
      refine wp_in ?_
      simp only [P_X16_takeAway, i_kil, i_icon, i_lcon, i_null, i_loadI, i_loadL, i_loadR, i_istore, i_lstore, i_astore, i_iinc, i_dup, i_dup2, i_pop, i_iadd, i_isub, i_imul, i_idiv, i_irem, i_ineg, i_iand, i_ior, i_ishl, i_ishr, i_lxor, i_ladd, i_lsub, i_lmul, i_ldiv, i_lrem, i_lneg, i_lshl, i_lcmp, i_i2l, i_l2i, i_i2b, i_i2s, i_ifeq, i_ifne, i_iflt, i_ifge, i_ifgt, i_ifle, i_cmpeq, i_cmpne, i_cmplt, i_cmpge, i_cmpgt, i_cmple, i_acmpeq, i_acmpne, i_ifnull, i_ifnonnull, i_getI, i_getR, i_putI, i_putZ, i_putR, i_ald, i_ldL, i_ldR, i_ast, i_stL, i_stR, i_alen, i_new, i_newa, i_iret, i_zret, i_lret, i_aret, i_vret, i_raise, i_throw, i_recv, i_objinit, i_tsw3, lget, lset, lput1, lput2, lkil, ltrim, largs, isL, takev, dropv, nthv, pushO, catv, gd, true_and, and_true, Option.some.injEq, Prod.mk.injEq, exists_eq_left', if_true, if_false, reduceCtorEq, Bool.false_eq_true, lcmp_ge, lcmp_lt, lcmp_le, lcmp_gt, lcmp_eq, true_or, or_true, not_true_eq_false, not_false_eq_true, false_implies, true_implies, List.length_cons, List.length_nil, M1, w7]
      repeat (first | refine ⟨in_small (by omega) (by omega), ?_⟩ | (show (_ → _) ∧ (_ → _); first | refine ⟨by omega, fun _ => ?_⟩ | refine ⟨fun _ => ?_, by omega⟩) | refine ⟨by omega, ?_⟩ | refine ⟨⟨_, rfl, by assumption⟩, ?_⟩ | refine ⟨okT_I _, ?_⟩ | refine ⟨okT_S (by omega) (by omega), ?_⟩ | refine ⟨okT_B (by omega) (by omega), ?_⟩ | refine call0 (gd_of rfl) ?_)
      refine isOne_at w8 f2 (by omega) (by omega) fun v v1 v2 => ?_
      simp only [P_X16_takeAway, i_kil, i_icon, i_lcon, i_null, i_loadI, i_loadL, i_loadR, i_istore, i_lstore, i_astore, i_iinc, i_dup, i_dup2, i_pop, i_iadd, i_isub, i_imul, i_idiv, i_irem, i_ineg, i_iand, i_ior, i_ishl, i_ishr, i_lxor, i_ladd, i_lsub, i_lmul, i_ldiv, i_lrem, i_lneg, i_lshl, i_lcmp, i_i2l, i_l2i, i_i2b, i_i2s, i_ifeq, i_ifne, i_iflt, i_ifge, i_ifgt, i_ifle, i_cmpeq, i_cmpne, i_cmplt, i_cmpge, i_cmpgt, i_cmple, i_acmpeq, i_acmpne, i_ifnull, i_ifnonnull, i_getI, i_getR, i_putI, i_putZ, i_putR, i_ald, i_ldL, i_ldR, i_ast, i_stL, i_stR, i_alen, i_new, i_newa, i_iret, i_zret, i_lret, i_aret, i_vret, i_raise, i_throw, i_recv, i_objinit, i_tsw3, lget, lset, lput1, lput2, lkil, ltrim, largs, isL, takev, dropv, nthv, pushO, catv, gd, true_and, and_true, Option.some.injEq, Prod.mk.injEq, exists_eq_left', if_true, if_false, reduceCtorEq, Bool.false_eq_true, lcmp_ge, lcmp_lt, lcmp_le, lcmp_gt, lcmp_eq, true_or, or_true, not_true_eq_false, not_false_eq_true, false_implies, true_implies, List.length_cons, List.length_nil, M1, w7, hV1, vk1, vk3, hs]
      refine ⟨fun y => ?_, fun y => ?_⟩
      · have hG1 : G = 1 := Classical.byContradiction fun z => y (v2.mpr z)
        exact go G D1 f1 f2 f3 f4 (fun j hj => by rw [hG1]; exact Int.one_dvd _) f6 (fun z => by omega) f8
      · repeat (first | refine ⟨in_small (by omega) (by omega), ?_⟩ | (show (_ → _) ∧ (_ → _); first | refine ⟨by omega, fun _ => ?_⟩ | refine ⟨fun _ => ?_, by omega⟩) | refine ⟨by omega, ?_⟩ | refine ⟨⟨_, rfl, by assumption⟩, ?_⟩ | refine ⟨okT_I _, ?_⟩ | refine ⟨okT_S (by omega) (by omega), ?_⟩ | refine ⟨okT_B (by omega) (by omega), ?_⟩ | refine call0 (gd_of rfl) ?_)
        have next : ∀ (D2 : Dat) (G' : Int), taW M vb D D2 → wD 2 1 D2 (M + 10787) G' → 0 ≤ G' → (G'.natAbs : Int) < 1000000000 ^ 24 → (∀ j, j < k + 1 → G' ∣ T j) → (∀ r : Int, (∀ j, j < 70 → r ∣ T j) → r ∣ G') → (G' = 0 → ∀ j, j < k + 1 → T j = 0) → (∀ j : Nat, j < 70 → wD 2 1 D2 (vb + 2 * j) (T j)) → Wp P_X16_takeAway E 3 [some (aR M), some (aR va), none, none, some (aI k)] [] B S D2 := fun D2 G' g1 g2 g3 g4 g5 g6 g7 g8 => by
          refine wp_in ?_
          simp only [P_X16_takeAway, i_kil, i_icon, i_lcon, i_null, i_loadI, i_loadL, i_loadR, i_istore, i_lstore, i_astore, i_iinc, i_dup, i_dup2, i_pop, i_iadd, i_isub, i_imul, i_idiv, i_irem, i_ineg, i_iand, i_ior, i_ishl, i_ishr, i_lxor, i_ladd, i_lsub, i_lmul, i_ldiv, i_lrem, i_lneg, i_lshl, i_lcmp, i_i2l, i_l2i, i_i2b, i_i2s, i_ifeq, i_ifne, i_iflt, i_ifge, i_ifgt, i_ifle, i_cmpeq, i_cmpne, i_cmplt, i_cmpge, i_cmpgt, i_cmple, i_acmpeq, i_acmpne, i_ifnull, i_ifnonnull, i_getI, i_getR, i_putI, i_putZ, i_putR, i_ald, i_ldL, i_ldR, i_ast, i_stL, i_stR, i_alen, i_new, i_newa, i_iret, i_zret, i_lret, i_aret, i_vret, i_raise, i_throw, i_recv, i_objinit, i_tsw3, lget, lset, lput1, lput2, lkil, ltrim, largs, isL, takev, dropv, nthv, pushO, catv, gd, true_and, and_true, Option.some.injEq, Prod.mk.injEq, exists_eq_left', if_true, if_false, reduceCtorEq, Bool.false_eq_true, lcmp_ge, lcmp_lt, lcmp_le, lcmp_gt, lcmp_eq, true_or, or_true, not_true_eq_false, not_false_eq_true, false_implies, true_implies, List.length_cons, List.length_nil]
          repeat (first | refine ⟨in_small (by omega) (by omega), ?_⟩ | (show (_ → _) ∧ (_ → _); first | refine ⟨by omega, fun _ => ?_⟩ | refine ⟨fun _ => ?_, by omega⟩) | refine ⟨by omega, ?_⟩ | refine ⟨⟨_, rfl, by assumption⟩, ?_⟩ | refine ⟨okT_I _, ?_⟩ | refine ⟨okT_S (by omega) (by omega), ?_⟩ | refine ⟨okT_B (by omega) (by omega), ?_⟩ | refine call0 (gd_of rfl) ?_)
          exact ih (k + 1) G' D2 (by omega) g1 g2 g3 g4 g5 g6 g7 g8
        refine ⟨fun z => ?_, fun z => ?_⟩
        · have hT0 : T k = 0 := Int.sign_eq_zero_iff_zero.mp z
          refine next D1 G f1 f2 f3 f4 (fun j hj => ?_) f6 (fun w j hj => ?_) f8
          · by_cases y : j = k
            · rw [y, hT0]; exact Int.dvd_zero _
            · exact f5 j (by omega)
          · by_cases y : j = k
            · rw [y]; exact hT0
            · exact f7 w j (by omega)
        · repeat (first | refine ⟨in_small (by omega) (by omega), ?_⟩ | (show (_ → _) ∧ (_ → _); first | refine ⟨by omega, fun _ => ?_⟩ | refine ⟨fun _ => ?_, by omega⟩) | refine ⟨by omega, ?_⟩ | refine ⟨⟨_, rfl, by assumption⟩, ?_⟩ | refine ⟨okT_I _, ?_⟩ | refine ⟨okT_S (by omega) (by omega), ?_⟩ | refine ⟨okT_B (by omega) (by omega), ?_⟩ | refine call0 (gd_of rfl) ?_)
          refine sp_X16_gcd hM w8 vk2 w8 (by unfold wN; omega) (by unfold wN; omega) (by unfold wN; omega) hk4 f2 (p26 (by omega) (hT k (by omega))) (p260 (by omega) f4) (p260 (by omega) (hT k (by omega))) (p260 (by omega) f4) (by omega) (by omega) (by omega) fun D2 g1 g2 => ?_
          simp only [P_X16_takeAway, i_kil, i_icon, i_lcon, i_null, i_loadI, i_loadL, i_loadR, i_istore, i_lstore, i_astore, i_iinc, i_dup, i_dup2, i_pop, i_iadd, i_isub, i_imul, i_idiv, i_irem, i_ineg, i_iand, i_ior, i_ishl, i_ishr, i_lxor, i_ladd, i_lsub, i_lmul, i_ldiv, i_lrem, i_lneg, i_lshl, i_lcmp, i_i2l, i_l2i, i_i2b, i_i2s, i_ifeq, i_ifne, i_iflt, i_ifge, i_ifgt, i_ifle, i_cmpeq, i_cmpne, i_cmplt, i_cmpge, i_cmpgt, i_cmple, i_acmpeq, i_acmpne, i_ifnull, i_ifnonnull, i_getI, i_getR, i_putI, i_putZ, i_putR, i_ald, i_ldL, i_ldR, i_ast, i_stL, i_stR, i_alen, i_new, i_newa, i_iret, i_zret, i_lret, i_aret, i_vret, i_raise, i_throw, i_recv, i_objinit, i_tsw3, lget, lset, lput1, lput2, lkil, ltrim, largs, isL, takev, dropv, nthv, pushO, catv, gd, true_and, and_true, Option.some.injEq, Prod.mk.injEq, exists_eq_left', if_true, if_false, reduceCtorEq, Bool.false_eq_true, lcmp_ge, lcmp_lt, lcmp_le, lcmp_gt, lcmp_eq, true_or, or_true, not_true_eq_false, not_false_eq_true, false_implies, true_implies, List.length_cons, List.length_nil]
          have hT0 : T k ≠ 0 := fun w => by rw [w] at z; exact z rfl
          have hG'0 : ((Int.gcd (T k) G : Nat) : Int) ≠ 0 := fun w => hT0 (Int.gcd_eq_zero_iff.mp (show Int.gcd (T k) G = 0 by omega)).1
          have hGle : (((Int.gcd (T k) G : Nat) : Int).natAbs : Int) < 1000000000 ^ 24 := by
            have h1 : Int.gcd (T k) G ∣ (T k).natAbs := Int.gcd_dvd_natAbs_left ..
            have h2 := Nat.le_of_dvd (by omega) h1
            have h3 := hT k (by omega)
            omega
          refine next D2 _ (fun x i y1 y2 y3 => by rw [g1 x i (by omega) (by omega) (by omega)]; exact f1 x i y1 y2 y3) g2 (by omega) hGle (fun j hj => ?_) (fun r hr => ?_) (fun w => absurd w hG'0) fun j hj => (f8 j hj).congr (fun i => g1 _ _ (by omega) (by omega) (by omega)) (fun i => g1 _ _ (by omega) (by omega) (by omega))
          · by_cases y : j = k
            · rw [y]; exact Int.gcd_dvd_left ..
            · exact Int.dvd_trans (Int.gcd_dvd_right ..) (f5 j (by omega))
          · exact Int.dvd_coe_gcd (hr k (by omega)) (f6 r hr)
  -- the row less the multiple
  have diff : ∀ (L k : Nat) (D1 : Dat), k + L = 70 → taW M vb D D1 → wD 2 1 D1 (M + 10781) a → wD 2 1 D1 (M + 10783) b → (∀ j : Nat, j < k → wD 2 1 D1 (vb + 2 * j) (T j)) → (∀ j : Nat, k ≤ j → j < 70 → wD 2 1 D1 (vb + 2 * j) (V j)) → Wp P_X16_takeAway E 1 [some (aR M), some (aR va), some (aR ya), none, some (aI k)] [] B S D1 := by
    intro L
    induction L with
    | zero =>
      intro k D1 hk f1 f2 f3 f4 f5
      have : k = 70 := by omega
      subst this
      refine wp_in ?_
      simp only [P_X16_takeAway, i_kil, i_icon, i_lcon, i_null, i_loadI, i_loadL, i_loadR, i_istore, i_lstore, i_astore, i_iinc, i_dup, i_dup2, i_pop, i_iadd, i_isub, i_imul, i_idiv, i_irem, i_ineg, i_iand, i_ior, i_ishl, i_ishr, i_lxor, i_ladd, i_lsub, i_lmul, i_ldiv, i_lrem, i_lneg, i_lshl, i_lcmp, i_i2l, i_l2i, i_i2b, i_i2s, i_ifeq, i_ifne, i_iflt, i_ifge, i_ifgt, i_ifle, i_cmpeq, i_cmpne, i_cmplt, i_cmpge, i_cmpgt, i_cmple, i_acmpeq, i_acmpne, i_ifnull, i_ifnonnull, i_getI, i_getR, i_putI, i_putZ, i_putR, i_ald, i_ldL, i_ldR, i_ast, i_stL, i_stR, i_alen, i_new, i_newa, i_iret, i_zret, i_lret, i_aret, i_vret, i_raise, i_throw, i_recv, i_objinit, i_tsw3, lget, lset, lput1, lput2, lkil, ltrim, largs, isL, takev, dropv, nthv, pushO, catv, gd, true_and, and_true, Option.some.injEq, Prod.mk.injEq, exists_eq_left', if_true, if_false, reduceCtorEq, Bool.false_eq_true, lcmp_ge, lcmp_lt, lcmp_le, lcmp_gt, lcmp_eq, true_or, or_true, not_true_eq_false, not_false_eq_true, false_implies, true_implies, List.length_cons, List.length_nil, M1, w7]
      repeat (first | refine ⟨in_small (by omega) (by omega), ?_⟩ | (show (_ → _) ∧ (_ → _); first | refine ⟨by omega, fun _ => ?_⟩ | refine ⟨fun _ => ?_, by omega⟩) | refine ⟨by omega, ?_⟩ | refine ⟨⟨_, rfl, by assumption⟩, ?_⟩ | refine ⟨okT_I _, ?_⟩ | refine ⟨okT_S (by omega) (by omega), ?_⟩ | refine ⟨okT_B (by omega) (by omega), ?_⟩ | refine call0 (gd_of rfl) ?_)
      refine sp_X17_set w8 (by omega) (by omega) (by omega) fun D2 g1 g2 => ?_
      simp only [P_X16_takeAway, i_kil, i_icon, i_lcon, i_null, i_loadI, i_loadL, i_loadR, i_istore, i_lstore, i_astore, i_iinc, i_dup, i_dup2, i_pop, i_iadd, i_isub, i_imul, i_idiv, i_irem, i_ineg, i_iand, i_ior, i_ishl, i_ishr, i_lxor, i_ladd, i_lsub, i_lmul, i_ldiv, i_lrem, i_lneg, i_lshl, i_lcmp, i_i2l, i_l2i, i_i2b, i_i2s, i_ifeq, i_ifne, i_iflt, i_ifge, i_ifgt, i_ifle, i_cmpeq, i_cmpne, i_cmplt, i_cmpge, i_cmpgt, i_cmple, i_acmpeq, i_acmpne, i_ifnull, i_ifnonnull, i_getI, i_getR, i_putI, i_putZ, i_putR, i_ald, i_ldL, i_ldR, i_ast, i_stL, i_stR, i_alen, i_new, i_newa, i_iret, i_zret, i_lret, i_aret, i_vret, i_raise, i_throw, i_recv, i_objinit, i_tsw3, lget, lset, lput1, lput2, lkil, ltrim, largs, isL, takev, dropv, nthv, pushO, catv, gd, true_and, and_true, Option.some.injEq, Prod.mk.injEq, exists_eq_left', if_true, if_false, reduceCtorEq, Bool.false_eq_true, lcmp_ge, lcmp_lt, lcmp_le, lcmp_gt, lcmp_eq, true_or, or_true, not_true_eq_false, not_false_eq_true, false_implies, true_implies, List.length_cons, List.length_nil]
      exact gcds 70 0 0 D2 rfl (fun x i y1 y2 y3 => by rw [g1 x i (by omega) (by omega)]; exact f1 x i y1 y2 y3) g2 (by omega) (by decide) (fun j hj => by omega) (fun r hr => Int.dvd_zero _) (fun _ j hj => by omega) fun j hj => (f4 j hj).congr (fun i => g1 _ _ (by omega) (by omega)) (fun i => g1 _ _ (by omega) (by omega))
    | succ L ih =>
      intro k D1 hk f1 f2 f3 f4 f5
      obtain ⟨vk1, vk2⟩ := hV.2 k (by omega)
      obtain ⟨yk1, yk2⟩ := hY.2 k (by omega)
      have vk3 := vk2.1
      have yk : wD 2 1 D1 (yb + 2 * k) (Y k) := (hy k (by omega)).congr (fun i => f1 _ _ (by omega) (by omega) (by omega)) (fun i => f1 _ _ (by omega) (by omega) (by omega))
      have h1 := pw_mul (hv2 k (by omega)) ha2
      have h2 := pw_mul (hy2 k (by omega)) hb2
      refine wp_in ?_
      simp only [P_X16_takeAway, i_kil, i_icon, i_lcon, i_null, i_loadI, i_loadL, i_loadR, i_istore, i_lstore, i_astore, i_iinc, i_dup, i_dup2, i_pop, i_iadd, i_isub, i_imul, i_idiv, i_irem, i_ineg, i_iand, i_ior, i_ishl, i_ishr, i_lxor, i_ladd, i_lsub, i_lmul, i_ldiv, i_lrem, i_lneg, i_lshl, i_lcmp, i_i2l, i_l2i, i_i2b, i_i2s, i_ifeq, i_ifne, i_iflt, i_ifge, i_ifgt, i_ifle, i_cmpeq, i_cmpne, i_cmplt, i_cmpge, i_cmpgt, i_cmple, i_acmpeq, i_acmpne, i_ifnull, i_ifnonnull, i_getI, i_getR, i_putI, i_putZ, i_putR, i_ald, i_ldL, i_ldR, i_ast, i_stL, i_stR, i_alen, i_new, i_newa, i_iret, i_zret, i_lret, i_aret, i_vret, i_raise, i_throw, i_recv, i_objinit, i_tsw3, lget, lset, lput1, lput2, lkil, ltrim, largs, isL, takev, dropv, nthv, pushO, catv, gd, true_and, and_true, Option.some.injEq, Prod.mk.injEq, exists_eq_left', if_true, if_false, reduceCtorEq, Bool.false_eq_true, lcmp_ge, lcmp_lt, lcmp_le, lcmp_gt, lcmp_eq, true_or, or_true, not_true_eq_false, not_false_eq_true, false_implies, true_implies, List.length_cons, List.length_nil, M1, w1, w5, hV1, vk1]
      repeat (first | refine ⟨in_small (by omega) (by omega), ?_⟩ | (show (_ → _) ∧ (_ → _); first | refine ⟨by omega, fun _ => ?_⟩ | refine ⟨fun _ => ?_, by omega⟩) | refine ⟨by omega, ?_⟩ | refine ⟨⟨_, rfl, by assumption⟩, ?_⟩ | refine ⟨okT_I _, ?_⟩ | refine ⟨okT_S (by omega) (by omega), ?_⟩ | refine ⟨okT_B (by omega) (by omega), ?_⟩ | refine call0 (gd_of rfl) ?_)
      refine sp_X16_multiply (p := 12) (q := 11) w6 vk2 w2 M1 M2 M3 (by omega) (by omega) (by omega) (f5 k (Nat.le_refl _) (by omega)) f2 (hv2 k (by omega)) ha2 (by omega) (by omega) (by omega) (by omega) (by omega) (by omega) (by omega) fun D2 g1 g2 => ?_
      simp only [P_X16_takeAway, i_kil, i_icon, i_lcon, i_null, i_loadI, i_loadL, i_loadR, i_istore, i_lstore, i_astore, i_iinc, i_dup, i_dup2, i_pop, i_iadd, i_isub, i_imul, i_idiv, i_irem, i_ineg, i_iand, i_ior, i_ishl, i_ishr, i_lxor, i_ladd, i_lsub, i_lmul, i_ldiv, i_lrem, i_lneg, i_lshl, i_lcmp, i_i2l, i_l2i, i_i2b, i_i2s, i_ifeq, i_ifne, i_iflt, i_ifge, i_ifgt, i_ifle, i_cmpeq, i_cmpne, i_cmplt, i_cmpge, i_cmpgt, i_cmple, i_acmpeq, i_acmpne, i_ifnull, i_ifnonnull, i_getI, i_getR, i_putI, i_putZ, i_putR, i_ald, i_ldL, i_ldR, i_ast, i_stL, i_stR, i_alen, i_new, i_newa, i_iret, i_zret, i_lret, i_aret, i_vret, i_raise, i_throw, i_recv, i_objinit, i_tsw3, lget, lset, lput1, lput2, lkil, ltrim, largs, isL, takev, dropv, nthv, pushO, catv, gd, true_and, and_true, Option.some.injEq, Prod.mk.injEq, exists_eq_left', if_true, if_false, reduceCtorEq, Bool.false_eq_true, lcmp_ge, lcmp_lt, lcmp_le, lcmp_gt, lcmp_eq, true_or, or_true, not_true_eq_false, not_false_eq_true, false_implies, true_implies, List.length_cons, List.length_nil, M1, w3, m15, hY1, yk1]
      repeat (first | refine ⟨in_small (by omega) (by omega), ?_⟩ | (show (_ → _) ∧ (_ → _); first | refine ⟨by omega, fun _ => ?_⟩ | refine ⟨fun _ => ?_, by omega⟩) | refine ⟨by omega, ?_⟩ | refine ⟨⟨_, rfl, by assumption⟩, ?_⟩ | refine ⟨okT_I _, ?_⟩ | refine ⟨okT_S (by omega) (by omega), ?_⟩ | refine ⟨okT_B (by omega) (by omega), ?_⟩ | refine call0 (gd_of rfl) ?_)
      refine sp_X16_multiply (p := 11) (q := 12) m16 yk2 w4 M1 M2 M3 (by omega) (by omega) (by omega) (yk.congr (fun i => g1 _ _ (by omega) (by omega) (by omega)) (fun i => g1 _ _ (by omega) (by omega) (by omega))) (f3.congr (fun i => g1 _ _ (by omega) (by omega) (by omega)) (fun i => g1 _ _ (by omega) (by omega) (by omega))) (hy2 k (by omega)) hb2 (by omega) (by omega) (by omega) (by omega) (by omega) (by omega) (by omega) fun D3 g3 g4 => ?_
      simp only [P_X16_takeAway, i_kil, i_icon, i_lcon, i_null, i_loadI, i_loadL, i_loadR, i_istore, i_lstore, i_astore, i_iinc, i_dup, i_dup2, i_pop, i_iadd, i_isub, i_imul, i_idiv, i_irem, i_ineg, i_iand, i_ior, i_ishl, i_ishr, i_lxor, i_ladd, i_lsub, i_lmul, i_ldiv, i_lrem, i_lneg, i_lshl, i_lcmp, i_i2l, i_l2i, i_i2b, i_i2s, i_ifeq, i_ifne, i_iflt, i_ifge, i_ifgt, i_ifle, i_cmpeq, i_cmpne, i_cmplt, i_cmpge, i_cmpgt, i_cmple, i_acmpeq, i_acmpne, i_ifnull, i_ifnonnull, i_getI, i_getR, i_putI, i_putZ, i_putR, i_ald, i_ldL, i_ldR, i_ast, i_stL, i_stR, i_alen, i_new, i_newa, i_iret, i_zret, i_lret, i_aret, i_vret, i_raise, i_throw, i_recv, i_objinit, i_tsw3, lget, lset, lput1, lput2, lkil, ltrim, largs, isL, takev, dropv, nthv, pushO, catv, gd, true_and, and_true, Option.some.injEq, Prod.mk.injEq, exists_eq_left', if_true, if_false, reduceCtorEq, Bool.false_eq_true, lcmp_ge, lcmp_lt, lcmp_le, lcmp_gt, lcmp_eq, true_or, or_true, not_true_eq_false, not_false_eq_true, false_implies, true_implies, List.length_cons, List.length_nil, M1, w5, m15]
      repeat (first | refine ⟨in_small (by omega) (by omega), ?_⟩ | (show (_ → _) ∧ (_ → _); first | refine ⟨by omega, fun _ => ?_⟩ | refine ⟨fun _ => ?_, by omega⟩) | refine ⟨by omega, ?_⟩ | refine ⟨⟨_, rfl, by assumption⟩, ?_⟩ | refine ⟨okT_I _, ?_⟩ | refine ⟨okT_S (by omega) (by omega), ?_⟩ | refine ⟨okT_B (by omega) (by omega), ?_⟩ | refine call0 (gd_of rfl) ?_)
      have hs : ((V k * a).natAbs : Int) + (Y k * b).natAbs < 1000000000 ^ 260 := by
        have e : (1000000000 : Int) ^ 24 = 1000000000 * 1000000000 ^ 23 := pw_succ 23
        have e2 : (1000000000 : Int) ^ 24 ≤ 1000000000 ^ 260 := pw_mono (by omega)
        rw [show 12 + 11 = 23 from rfl] at h1
        rw [show 11 + 12 = 23 from rfl] at h2
        rw [e] at e2
        have hp := pw_pos 23
        generalize (1000000000 : Int) ^ 23 = H at *
        generalize (1000000000 : Int) ^ 260 = H2 at *
        omega
      refine sp_X16_add (w := -1) w6 w6 m16 (g2.congr (fun i => g3 _ _ (by omega) (by omega) (by omega)) (fun i => g3 _ _ (by omega) (by omega) (by omega))) g4 (.inr rfl) (p260 (by omega) h1) (p260 (by omega) h2) hs (by omega) (by omega) (by omega) fun D4 g5 g6 => ?_
      have eT : V k * a + -1 * (Y k * b) = T k := by show _ = V k * a - Y k * b; omega
      rw [eT] at g6
      simp only [P_X16_takeAway, i_kil, i_icon, i_lcon, i_null, i_loadI, i_loadL, i_loadR, i_istore, i_lstore, i_astore, i_iinc, i_dup, i_dup2, i_pop, i_iadd, i_isub, i_imul, i_idiv, i_irem, i_ineg, i_iand, i_ior, i_ishl, i_ishr, i_lxor, i_ladd, i_lsub, i_lmul, i_ldiv, i_lrem, i_lneg, i_lshl, i_lcmp, i_i2l, i_l2i, i_i2b, i_i2s, i_ifeq, i_ifne, i_iflt, i_ifge, i_ifgt, i_ifle, i_cmpeq, i_cmpne, i_cmplt, i_cmpge, i_cmpgt, i_cmple, i_acmpeq, i_acmpne, i_ifnull, i_ifnonnull, i_getI, i_getR, i_putI, i_putZ, i_putR, i_ald, i_ldL, i_ldR, i_ast, i_stL, i_stR, i_alen, i_new, i_newa, i_iret, i_zret, i_lret, i_aret, i_vret, i_raise, i_throw, i_recv, i_objinit, i_tsw3, lget, lset, lput1, lput2, lkil, ltrim, largs, isL, takev, dropv, nthv, pushO, catv, gd, true_and, and_true, Option.some.injEq, Prod.mk.injEq, exists_eq_left', if_true, if_false, reduceCtorEq, Bool.false_eq_true, lcmp_ge, lcmp_lt, lcmp_le, lcmp_gt, lcmp_eq, true_or, or_true, not_true_eq_false, not_false_eq_true, false_implies, true_implies, List.length_cons, List.length_nil, M1, w5, hV1, vk1]
      repeat (first | refine ⟨in_small (by omega) (by omega), ?_⟩ | (show (_ → _) ∧ (_ → _); first | refine ⟨by omega, fun _ => ?_⟩ | refine ⟨fun _ => ?_, by omega⟩) | refine ⟨by omega, ?_⟩ | refine ⟨⟨_, rfl, by assumption⟩, ?_⟩ | refine ⟨okT_I _, ?_⟩ | refine ⟨okT_S (by omega) (by omega), ?_⟩ | refine ⟨okT_B (by omega) (by omega), ?_⟩ | refine call0 (gd_of rfl) ?_)
      refine sp_X17_copy vk2 w6 g6 (p26 (by omega) (hT k (by omega))) (p260 (by omega) (hT k (by omega))) (by omega) fun D5 g7 g8 => ?_
      simp only [P_X16_takeAway, i_kil, i_icon, i_lcon, i_null, i_loadI, i_loadL, i_loadR, i_istore, i_lstore, i_astore, i_iinc, i_dup, i_dup2, i_pop, i_iadd, i_isub, i_imul, i_idiv, i_irem, i_ineg, i_iand, i_ior, i_ishl, i_ishr, i_lxor, i_ladd, i_lsub, i_lmul, i_ldiv, i_lrem, i_lneg, i_lshl, i_lcmp, i_i2l, i_l2i, i_i2b, i_i2s, i_ifeq, i_ifne, i_iflt, i_ifge, i_ifgt, i_ifle, i_cmpeq, i_cmpne, i_cmplt, i_cmpge, i_cmpgt, i_cmple, i_acmpeq, i_acmpne, i_ifnull, i_ifnonnull, i_getI, i_getR, i_putI, i_putZ, i_putR, i_ald, i_ldL, i_ldR, i_ast, i_stL, i_stR, i_alen, i_new, i_newa, i_iret, i_zret, i_lret, i_aret, i_vret, i_raise, i_throw, i_recv, i_objinit, i_tsw3, lget, lset, lput1, lput2, lkil, ltrim, largs, isL, takev, dropv, nthv, pushO, catv, gd, true_and, and_true, Option.some.injEq, Prod.mk.injEq, exists_eq_left', if_true, if_false, reduceCtorEq, Bool.false_eq_true, lcmp_ge, lcmp_lt, lcmp_le, lcmp_gt, lcmp_eq, true_or, or_true, not_true_eq_false, not_false_eq_true, false_implies, true_implies, List.length_cons, List.length_nil]
      repeat (first | refine ⟨in_small (by omega) (by omega), ?_⟩ | (show (_ → _) ∧ (_ → _); first | refine ⟨by omega, fun _ => ?_⟩ | refine ⟨fun _ => ?_, by omega⟩) | refine ⟨by omega, ?_⟩ | refine ⟨⟨_, rfl, by assumption⟩, ?_⟩ | refine ⟨okT_I _, ?_⟩ | refine ⟨okT_S (by omega) (by omega), ?_⟩ | refine ⟨okT_B (by omega) (by omega), ?_⟩ | refine call0 (gd_of rfl) ?_)
      have fr : ∀ x i, x ≠ vb + 2 * k → x ≠ vb + 2 * k + 1 → x ≠ M + 10785 → x ≠ M + 10786 → x ≠ M + 11 → x ≠ M + 12 → x ≠ M + 1 → D5 x i = D1 x i := fun x i y1 y2 y3 y4 y5 y6 y7 => by rw [g7 x i y1 y2, g5 x i y3 y4, g3 x i y5 y6 y7, g1 x i y3 y4 y7]
      refine ih (k + 1) D5 (by omega) (fun x i y1 y2 y3 => by rw [fr x i (by omega) (by omega) (by omega) (by omega) (by omega) (by omega) (by omega)]; exact f1 x i y1 y2 y3) (f2.congr (fun i => fr _ _ (by omega) (by omega) (by omega) (by omega) (by omega) (by omega) (by omega)) (fun i => fr _ _ (by omega) (by omega) (by omega) (by omega) (by omega) (by omega) (by omega))) (f3.congr (fun i => fr _ _ (by omega) (by omega) (by omega) (by omega) (by omega) (by omega) (by omega)) (fun i => fr _ _ (by omega) (by omega) (by omega) (by omega) (by omega) (by omega) (by omega))) (fun j hj => ?_) (fun j hj hj2 => ?_)
      · by_cases z : j = k
        · rw [z]; exact g8
        · exact (f4 j (by omega)).congr (fun i => fr _ _ (by omega) (by omega) (by omega) (by omega) (by omega) (by omega) (by omega)) (fun i => fr _ _ (by omega) (by omega) (by omega) (by omega) (by omega) (by omega) (by omega))
      · exact (f5 j (by omega) hj2).congr (fun i => fr _ _ (by omega) (by omega) (by omega) (by omega) (by omega) (by omega) (by omega)) (fun i => fr _ _ (by omega) (by omega) (by omega) (by omega) (by omega) (by omega) (by omega))
  have hvD := hv c hc
  have hyD := hy c hc
  refine wp_in ?_
  simp only [P_X16_takeAway, i_kil, i_icon, i_lcon, i_null, i_loadI, i_loadL, i_loadR, i_istore, i_lstore, i_astore, i_iinc, i_dup, i_dup2, i_pop, i_iadd, i_isub, i_imul, i_idiv, i_irem, i_ineg, i_iand, i_ior, i_ishl, i_ishr, i_lxor, i_ladd, i_lsub, i_lmul, i_ldiv, i_lrem, i_lneg, i_lshl, i_lcmp, i_i2l, i_l2i, i_i2b, i_i2s, i_ifeq, i_ifne, i_iflt, i_ifge, i_ifgt, i_ifle, i_cmpeq, i_cmpne, i_cmplt, i_cmpge, i_cmpgt, i_cmple, i_acmpeq, i_acmpne, i_ifnull, i_ifnonnull, i_getI, i_getR, i_putI, i_putZ, i_putR, i_ald, i_ldL, i_ldR, i_ast, i_stL, i_stR, i_alen, i_new, i_newa, i_iret, i_zret, i_lret, i_aret, i_vret, i_raise, i_throw, i_recv, i_objinit, i_tsw3, lget, lset, lput1, lput2, lkil, ltrim, largs, isL, takev, dropv, nthv, pushO, catv, gd, true_and, and_true, Option.some.injEq, Prod.mk.injEq, exists_eq_left', if_true, if_false, reduceCtorEq, Bool.false_eq_true, lcmp_ge, lcmp_lt, lcmp_le, lcmp_gt, lcmp_eq, true_or, or_true, not_true_eq_false, not_false_eq_true, false_implies, true_implies, List.length_cons, List.length_nil, M1, w7, hV1, hY1, vc1, yc1]
  repeat (first | refine ⟨in_small (by omega) (by omega), ?_⟩ | (show (_ → _) ∧ (_ → _); first | refine ⟨by omega, fun _ => ?_⟩ | refine ⟨fun _ => ?_, by omega⟩) | refine ⟨by omega, ?_⟩ | refine ⟨⟨_, rfl, by assumption⟩, ?_⟩ | refine ⟨okT_I _, ?_⟩ | refine ⟨okT_S (by omega) (by omega), ?_⟩ | refine ⟨okT_B (by omega) (by omega), ?_⟩ | refine call0 (gd_of rfl) ?_)
  refine sp_X16_gcd hM w8 vc2 yc2 (by unfold wN; omega) (by unfold wN; omega) (by unfold wN; omega) hvD hyD (p26 (by omega) (hv2 c hc)) (p26 (by omega) (hy2 c hc)) (p260 (by omega) (hv2 c hc)) (p260 (by omega) (hy2 c hc)) (by omega) (by omega) (by omega) fun D1 f1 f2 => ?_
  have hgb2 : ((g).natAbs : Int) < 1000000000 ^ 260 := by
    have h1 : Int.gcd (V c) (Y c) ∣ (Y c).natAbs := Int.gcd_dvd_natAbs_right ..
    have h2 := Nat.le_of_dvd (by omega) h1
    have h3 := p260 (p := 11) (by omega) (hy2 c hc)
    show (((Int.gcd (V c) (Y c) : Nat) : Int).natAbs : Int) < _
    omega
  simp only [P_X16_takeAway, i_kil, i_icon, i_lcon, i_null, i_loadI, i_loadL, i_loadR, i_istore, i_lstore, i_astore, i_iinc, i_dup, i_dup2, i_pop, i_iadd, i_isub, i_imul, i_idiv, i_irem, i_ineg, i_iand, i_ior, i_ishl, i_ishr, i_lxor, i_ladd, i_lsub, i_lmul, i_ldiv, i_lrem, i_lneg, i_lshl, i_lcmp, i_i2l, i_l2i, i_i2b, i_i2s, i_ifeq, i_ifne, i_iflt, i_ifge, i_ifgt, i_ifle, i_cmpeq, i_cmpne, i_cmplt, i_cmpge, i_cmpgt, i_cmple, i_acmpeq, i_acmpne, i_ifnull, i_ifnonnull, i_getI, i_getR, i_putI, i_putZ, i_putR, i_ald, i_ldL, i_ldR, i_ast, i_stL, i_stR, i_alen, i_new, i_newa, i_iret, i_zret, i_lret, i_aret, i_vret, i_raise, i_throw, i_recv, i_objinit, i_tsw3, lget, lset, lput1, lput2, lkil, ltrim, largs, isL, takev, dropv, nthv, pushO, catv, gd, true_and, and_true, Option.some.injEq, Prod.mk.injEq, exists_eq_left', if_true, if_false, reduceCtorEq, Bool.false_eq_true, lcmp_ge, lcmp_lt, lcmp_le, lcmp_gt, lcmp_eq, true_or, or_true, not_true_eq_false, not_false_eq_true, false_implies, true_implies, List.length_cons, List.length_nil, M1, w1, w7, hY1, yc1]
  repeat (first | refine ⟨in_small (by omega) (by omega), ?_⟩ | (show (_ → _) ∧ (_ → _); first | refine ⟨by omega, fun _ => ?_⟩ | refine ⟨fun _ => ?_, by omega⟩) | refine ⟨by omega, ?_⟩ | refine ⟨⟨_, rfl, by assumption⟩, ?_⟩ | refine ⟨okT_I _, ?_⟩ | refine ⟨okT_S (by omega) (by omega), ?_⟩ | refine ⟨okT_B (by omega) (by omega), ?_⟩ | refine call0 (gd_of rfl) ?_)
  refine sp_X16_divide_q hR hWw w2 yc2 w8 (hyD.congr (fun i => f1 _ _ (by omega) (by omega) (by omega)) (fun i => f1 _ _ (by omega) (by omega) (by omega))) f2 hg0 (p26 (by omega) (hy2 c hc)) hgb2 (p260 (by omega) (hy2 c hc)) (by omega) (by omega) (by omega) fun D2 f3 f4 => ?_
  simp only [P_X16_takeAway, i_kil, i_icon, i_lcon, i_null, i_loadI, i_loadL, i_loadR, i_istore, i_lstore, i_astore, i_iinc, i_dup, i_dup2, i_pop, i_iadd, i_isub, i_imul, i_idiv, i_irem, i_ineg, i_iand, i_ior, i_ishl, i_ishr, i_lxor, i_ladd, i_lsub, i_lmul, i_ldiv, i_lrem, i_lneg, i_lshl, i_lcmp, i_i2l, i_l2i, i_i2b, i_i2s, i_ifeq, i_ifne, i_iflt, i_ifge, i_ifgt, i_ifle, i_cmpeq, i_cmpne, i_cmplt, i_cmpge, i_cmpgt, i_cmple, i_acmpeq, i_acmpne, i_ifnull, i_ifnonnull, i_getI, i_getR, i_putI, i_putZ, i_putR, i_ald, i_ldL, i_ldR, i_ast, i_stL, i_stR, i_alen, i_new, i_newa, i_iret, i_zret, i_lret, i_aret, i_vret, i_raise, i_throw, i_recv, i_objinit, i_tsw3, lget, lset, lput1, lput2, lkil, ltrim, largs, isL, takev, dropv, nthv, pushO, catv, gd, true_and, and_true, Option.some.injEq, Prod.mk.injEq, exists_eq_left', if_true, if_false, reduceCtorEq, Bool.false_eq_true, lcmp_ge, lcmp_lt, lcmp_le, lcmp_gt, lcmp_eq, true_or, or_true, not_true_eq_false, not_false_eq_true, false_implies, true_implies, List.length_cons, List.length_nil, M1, w3, w7, hV1, vc1]
  repeat (first | refine ⟨in_small (by omega) (by omega), ?_⟩ | (show (_ → _) ∧ (_ → _); first | refine ⟨by omega, fun _ => ?_⟩ | refine ⟨fun _ => ?_, by omega⟩) | refine ⟨by omega, ?_⟩ | refine ⟨⟨_, rfl, by assumption⟩, ?_⟩ | refine ⟨okT_I _, ?_⟩ | refine ⟨okT_S (by omega) (by omega), ?_⟩ | refine ⟨okT_B (by omega) (by omega), ?_⟩ | refine call0 (gd_of rfl) ?_)
  have fr2 : ∀ x i, (x ≤ M ∨ M + 16 < x) → x ≠ M + 10781 → x ≠ M + 10782 → x ≠ M + 10787 → x ≠ M + 10788 → D2 x i = D x i := fun x i y1 y2 y3 y4 y5 => by rw [f3 x i (by omega) (by omega) (by omega) y2 y3, f1 x i y4 y5 (by omega)]
  refine sp_X16_divide_q hR hWw w4 vc2 w8 (hvD.congr (fun i => fr2 _ _ (by omega) (by omega) (by omega) (by omega) (by omega)) (fun i => fr2 _ _ (by omega) (by omega) (by omega) (by omega) (by omega))) (f2.congr (fun i => f3 _ _ (by omega) (by omega) (by omega) (by omega) (by omega)) (fun i => f3 _ _ (by omega) (by omega) (by omega) (by omega) (by omega))) hg0 (p26 (by omega) (hv2 c hc)) hgb2 (p260 (by omega) (hv2 c hc)) (by omega) (by omega) (by omega) fun D3 f5 f6 => ?_
  simp only [P_X16_takeAway, i_kil, i_icon, i_lcon, i_null, i_loadI, i_loadL, i_loadR, i_istore, i_lstore, i_astore, i_iinc, i_dup, i_dup2, i_pop, i_iadd, i_isub, i_imul, i_idiv, i_irem, i_ineg, i_iand, i_ior, i_ishl, i_ishr, i_lxor, i_ladd, i_lsub, i_lmul, i_ldiv, i_lrem, i_lneg, i_lshl, i_lcmp, i_i2l, i_l2i, i_i2b, i_i2s, i_ifeq, i_ifne, i_iflt, i_ifge, i_ifgt, i_ifle, i_cmpeq, i_cmpne, i_cmplt, i_cmpge, i_cmpgt, i_cmple, i_acmpeq, i_acmpne, i_ifnull, i_ifnonnull, i_getI, i_getR, i_putI, i_putZ, i_putR, i_ald, i_ldL, i_ldR, i_ast, i_stL, i_stR, i_alen, i_new, i_newa, i_iret, i_zret, i_lret, i_aret, i_vret, i_raise, i_throw, i_recv, i_objinit, i_tsw3, lget, lset, lput1, lput2, lkil, ltrim, largs, isL, takev, dropv, nthv, pushO, catv, gd, true_and, and_true, Option.some.injEq, Prod.mk.injEq, exists_eq_left', if_true, if_false, reduceCtorEq, Bool.false_eq_true, lcmp_ge, lcmp_lt, lcmp_le, lcmp_gt, lcmp_eq, true_or, or_true, not_true_eq_false, not_false_eq_true, false_implies, true_implies, List.length_cons, List.length_nil]
  have fr3 : ∀ x i, (x ≤ M ∨ M + 16 < x) → (x < M + 10781 ∨ M + 10788 < x) → D3 x i = D x i := fun x i y1 y2 => by rw [f5 x i (by omega) (by omega) (by omega) (by omega) (by omega), fr2 x i y1 (by omega) (by omega) (by omega) (by omega)]
  exact diff 70 0 D3 rfl (fun x i y1 y2 y3 => fr3 x i y1 y3) (f4.congr (fun i => f5 _ _ (by omega) (by omega) (by omega) (by omega) (by omega)) (fun i => f5 _ _ (by omega) (by omega) (by omega) (by omega) (by omega))) f6 (fun j hj => by omega) fun j _ hj => (hv j hj).congr (fun i => fr3 _ _ (by omega) (by omega)) (fun i => fr3 _ _ (by omega) (by omega))
