/-! the model's chains: the plain one -/
-- needs: df.mgo
set_option maxRecDepth 100000
set_option linter.unusedVariables false
theorem mhZ_bits {t u : Nat} (ht : 1 ≤ t) (ht8 : t ≤ 8) : 72 + 73 * (15 - 2 * t) + (1 + szB t) * (t + 1 - u) < 29 * 150 ∧ szB t < 29 * 41 := by
  unfold szB
  have h : t = 1 ∨ t = 2 ∨ t = 3 ∨ t = 4 ∨ t = 5 ∨ t = 6 ∨ t = 7 ∨ t = 8 := by omega
  have hs : t + 1 - u ≤ t + 1 := by omega
  generalize t + 1 - u = s at *
  rcases h with rfl | rfl | rfl | rfl | rfl | rfl | rfl | rfl <;> constructor <;> omega
theorem mhW_of {f0 f1 : Nat → Int} {n0 n1 : Nat} (hn0 : n0 ≤ 8) (h01 : n1 ≤ n0) (b0 : ∀ k, k ≤ n0 → (f0 k).natAbs ≤ 2 ^ 68) (b1 : ∀ k, k ≤ n1 → (f1 k).natAbs ≤ 2 ^ 68) : mhW f0 f1 n0 n1 := by
  intro F n m hm hall e0 e1 en0 en1 hc hp
  have l130 : ∀ z : Int, z.natAbs ≤ 2 ^ szB 1 → (z.natAbs : Int) < 1000000000 ^ 130 := fun z hz => nat_pw hz (Int.lt_of_lt_of_le (two_pw (p := 41) (by unfold szB; decide)) (pw_mono (by decide)))
  have row : ∀ i, i < m → ∀ k, k ≤ n i → ((F i k).natAbs : Int) < 1000000000 ^ 130 := fun i hi k hk => by
    refine l130 _ ?_
    rcases Nat.lt_or_ge i 2 with w | w
    · refine Nat.le_trans ?_ (pw_le2 (x := 68) (by unfold szB; decide))
      have : i = 0 ∨ i = 1 := by omega
      rcases this with rfl | rfl
      · rw [e0]; exact b0 k (by omega)
      · rw [e1]; exact b1 k (by omega)
    · refine Nat.le_trans (rows_small hn0 h01 b0 b1 e0 e1 en0 en1 hc hp w hi k hk) (pw_le2 ?_)
      have := (hc.2 (i - 1) (by omega) (by omega)).1
      rw [show i - 1 + 1 = i by omega] at this
      unfold szB; omega
  refine ⟨?_, row⟩
  rcases Nat.lt_or_ge 2 m with w | w
  · have hu : n (m - 1) < n (m - 2) := by
      have := (hc.2 (m - 2) (by omega) (by omega)).1
      rwa [show m - 2 + 1 = m - 1 by omega] at this
    have ht8 : n (m - 2) ≤ 8 := by have := (hall (m - 2) (by omega)).1; omega
    obtain ⟨k1, k2⟩ := mhZ_bits (t := n (m - 2)) (u := n (m - 1)) (by omega) ht8
    obtain ⟨k3, k4⟩ := chZ_of (s := n (m - 2) + 1 - n (m - 1)) rfl rfl k1 k2
    refine ⟨150, 41, 2 ^ (72 + 73 * (15 - 2 * n (m - 2))), 2 ^ szB (n (m - 2)), by omega, by omega, fun k hk => ?_, fun k hk => ?_, k3, k4⟩
    · rcases Nat.lt_or_ge 3 m with w3 | w3
      · have h1 := rows_small hn0 h01 b0 b1 e0 e1 en0 en1 hc hp (i := m - 2) (by omega) (by omega) k hk
        have h2 : n (m - 2) < n (m - 2 - 1) := by
          have := (hc.2 (m - 3) (by omega) (by omega)).1
          rwa [show m - 3 + 1 = m - 2 by omega, show m - 3 = m - 2 - 1 by omega] at this
        exact Nat.le_trans h1 (pw_le2 (by unfold szB; omega))
      · have em : m = 3 := by omega
        subst em
        rw [show 3 - 2 = 1 from rfl] at *
        rw [e1]
        exact Nat.le_trans (b1 k (by omega)) (pw_le2 (by omega))
    · have h1 := rows_small hn0 h01 b0 b1 e0 e1 en0 en1 hc hp (i := m - 1) (by omega) (by omega) k hk
      rwa [show m - 1 - 1 = m - 2 by omega] at h1
  · have em : m = 2 := by omega
    subst em
    rw [show 2 - 1 = 1 from rfl] at *
    obtain ⟨k3, k4⟩ := chZ_of (H := 2 ^ 68) (G := 2 ^ 68) (s := n 0 + 1 - n 1) (p := 24) (q := 3) rfl rfl (by omega) (by omega)
    refine ⟨24, 3, 2 ^ 68, 2 ^ 68, by omega, by omega, fun k hk => ?_, fun k hk => ?_, k3, k4⟩
    · rw [show 2 - 2 = 0 from rfl] at *
      rw [e0]; exact b0 k (by omega)
    · rw [e1]; exact b1 k (by omega)
/-- the chain of a row and its slope -/
theorem mG_pc {f : Nat → Int} {d : Nat} {F : Nat → Nat → Int} {n : Nat → Nat} {m : Nat} (h : chG f (brow (zder f) (d - 1)) d (d - 1) F n m) (hd : 1 ≤ d) (hf : f d ≠ 0) : pchain (zp f (d + 1)) (zF F n) n m := by
  obtain ⟨h1, h2, h3, h4, h5, h6, h7, h8, h9⟩ := h
  have ht := zder_top hf hd
  have g2 : (0 : Rat) < (((gcn (zder f) (d - 1 + 1) : Nat) : Int) : Rat) := Rat.intCast_pos.mpr (by have := gcn_pos (d - 1 + 1) (d - 1) (by omega) ht; omega)
  obtain ⟨j1, j2⟩ := pos_inv g2
  refine ⟨h1, h7, h8, ⟨1, by decide, fun x => ?_⟩, zp (zder f) d, zp_pp _ _, zder_DD, _, j1, fun x => ?_⟩
  · show zp (F 0) (n 0 + 1) x = _
    rw [h3, h5]; grind
  · show zp (F 1) (n 1 + 1) x = _ * zp (zder f) d x
    rw [h4, h6]
    have := brow_zp (f := zder f) (d := d - 1) x
    rw [show zp (zder f) d x = zp (zder f) (d - 1 + 1) x by rw [show d - 1 + 1 = d by omega], ← this]
    have k1 : (((gcn (zder f) (d - 1 + 1) : Nat) : Int) : Rat)⁻¹ * ((((gcn (zder f) (d - 1 + 1) : Nat) : Int) : Rat) * zp (brow (zder f) (d - 1)) (d - 1 + 1) x) = (((gcn (zder f) (d - 1 + 1) : Nat) : Int) : Rat)⁻¹ * (((gcn (zder f) (d - 1 + 1) : Nat) : Int) : Rat) * zp (brow (zder f) (d - 1)) (d - 1 + 1) x := by grind
    rw [k1, j2]; grind
section MP
variable {M : Nat}
theorem sp_X16_goOn {E : Ex} {B : Nat × Nat} {S : Stat} {D : Dat} {f0 f1 : Nat → Int} {n0 n1 : Nat} (hS : mhS S M) (hn0 : n0 < 9) (hn1 : n1 < 9) (h01 : n1 ≤ n0) (hW : mhW f0 f1 n0 n1) (d0 : D (M + 11240) 0 = n0) (d1 : D (M + 11240) 1 = n1) (r0 : ∀ k, k ≤ n0 → wD 2 1 D (mcw M 0 k) (f0 k)) (r1 : ∀ k, k ≤ n1 → wD 2 1 D (mcw M 1 k) (f1 k)) (t0 : f0 n0 ≠ 0) (t1 : f1 n1 ≠ 0)
    (K : ∀ (D' : Dat) (F : Nat → Nat → Int) (n : Nat → Nat) (m : Nat), mhO2 M D D' → mhD D' M F n m → mhZ F n m → chG f0 f1 n0 n1 F n m → E (.inl none) B S D') : Wp P_X16_goOn E 0 [some (aR M)] [] B S D := by
  have M1 := hS.1.1
  refine wp_in ?_
  simp only [P_X16_goOn, i_kil, i_icon, i_lcon, i_null, i_loadI, i_loadL, i_loadR, i_istore, i_lstore, i_astore, i_iinc, i_dup, i_dup2, i_pop, i_iadd, i_isub, i_imul, i_idiv, i_irem, i_ineg, i_iand, i_ior, i_ishl, i_ishr, i_lxor, i_ladd, i_lsub, i_lmul, i_ldiv, i_lrem, i_lneg, i_lshl, i_lcmp, i_i2l, i_l2i, i_i2b, i_i2s, i_ifeq, i_ifne, i_iflt, i_ifge, i_ifgt, i_ifle, i_cmpeq, i_cmpne, i_cmplt, i_cmpge, i_cmpgt, i_cmple, i_acmpeq, i_acmpne, i_ifnull, i_ifnonnull, i_getI, i_getR, i_putI, i_putZ, i_putR, i_ald, i_ldL, i_ldR, i_ast, i_stL, i_stR, i_alen, i_new, i_newa, i_iret, i_zret, i_lret, i_aret, i_vret, i_raise, i_throw, i_recv, i_objinit, i_tsw3, lget, lset, lput1, lput2, lkil, ltrim, largs, isL, takev, dropv, nthv, pushO, catv, gd, true_and, and_true, Option.some.injEq, Prod.mk.injEq, exists_eq_left', if_true, if_false, reduceCtorEq, Bool.false_eq_true, lcmp_ge, lcmp_lt, lcmp_le, lcmp_gt, lcmp_eq, true_or, or_true, not_true_eq_false, not_false_eq_true, false_implies, true_implies, List.length_cons, List.length_nil, M1]
  refine mgo_loop hS hn1 h01 hW (D := D) K (n1 + 1) (fun i => if i = 0 then f0 else f1) (fun i => if i = 0 then n0 else n1) 2 _ (by simp) ⟨fun c i c1 c2 c3 => ?_, fun i hi => ?_⟩ ⟨?_, fun r hr => ?_⟩ (by omega) (by simp) rfl rfl rfl rfl ⟨fun i hi => ?_, fun i h1 h2 => by omega⟩ fun i h1 h2 => by omega
  · simp only [pmu]; rw [if_neg (by omega)]
  · simp only [pmu]; rw [if_neg (by omega)]
  · simp only [pmu, and_self, if_true]; rfl
  · have hr2 : r = 0 ∨ r = 1 := by omega
    rcases hr2 with rfl | rfl
    · refine ⟨?_, hn0, t0, fun k hk => (r0 k hk).congr (fun i => ?_) fun i => ?_⟩
      · simp only [pmu]; rw [if_neg (by omega)]; exact d0
      · simp only [pmu]; rw [if_neg (by unfold mcw; omega)]
      · simp only [pmu]; rw [if_neg (by unfold mcw; omega)]
    · refine ⟨?_, hn1, t1, fun k hk => (r1 k hk).congr (fun i => ?_) fun i => ?_⟩
      · simp only [pmu]; rw [if_neg (by omega)]; exact d1
      · simp only [pmu]; rw [if_neg (by unfold mcw; omega)]
      · simp only [pmu]; rw [if_neg (by unfold mcw; omega)]
  · have hr2 : i = 0 ∨ i = 1 := by omega
    rcases hr2 with rfl | rfl
    · exact zp_ex t0
    · exact zp_ex t1
/-- the first one alone, where nothing stands behind it -/
theorem sp_X16_goOn1 {E : Ex} {B : Nat × Nat} {S : Stat} {D : Dat} (hS : mhS S M) (d1 : D (M + 11240) 1 = -1)
    (K : ∀ D' : Dat, (∀ c i, (c ≠ M ∨ i ≠ 70) → D' c i = D c i) → D' M 70 = 1 → E (.inl none) B S D') : Wp P_X16_goOn E 0 [some (aR M)] [] B S D := by
  obtain ⟨hM, hWw, hK, s1, s2, s3, s4, s5⟩ := hS
  have M1 := hM.1
  have e1 : (2 : Int) - 1 = 1 := by decide
  have dz : pmu D M 70 2 (M + 11240) 1 = -1 := by simp only [pmu]; rw [if_neg (by omega)]; exact d1
  have dy : pmu D M 70 2 M 70 = 2 := by simp only [pmu, and_self, if_true]
  refine wp_in ?_
  simp only [P_X16_goOn, i_kil, i_icon, i_lcon, i_null, i_loadI, i_loadL, i_loadR, i_istore, i_lstore, i_astore, i_iinc, i_dup, i_dup2, i_pop, i_iadd, i_isub, i_imul, i_idiv, i_irem, i_ineg, i_iand, i_ior, i_ishl, i_ishr, i_lxor, i_ladd, i_lsub, i_lmul, i_ldiv, i_lrem, i_lneg, i_lshl, i_lcmp, i_i2l, i_l2i, i_i2b, i_i2s, i_ifeq, i_ifne, i_iflt, i_ifge, i_ifgt, i_ifle, i_cmpeq, i_cmpne, i_cmplt, i_cmpge, i_cmpgt, i_cmple, i_acmpeq, i_acmpne, i_ifnull, i_ifnonnull, i_getI, i_getR, i_putI, i_putZ, i_putR, i_ald, i_ldL, i_ldR, i_ast, i_stL, i_stR, i_alen, i_new, i_newa, i_iret, i_zret, i_lret, i_aret, i_vret, i_raise, i_throw, i_recv, i_objinit, i_tsw3, lget, lset, lput1, lput2, lkil, ltrim, largs, isL, takev, dropv, nthv, pushO, catv, gd, true_and, and_true, Option.some.injEq, Prod.mk.injEq, exists_eq_left', if_true, if_false, reduceCtorEq, Bool.false_eq_true, lcmp_ge, lcmp_lt, lcmp_le, lcmp_gt, lcmp_eq, true_or, or_true, not_true_eq_false, not_false_eq_true, false_implies, true_implies, List.length_cons, List.length_nil, M1]
  refine wp_in ?_
  simp only [P_X16_goOn, i_kil, i_icon, i_lcon, i_null, i_loadI, i_loadL, i_loadR, i_istore, i_lstore, i_astore, i_iinc, i_dup, i_dup2, i_pop, i_iadd, i_isub, i_imul, i_idiv, i_irem, i_ineg, i_iand, i_ior, i_ishl, i_ishr, i_lxor, i_ladd, i_lsub, i_lmul, i_ldiv, i_lrem, i_lneg, i_lshl, i_lcmp, i_i2l, i_l2i, i_i2b, i_i2s, i_ifeq, i_ifne, i_iflt, i_ifge, i_ifgt, i_ifle, i_cmpeq, i_cmpne, i_cmplt, i_cmpge, i_cmpgt, i_cmple, i_acmpeq, i_acmpne, i_ifnull, i_ifnonnull, i_getI, i_getR, i_putI, i_putZ, i_putR, i_ald, i_ldL, i_ldR, i_ast, i_stL, i_stR, i_alen, i_new, i_newa, i_iret, i_zret, i_lret, i_aret, i_vret, i_raise, i_throw, i_recv, i_objinit, i_tsw3, lget, lset, lput1, lput2, lkil, ltrim, largs, isL, takev, dropv, nthv, pushO, catv, gd, true_and, and_true, Option.some.injEq, Prod.mk.injEq, exists_eq_left', if_true, if_false, reduceCtorEq, Bool.false_eq_true, lcmp_ge, lcmp_lt, lcmp_le, lcmp_gt, lcmp_eq, true_or, or_true, not_true_eq_false, not_false_eq_true, false_implies, true_implies, List.length_cons, List.length_nil, M1, s4, s5, dy, e1, dz]
  repeat (first | refine ⟨in_small (by omega) (by omega), ?_⟩ | (show (_ → _) ∧ (_ → _); first | refine ⟨by omega, fun _ => ?_⟩ | refine ⟨fun _ => ?_, by omega⟩) | refine ⟨by omega, ?_⟩ | refine ⟨⟨_, rfl, by assumption⟩, ?_⟩ | refine ⟨okT_I _, ?_⟩ | refine ⟨okT_S (by omega) (by omega), ?_⟩ | refine ⟨okT_B (by omega) (by omega), ?_⟩ | refine call0 (gd_of rfl) ?_)
  refine K _ (fun c i h => ?_) ?_
  · simp only [pmu]; rw [if_neg (by omega), if_neg (by omega)]
  · simp only [pmu, and_self, if_true]
set_option maxHeartbeats 2000000 in
theorem sp_X16_plainChain {E : Ex} {B : Nat × Nat} {S : Stat} {D : Dat} {La nL d : Nat} {f : Nat → Int} {x : Int} (hS : mhS S M) (hL : S.1 La = some (104, nL)) (hnL : d < nL) (lL : La < M + 10781 ∨ M + 11277 < La) (lL2 : La < M ∨ M + 16 < La) (hx : x = d) (hd : d ≤ 8) (hd1 : 1 ≤ d) (hf : ∀ k : Nat, k ≤ d → D La k = f k) (hb : ∀ k, k ≤ d → (f k).natAbs ≤ 2 ^ 50) (f0 : f d ≠ 0)
    (K : ∀ (D' : Dat) (F : Nat → Nat → Int) (n : Nat → Nat) (m : Nat), mhO2 M D D' → mhD D' M F n m → mhZ F n m → chG f (brow (zder f) (d - 1)) d (d - 1) F n m → E (.inl none) B S D') : Wp P_X16_plainChain E 0 [some (aR M), some (aR La), some (aI x)] [] B S D := by
  subst hx
  have hS0 := hS
  obtain ⟨hM, hWw, hK, s1, s2, s3, s4, s5⟩ := hS
  have M1 := hM.1
  obtain ⟨r0, r0'⟩ := s3 0 (by omega)
  obtain ⟨r1, r1'⟩ := s3 1 (by omega)
  obtain ⟨q0, q0'⟩ := id r0'
  obtain ⟨q1, q1'⟩ := id r1'
  have r0i : S.2.1 (M + 10795) (0 : Int) = some (M + 10796 + 37 * 0) := r0
  have r1i : S.2.1 (M + 10795) (1 : Int) = some (M + 10796 + 37 * 1) := r1
  have e50 : (2 : Nat) ^ 50 = 1125899906842624 := by decide
  have e68 : (2 : Nat) ^ 68 = 2 ^ 50 * 262144 := by decide +kernel
  have ht := zder_top f0 hd1
  have bz : ∀ k, k ≤ d - 1 → (zder f k).natAbs ≤ 2 ^ 50 * 8 := fun k hk => by
    unfold zder
    rw [Int.natAbs_mul, Int.natAbs_natCast]
    exact Nat.mul_le_mul (hb (k + 1) (by omega)) (by omega)
  have second : ∀ (L j : Nat) (D1 : Dat), j + L = d → mhO2 M D D1 → (∀ k, k ≤ d → wD 2 1 D1 (mcw M 0 k) (f k)) → (∀ k, k < j → wD 2 1 D1 (mcw M 1 k) (zder f k)) → Wp P_X16_plainChain E 2 [some (aR M), some (aR La), some (aI d), some (aI ((j : Int) + 1))] [] B S D1 := by
    intro L
    induction L with
    | zero =>
      intro j D1 hj hfr h0 h1
      have : j = d := by omega
      subst this
      have ej : (j : Int) - 1 = ((j - 1 : Nat) : Int) := by omega
      refine wp_in ?_
      simp only [P_X16_plainChain, i_kil, i_icon, i_lcon, i_null, i_loadI, i_loadL, i_loadR, i_istore, i_lstore, i_astore, i_iinc, i_dup, i_dup2, i_pop, i_iadd, i_isub, i_imul, i_idiv, i_irem, i_ineg, i_iand, i_ior, i_ishl, i_ishr, i_lxor, i_ladd, i_lsub, i_lmul, i_ldiv, i_lrem, i_lneg, i_lshl, i_lcmp, i_i2l, i_l2i, i_i2b, i_i2s, i_ifeq, i_ifne, i_iflt, i_ifge, i_ifgt, i_ifle, i_cmpeq, i_cmpne, i_cmplt, i_cmpge, i_cmpgt, i_cmple, i_acmpeq, i_acmpne, i_ifnull, i_ifnonnull, i_getI, i_getR, i_putI, i_putZ, i_putR, i_ald, i_ldL, i_ldR, i_ast, i_stL, i_stR, i_alen, i_new, i_newa, i_iret, i_zret, i_lret, i_aret, i_vret, i_raise, i_throw, i_recv, i_objinit, i_tsw3, lget, lset, lput1, lput2, lkil, ltrim, largs, isL, takev, dropv, nthv, pushO, catv, gd, true_and, and_true, Option.some.injEq, Prod.mk.injEq, exists_eq_left', if_true, if_false, reduceCtorEq, Bool.false_eq_true, lcmp_ge, lcmp_lt, lcmp_le, lcmp_gt, lcmp_eq, true_or, or_true, not_true_eq_false, not_false_eq_true, false_implies, true_implies, List.length_cons, List.length_nil, M1, s1, s2, s4, s5, r1i]
      repeat (first | refine ⟨in_small (by omega) (by omega), ?_⟩ | (show (_ → _) ∧ (_ → _); first | refine ⟨by omega, fun _ => ?_⟩ | refine ⟨fun _ => ?_, by omega⟩) | refine ⟨by omega, ?_⟩ | refine ⟨⟨_, rfl, by assumption⟩, ?_⟩ | refine ⟨okT_I _, ?_⟩ | refine ⟨okT_S (by omega) (by omega), ?_⟩ | refine ⟨okT_B (by omega) (by omega), ?_⟩ | refine call0 (gd_of rfl) ?_)
      have u : ∀ c i, c ≠ M + 11240 → pmu (pmu D1 (M + 11240) 0 j) (M + 11240) 1 ((j : Int) - 1) c i = D1 c i := fun c i c1 => by
        simp only [pmu]; rw [if_neg (by omega), if_neg (by omega)]
      refine sp_X16_small (A := M + 10796 + 37 * 1) (R := 130) (N := 18) (n := j) (p := 3) (f := zder f) hM hWw r1' (by omega) (by omega) (by omega) (fun k hk => (show wD 2 1 _ (M + 10796 + 37 * 1 + 1 + 2 * k) _ from h1 k hk).congr (fun i => u _ i (by omega)) fun i => u _ i (by omega)) (fun k hk => ?_) (by omega) (by omega) rfl (by omega) fun D2 g1 g2 => ?_
      · have := bz k (by omega)
        rw [e50] at this
        omega
      · simp only [P_X16_plainChain, i_kil, i_icon, i_lcon, i_null, i_loadI, i_loadL, i_loadR, i_istore, i_lstore, i_astore, i_iinc, i_dup, i_dup2, i_pop, i_iadd, i_isub, i_imul, i_idiv, i_irem, i_ineg, i_iand, i_ior, i_ishl, i_ishr, i_lxor, i_ladd, i_lsub, i_lmul, i_ldiv, i_lrem, i_lneg, i_lshl, i_lcmp, i_i2l, i_l2i, i_i2b, i_i2s, i_ifeq, i_ifne, i_iflt, i_ifge, i_ifgt, i_ifle, i_cmpeq, i_cmpne, i_cmplt, i_cmpge, i_cmpgt, i_cmple, i_acmpeq, i_acmpne, i_ifnull, i_ifnonnull, i_getI, i_getR, i_putI, i_putZ, i_putR, i_ald, i_ldL, i_ldR, i_ast, i_stL, i_stR, i_alen, i_new, i_newa, i_iret, i_zret, i_lret, i_aret, i_vret, i_raise, i_throw, i_recv, i_objinit, i_tsw3, lget, lset, lput1, lput2, lkil, ltrim, largs, isL, takev, dropv, nthv, pushO, catv, gd, true_and, and_true, Option.some.injEq, Prod.mk.injEq, exists_eq_left', if_true, if_false, reduceCtorEq, Bool.false_eq_true, lcmp_ge, lcmp_lt, lcmp_le, lcmp_gt, lcmp_eq, true_or, or_true, not_true_eq_false, not_false_eq_true, false_implies, true_implies, List.length_cons, List.length_nil, M1]
        repeat (first | refine ⟨in_small (by omega) (by omega), ?_⟩ | (show (_ → _) ∧ (_ → _); first | refine ⟨by omega, fun _ => ?_⟩ | refine ⟨fun _ => ?_, by omega⟩) | refine ⟨by omega, ?_⟩ | refine ⟨⟨_, rfl, by assumption⟩, ?_⟩ | refine ⟨okT_I _, ?_⟩ | refine ⟨okT_S (by omega) (by omega), ?_⟩ | refine ⟨okT_B (by omega) (by omega), ?_⟩ | refine call0 (gd_of rfl) ?_)
        have ecb : crow (zder f) j = brow (zder f) (j - 1) := by rw [← crow_brow, show j - 1 + 1 = j by omega]
        have v : ∀ c i, (c ≤ M + 10796 + 37 * 1 ∨ M + 10796 + 37 * 1 + 2 * j < c) → (c < M ∨ M + 16 < c) → (c < M + 10781 ∨ M + 10788 < c) → c ≠ M + 11240 → D2 c i = D1 c i := fun c i c1 c2 c3 c4 => by rw [g1 c i c1 (by omega) (by omega) (by omega), u c i c4]
        refine sp_X16_goOn (f0 := f) (f1 := brow (zder f) (j - 1)) (n0 := j) (n1 := j - 1) hS0 (by omega) (by omega) (by omega) (mhW_of hd (by omega) (fun k hk => ?_) fun k hk => ?_) ?_ ?_ (fun k hk => (h0 k hk).congr (fun i => v _ i (by unfold mcw; omega) (by unfold mcw; omega) (by unfold mcw; omega) (by unfold mcw; omega)) fun i => v _ i (by unfold mcw; omega) (by unfold mcw; omega) (by unfold mcw; omega) (by unfold mcw; omega)) (fun k hk => ?_) f0 (brow_top ht) fun D3 F n m i1 i2 i3 i4 => ?_
        · have := hb k hk
          rw [e68]
          omega
        · have h3 := brow_abs hk ht
          have := bz k hk
          rw [e68]
          omega
        · rw [g1 _ _ (by omega) (by omega) (by omega) (by omega)]
          simp only [pmu]; rw [if_neg (by omega), if_pos (by simp)]
        · rw [g1 _ _ (by omega) (by omega) (by omega) (by omega)]
          simp only [pmu]; rw [if_pos (by simp)]; exact ej
        · have := g2 k (by omega)
          rw [ecb] at this
          exact this
        · simp only [P_X16_plainChain, i_kil, i_icon, i_lcon, i_null, i_loadI, i_loadL, i_loadR, i_istore, i_lstore, i_astore, i_iinc, i_dup, i_dup2, i_pop, i_iadd, i_isub, i_imul, i_idiv, i_irem, i_ineg, i_iand, i_ior, i_ishl, i_ishr, i_lxor, i_ladd, i_lsub, i_lmul, i_ldiv, i_lrem, i_lneg, i_lshl, i_lcmp, i_i2l, i_l2i, i_i2b, i_i2s, i_ifeq, i_ifne, i_iflt, i_ifge, i_ifgt, i_ifle, i_cmpeq, i_cmpne, i_cmplt, i_cmpge, i_cmpgt, i_cmple, i_acmpeq, i_acmpne, i_ifnull, i_ifnonnull, i_getI, i_getR, i_putI, i_putZ, i_putR, i_ald, i_ldL, i_ldR, i_ast, i_stL, i_stR, i_alen, i_new, i_newa, i_iret, i_zret, i_lret, i_aret, i_vret, i_raise, i_throw, i_recv, i_objinit, i_tsw3, lget, lset, lput1, lput2, lkil, ltrim, largs, isL, takev, dropv, nthv, pushO, catv, gd, true_and, and_true, Option.some.injEq, Prod.mk.injEq, exists_eq_left', if_true, if_false, reduceCtorEq, Bool.false_eq_true, lcmp_ge, lcmp_lt, lcmp_le, lcmp_gt, lcmp_eq, true_or, or_true, not_true_eq_false, not_false_eq_true, false_implies, true_implies, List.length_cons, List.length_nil]
          refine K D3 F n m ⟨fun c i c1 c2 c3 => ?_, fun i hi => ?_⟩ i2 i3 i4
          · rw [i1.1 c i c1 c2 c3, v c i (by omega) c1 c2 (by omega)]; exact hfr.1 c i c1 c2 c3
          · rw [i1.2 i hi, g1 _ _ (by omega) (by omega) (by omega) (by omega), u _ _ (by omega)]; exact hfr.2 i hi
    | succ L ih =>
      intro j D1 hj hfr h0 h1
      obtain ⟨t1, t2⟩ := q1' j (by omega)
      have t3 := t2.1
      have ej : (j : Int) + 1 - 1 = (j : Int) := by omega
      have e1 : D1 La ((j : Int) + 1) = f (j + 1) := by
        rw [hfr.1 _ _ (by omega) (by omega) (by omega)]
        exact hf (j + 1) (by omega)
      have hbj := hb (j + 1) (by omega)
      have hbz := bz j (by omega)
      have ez : zder f j = ((j : Int) + 1) * f (j + 1) := by unfold zder; rw [Int.mul_comm]; rfl
      rw [e50] at hbj hbz
      rw [ez] at hbz
      refine wp_in ?_
      simp only [P_X16_plainChain, i_kil, i_icon, i_lcon, i_null, i_loadI, i_loadL, i_loadR, i_istore, i_lstore, i_astore, i_iinc, i_dup, i_dup2, i_pop, i_iadd, i_isub, i_imul, i_idiv, i_irem, i_ineg, i_iand, i_ior, i_ishl, i_ishr, i_lxor, i_ladd, i_lsub, i_lmul, i_ldiv, i_lrem, i_lneg, i_lshl, i_lcmp, i_i2l, i_l2i, i_i2b, i_i2s, i_ifeq, i_ifne, i_iflt, i_ifge, i_ifgt, i_ifle, i_cmpeq, i_cmpne, i_cmplt, i_cmpge, i_cmpgt, i_cmple, i_acmpeq, i_acmpne, i_ifnull, i_ifnonnull, i_getI, i_getR, i_putI, i_putZ, i_putR, i_ald, i_ldL, i_ldR, i_ast, i_stL, i_stR, i_alen, i_new, i_newa, i_iret, i_zret, i_lret, i_aret, i_vret, i_raise, i_throw, i_recv, i_objinit, i_tsw3, lget, lset, lput1, lput2, lkil, ltrim, largs, isL, takev, dropv, nthv, pushO, catv, gd, true_and, and_true, Option.some.injEq, Prod.mk.injEq, exists_eq_left', if_true, if_false, reduceCtorEq, Bool.false_eq_true, lcmp_ge, lcmp_lt, lcmp_le, lcmp_gt, lcmp_eq, true_or, or_true, not_true_eq_false, not_false_eq_true, false_implies, true_implies, List.length_cons, List.length_nil, M1, s1, s2, r1i, q1, ej, t1, hL, e1]
      repeat (first | refine ⟨in_small (by omega) (by omega), ?_⟩ | (show (_ → _) ∧ (_ → _); first | refine ⟨by omega, fun _ => ?_⟩ | refine ⟨fun _ => ?_, by omega⟩) | refine ⟨by omega, ?_⟩ | refine ⟨⟨_, rfl, by assumption⟩, ?_⟩ | refine ⟨okT_I _, ?_⟩ | refine ⟨okT_S (by omega) (by omega), ?_⟩ | refine ⟨okT_B (by omega) (by omega), ?_⟩ | refine call0 (gd_of rfl) ?_)
      have hin : inL (((j : Int) + 1) * f (j + 1)) := by
        unfold inL
        generalize ((j : Int) + 1) * f (j + 1) = Z at *
        omega
      refine ⟨hin, ?_⟩
      repeat (first | refine ⟨in_small (by omega) (by omega), ?_⟩ | (show (_ → _) ∧ (_ → _); first | refine ⟨by omega, fun _ => ?_⟩ | refine ⟨fun _ => ?_, by omega⟩) | refine ⟨by omega, ?_⟩ | refine ⟨⟨_, rfl, by assumption⟩, ?_⟩ | refine ⟨okT_I _, ?_⟩ | refine ⟨okT_S (by omega) (by omega), ?_⟩ | refine ⟨okT_B (by omega) (by omega), ?_⟩ | refine call0 (gd_of rfl) ?_)
      refine sp_X17_set t2 (by omega) (by omega) (by generalize ((j : Int) + 1) * f (j + 1) = Z at *; omega) fun D2 g1 g2 => ?_
      simp only [P_X16_plainChain, i_kil, i_icon, i_lcon, i_null, i_loadI, i_loadL, i_loadR, i_istore, i_lstore, i_astore, i_iinc, i_dup, i_dup2, i_pop, i_iadd, i_isub, i_imul, i_idiv, i_irem, i_ineg, i_iand, i_ior, i_ishl, i_ishr, i_lxor, i_ladd, i_lsub, i_lmul, i_ldiv, i_lrem, i_lneg, i_lshl, i_lcmp, i_i2l, i_l2i, i_i2b, i_i2s, i_ifeq, i_ifne, i_iflt, i_ifge, i_ifgt, i_ifle, i_cmpeq, i_cmpne, i_cmplt, i_cmpge, i_cmpgt, i_cmple, i_acmpeq, i_acmpne, i_ifnull, i_ifnonnull, i_getI, i_getR, i_putI, i_putZ, i_putR, i_ald, i_ldL, i_ldR, i_ast, i_stL, i_stR, i_alen, i_new, i_newa, i_iret, i_zret, i_lret, i_aret, i_vret, i_raise, i_throw, i_recv, i_objinit, i_tsw3, lget, lset, lput1, lput2, lkil, ltrim, largs, isL, takev, dropv, nthv, pushO, catv, gd, true_and, and_true, Option.some.injEq, Prod.mk.injEq, exists_eq_left', if_true, if_false, reduceCtorEq, Bool.false_eq_true, lcmp_ge, lcmp_lt, lcmp_le, lcmp_gt, lcmp_eq, true_or, or_true, not_true_eq_false, not_false_eq_true, false_implies, true_implies, List.length_cons, List.length_nil]
      repeat (first | refine ⟨in_small (by omega) (by omega), ?_⟩ | (show (_ → _) ∧ (_ → _); first | refine ⟨by omega, fun _ => ?_⟩ | refine ⟨fun _ => ?_, by omega⟩) | refine ⟨by omega, ?_⟩ | refine ⟨⟨_, rfl, by assumption⟩, ?_⟩ | refine ⟨okT_I _, ?_⟩ | refine ⟨okT_S (by omega) (by omega), ?_⟩ | refine ⟨okT_B (by omega) (by omega), ?_⟩ | refine call0 (gd_of rfl) ?_)
      refine ih (j + 1) D2 (by omega) ⟨fun c i c1 c2 c3 => ?_, fun i hi => ?_⟩ (fun k hk => ?_) fun k hk => ?_
      · rw [g1 c i (by omega) (by omega)]; exact hfr.1 c i c1 c2 c3
      · rw [g1 _ _ (by omega) (by omega)]; exact hfr.2 i hi
      · exact (h0 k hk).congr (fun i => g1 _ i (by unfold mcw; omega) (by unfold mcw; omega)) fun i => g1 _ i (by unfold mcw; omega) (by unfold mcw; omega)
      · by_cases w : k = j
        · rw [w, ez]; exact g2
        · exact (h1 k (by omega)).congr (fun i => g1 _ i (by unfold mcw; omega) (by unfold mcw; omega)) fun i => g1 _ i (by unfold mcw; omega) (by unfold mcw; omega)
  have first : ∀ (L j : Nat) (D1 : Dat), j + L = d + 1 → mhO2 M D D1 → (∀ k, k < j → wD 2 1 D1 (mcw M 0 k) (f k)) → Wp P_X16_plainChain E 1 [some (aR M), some (aR La), some (aI d), some (aI j)] [] B S D1 := by
    intro L
    induction L with
    | zero =>
      intro j D1 hj hfr h0
      refine wp_in ?_
      simp only [P_X16_plainChain, i_kil, i_icon, i_lcon, i_null, i_loadI, i_loadL, i_loadR, i_istore, i_lstore, i_astore, i_iinc, i_dup, i_dup2, i_pop, i_iadd, i_isub, i_imul, i_idiv, i_irem, i_ineg, i_iand, i_ior, i_ishl, i_ishr, i_lxor, i_ladd, i_lsub, i_lmul, i_ldiv, i_lrem, i_lneg, i_lshl, i_lcmp, i_i2l, i_l2i, i_i2b, i_i2s, i_ifeq, i_ifne, i_iflt, i_ifge, i_ifgt, i_ifle, i_cmpeq, i_cmpne, i_cmplt, i_cmpge, i_cmpgt, i_cmple, i_acmpeq, i_acmpne, i_ifnull, i_ifnonnull, i_getI, i_getR, i_putI, i_putZ, i_putR, i_ald, i_ldL, i_ldR, i_ast, i_stL, i_stR, i_alen, i_new, i_newa, i_iret, i_zret, i_lret, i_aret, i_vret, i_raise, i_throw, i_recv, i_objinit, i_tsw3, lget, lset, lput1, lput2, lkil, ltrim, largs, isL, takev, dropv, nthv, pushO, catv, gd, true_and, and_true, Option.some.injEq, Prod.mk.injEq, exists_eq_left', if_true, if_false, reduceCtorEq, Bool.false_eq_true, lcmp_ge, lcmp_lt, lcmp_le, lcmp_gt, lcmp_eq, true_or, or_true, not_true_eq_false, not_false_eq_true, false_implies, true_implies, List.length_cons, List.length_nil]
      repeat (first | refine ⟨in_small (by omega) (by omega), ?_⟩ | (show (_ → _) ∧ (_ → _); first | refine ⟨by omega, fun _ => ?_⟩ | refine ⟨fun _ => ?_, by omega⟩) | refine ⟨by omega, ?_⟩ | refine ⟨⟨_, rfl, by assumption⟩, ?_⟩ | refine ⟨okT_I _, ?_⟩ | refine ⟨okT_S (by omega) (by omega), ?_⟩ | refine ⟨okT_B (by omega) (by omega), ?_⟩ | refine call0 (gd_of rfl) ?_)
      exact second d 0 D1 (by omega) hfr (fun k hk => h0 k (by omega)) fun k hk => by omega
    | succ L ih =>
      intro j D1 hj hfr h0
      obtain ⟨t1, t2⟩ := q0' j (by omega)
      have t3 := t2.1
      have e1 : D1 La j = f j := by
        rw [hfr.1 _ _ (by omega) (by omega) (by omega)]
        exact hf j (by omega)
      have hbj := hb j (by omega)
      rw [e50] at hbj
      refine wp_in ?_
      simp only [P_X16_plainChain, i_kil, i_icon, i_lcon, i_null, i_loadI, i_loadL, i_loadR, i_istore, i_lstore, i_astore, i_iinc, i_dup, i_dup2, i_pop, i_iadd, i_isub, i_imul, i_idiv, i_irem, i_ineg, i_iand, i_ior, i_ishl, i_ishr, i_lxor, i_ladd, i_lsub, i_lmul, i_ldiv, i_lrem, i_lneg, i_lshl, i_lcmp, i_i2l, i_l2i, i_i2b, i_i2s, i_ifeq, i_ifne, i_iflt, i_ifge, i_ifgt, i_ifle, i_cmpeq, i_cmpne, i_cmplt, i_cmpge, i_cmpgt, i_cmple, i_acmpeq, i_acmpne, i_ifnull, i_ifnonnull, i_getI, i_getR, i_putI, i_putZ, i_putR, i_ald, i_ldL, i_ldR, i_ast, i_stL, i_stR, i_alen, i_new, i_newa, i_iret, i_zret, i_lret, i_aret, i_vret, i_raise, i_throw, i_recv, i_objinit, i_tsw3, lget, lset, lput1, lput2, lkil, ltrim, largs, isL, takev, dropv, nthv, pushO, catv, gd, true_and, and_true, Option.some.injEq, Prod.mk.injEq, exists_eq_left', if_true, if_false, reduceCtorEq, Bool.false_eq_true, lcmp_ge, lcmp_lt, lcmp_le, lcmp_gt, lcmp_eq, true_or, or_true, not_true_eq_false, not_false_eq_true, false_implies, true_implies, List.length_cons, List.length_nil, M1, s1, s2, r0i, q0, t1, hL, e1]
      repeat (first | refine ⟨in_small (by omega) (by omega), ?_⟩ | (show (_ → _) ∧ (_ → _); first | refine ⟨by omega, fun _ => ?_⟩ | refine ⟨fun _ => ?_, by omega⟩) | refine ⟨by omega, ?_⟩ | refine ⟨⟨_, rfl, by assumption⟩, ?_⟩ | refine ⟨okT_I _, ?_⟩ | refine ⟨okT_S (by omega) (by omega), ?_⟩ | refine ⟨okT_B (by omega) (by omega), ?_⟩ | refine call0 (gd_of rfl) ?_)
      refine sp_X17_set t2 (by omega) (by omega) (by omega) fun D2 g1 g2 => ?_
      simp only [P_X16_plainChain, i_kil, i_icon, i_lcon, i_null, i_loadI, i_loadL, i_loadR, i_istore, i_lstore, i_astore, i_iinc, i_dup, i_dup2, i_pop, i_iadd, i_isub, i_imul, i_idiv, i_irem, i_ineg, i_iand, i_ior, i_ishl, i_ishr, i_lxor, i_ladd, i_lsub, i_lmul, i_ldiv, i_lrem, i_lneg, i_lshl, i_lcmp, i_i2l, i_l2i, i_i2b, i_i2s, i_ifeq, i_ifne, i_iflt, i_ifge, i_ifgt, i_ifle, i_cmpeq, i_cmpne, i_cmplt, i_cmpge, i_cmpgt, i_cmple, i_acmpeq, i_acmpne, i_ifnull, i_ifnonnull, i_getI, i_getR, i_putI, i_putZ, i_putR, i_ald, i_ldL, i_ldR, i_ast, i_stL, i_stR, i_alen, i_new, i_newa, i_iret, i_zret, i_lret, i_aret, i_vret, i_raise, i_throw, i_recv, i_objinit, i_tsw3, lget, lset, lput1, lput2, lkil, ltrim, largs, isL, takev, dropv, nthv, pushO, catv, gd, true_and, and_true, Option.some.injEq, Prod.mk.injEq, exists_eq_left', if_true, if_false, reduceCtorEq, Bool.false_eq_true, lcmp_ge, lcmp_lt, lcmp_le, lcmp_gt, lcmp_eq, true_or, or_true, not_true_eq_false, not_false_eq_true, false_implies, true_implies, List.length_cons, List.length_nil]
      repeat (first | refine ⟨in_small (by omega) (by omega), ?_⟩ | (show (_ → _) ∧ (_ → _); first | refine ⟨by omega, fun _ => ?_⟩ | refine ⟨fun _ => ?_, by omega⟩) | refine ⟨by omega, ?_⟩ | refine ⟨⟨_, rfl, by assumption⟩, ?_⟩ | refine ⟨okT_I _, ?_⟩ | refine ⟨okT_S (by omega) (by omega), ?_⟩ | refine ⟨okT_B (by omega) (by omega), ?_⟩ | refine call0 (gd_of rfl) ?_)
      refine ih (j + 1) D2 (by omega) ⟨fun c i c1 c2 c3 => ?_, fun i hi => ?_⟩ fun k hk => ?_
      · rw [g1 c i (by omega) (by omega)]; exact hfr.1 c i c1 c2 c3
      · rw [g1 _ _ (by omega) (by omega)]; exact hfr.2 i hi
      · by_cases w : k = j
        · rw [w]; exact g2
        · exact (h0 k (by omega)).congr (fun i => g1 _ i (by unfold mcw; omega) (by unfold mcw; omega)) fun i => g1 _ i (by unfold mcw; omega) (by unfold mcw; omega)
  refine wp_in ?_
  simp only [P_X16_plainChain, i_kil, i_icon, i_lcon, i_null, i_loadI, i_loadL, i_loadR, i_istore, i_lstore, i_astore, i_iinc, i_dup, i_dup2, i_pop, i_iadd, i_isub, i_imul, i_idiv, i_irem, i_ineg, i_iand, i_ior, i_ishl, i_ishr, i_lxor, i_ladd, i_lsub, i_lmul, i_ldiv, i_lrem, i_lneg, i_lshl, i_lcmp, i_i2l, i_l2i, i_i2b, i_i2s, i_ifeq, i_ifne, i_iflt, i_ifge, i_ifgt, i_ifle, i_cmpeq, i_cmpne, i_cmplt, i_cmpge, i_cmpgt, i_cmple, i_acmpeq, i_acmpne, i_ifnull, i_ifnonnull, i_getI, i_getR, i_putI, i_putZ, i_putR, i_ald, i_ldL, i_ldR, i_ast, i_stL, i_stR, i_alen, i_new, i_newa, i_iret, i_zret, i_lret, i_aret, i_vret, i_raise, i_throw, i_recv, i_objinit, i_tsw3, lget, lset, lput1, lput2, lkil, ltrim, largs, isL, takev, dropv, nthv, pushO, catv, gd, true_and, and_true, Option.some.injEq, Prod.mk.injEq, exists_eq_left', if_true, if_false, reduceCtorEq, Bool.false_eq_true, lcmp_ge, lcmp_lt, lcmp_le, lcmp_gt, lcmp_eq, true_or, or_true, not_true_eq_false, not_false_eq_true, false_implies, true_implies, List.length_cons, List.length_nil]
  exact first (d + 1) 0 D (by omega) ⟨fun _ _ _ _ _ => rfl, fun _ _ => rfl⟩ fun k hk => by omega
end MP
