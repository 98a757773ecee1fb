/-! chains of the component: begin -/
-- needs: d5.chwith
set_option maxRecDepth 100000
set_option linter.unusedVariables false
def szC (t : Nat) : Nat := 72 + 73 * (15 - 2 * t)
/-- rows with small numbers -/
def chM (F : Nat → Nat → Int) (n : Nat → Nat) (m : Nat) : Prop := ∀ i, i < m → ∀ k, k ≤ n i → (F i k).natAbs ≤ 2 ^ szC (n i)
theorem chG.sz {f0 f1 : Nat → Int} {n0 n1 : Nat} {F : Nat → Nat → Int} {n : Nat → Nat} {m : Nat} (h : chG f0 f1 n0 n1 F n m) (hn0 : n0 ≤ 8) (h01 : n1 ≤ n0) (b0 : ∀ k, k ≤ n0 → (f0 k).natAbs ≤ 2 ^ 68) (b1 : ∀ k, k ≤ n1 → (f1 k).natAbs ≤ 2 ^ 68) : chM F n m := by
  obtain ⟨h1, h2, h3, h4, h5, h6, h7, h8, h9⟩ := h
  intro i hi k hk
  rcases Nat.lt_or_ge i 2 with w | w
  · refine Nat.le_trans ?_ (pw_le2 (x := 68) (by unfold szC; omega))
    have : i = 0 ∨ i = 1 := by omega
    rcases this with rfl | rfl
    · rw [h3]; exact b0 k (by omega)
    · rw [h4]; exact b1 k (by omega)
  · refine Nat.le_trans (rows_small hn0 h01 b0 b1 h3 h4 h5 h6 h7 h9 w hi k hk) (pw_le2 ?_)
    have := (h7.2 (i - 1) (by omega) (by omega)).1
    rw [show i - 1 + 1 = i by omega] at this
    unfold szB szC; omega
theorem chG.pc {f : Nat → Int} {d : Nat} {F : Nat → Nat → Int} {n : Nat → Nat} {m : Nat} (h : chG (brow f d) (brow (zder (brow f d)) (d - 1)) d (d - 1) F n m) (hd : 1 ≤ d) (hf : f d ≠ 0) : pchain (zp f (d + 1)) (zF F n) n m := by
  obtain ⟨h1, h2, h3, h4, h5, h6, h7, h8, h9⟩ := h
  have g1 : (0 : Rat) < (((gcn f (d + 1) : Nat) : Int) : Rat) := Rat.intCast_pos.mpr (by have := gcn_pos (d + 1) d (by omega) hf; omega)
  have ht := zder_top (brow_top hf) hd
  have g2 : (0 : Rat) < (((gcn (zder (brow f d)) (d - 1 + 1) : Nat) : Int) : Rat) := Rat.intCast_pos.mpr (by have := gcn_pos (d - 1 + 1) (d - 1) (by omega) ht; omega)
  obtain ⟨i1, i2⟩ := pos_inv g1
  obtain ⟨j1, j2⟩ := pos_inv g2
  have e0 : ∀ x, zF F n 0 x = (((gcn f (d + 1) : Nat) : Int) : Rat)⁻¹ * zp f (d + 1) x := fun x => by
    unfold zF
    rw [h3, h5, ← brow_zp (f := f) (d := d) x]; grind
  refine ⟨h1, h7, h8, ⟨_, i1, e0⟩, fun x => (((gcn f (d + 1) : Nat) : Int) : Rat) * zp (zder (brow f d)) d x, PP.smul (zp_pp _ _) _, ?_, _, Rat.mul_pos i1 j1, fun x => ?_⟩
  · have := (zder_DD (f := brow f d) (d := d)).smul (((gcn f (d + 1) : Nat) : Int) : Rat)
    rwa [show (fun x => (((gcn f (d + 1) : Nat) : Int) : Rat) * zp (brow f d) (d + 1) x) = zp f (d + 1) from funext fun x => brow_zp x] at this
  · show zp (F 1) (n 1 + 1) x = _ * ((((gcn f (d + 1) : Nat) : Int) : Rat) * zp (zder (brow f d)) d x)
    rw [h4, h6]
    have := brow_zp (f := zder (brow f d)) (d := d - 1) x
    rw [show zp (zder (brow f d)) d x = zp (zder (brow f d)) (d - 1 + 1) x by rw [show d - 1 + 1 = d by omega], ← this]
    grind
/-- the bounds of the first two rows -/
theorem two_sz {f : Nat → Int} {d : Nat} (hd : d ≤ 8) (hf : f d ≠ 0) (hd1 : 1 ≤ d) (hb : ∀ k, k ≤ d → (f k).natAbs ≤ 2 ^ 65) : (∀ k, k ≤ d → (brow f d k).natAbs ≤ 2 ^ 68) ∧ ∀ k, k ≤ d - 1 → (brow (zder (brow f d)) (d - 1) k).natAbs ≤ 2 ^ 68 := by
  have e68 : (2 : Nat) ^ 68 = 2 ^ 65 * 8 := by decide +kernel
  have h1 : ∀ k, k ≤ d → (brow f d k).natAbs ≤ 2 ^ 65 := fun k hk => Nat.le_trans (brow_abs hk hf) (hb k hk)
  rw [e68]
  generalize 2 ^ 65 = N at *
  refine ⟨fun k hk => by have := h1 k hk; omega, fun k hk => ?_⟩
  refine Nat.le_trans (brow_abs hk (zder_top (brow_top hf) hd1)) ?_
  unfold zder
  rw [Int.natAbs_mul, Int.natAbs_natCast]
  exact Nat.mul_le_mul (h1 (k + 1) (by omega)) (by omega)
/-- what a chain leaves: the first one over its last -/
theorem chG.over {f : Nat → Int} {d : Nat} {F : Nat → Nat → Int} {n : Nat → Nat} {m : Nat} (h : chG (brow f d) (brow (zder (brow f d)) (d - 1)) d (d - 1) F n m) (hd : 1 ≤ d) (hf : f d ≠ 0) (hall : ∀ i, i < m → F i (n i) ≠ 0) : n (m - 1) ≤ d - 1 ∧ zprim (F (m - 1)) (n (m - 1) + 1) ∧ ∃ q : Nat → Int, (∀ k, d - n (m - 1) < k → q k = 0) ∧ q (d - n (m - 1)) ≠ 0 ∧ (∀ x, zp (brow f d) (d + 1) x = zp (F (m - 1)) (n (m - 1) + 1) x * zp q (d - n (m - 1) + 1) x) ∧ (∀ k, k ≤ d → brow f d k = zcv (F (m - 1)) q (n (m - 1) + 1) k) ∧ smp (zp f (d + 1)) (zp q (d - n (m - 1) + 1)) := by
  have hpc := h.pc hd hf
  obtain ⟨h1, h2, h3, h4, h5, h6, h7, h8, h9⟩ := h
  have hle : n (m - 1) ≤ d - 1 := by
    have := h7.desc (m - 2) 1 (by omega) (by omega)
    rw [show 1 + (m - 2) = m - 1 by omega, h6] at this; omega
  have hpr : zprim (F (m - 1)) (n (m - 1) + 1) := by
    rcases Nat.lt_or_ge 2 m with w | w
    · exact h9 (m - 1) (by omega) (by omega)
    · have : m = 2 := by omega
      subst this
      show zprim (F 1) (n 1 + 1)
      rw [h4, h6]
      exact brow_prim (zder_top (brow_top hf) hd)
  obtain ⟨-, ⟨u, hu, e2⟩, -⟩ := h7.last h8 h1
  have e0 : zF F n 0 = zp (brow f d) (d + 1) := by unfold zF; rw [h3, h5]
  rw [e0] at e2
  obtain ⟨-, q, q1, q2, q3, q4⟩ := quo_ex hpr (hall (m - 1) (by omega)) (brow_top hf) ⟨u, hu, e2⟩
  refine ⟨hle, hpr, q, q1, q2, q3, q4, zp_pp _ _, zp_pp _ _, zF F n, n, m, hpc, ?_⟩
  have g1 : (0 : Rat) < (((gcn f (d + 1) : Nat) : Int) : Rat) := Rat.intCast_pos.mpr (by have := gcn_pos (d + 1) d (by omega) hf; omega)
  obtain ⟨i1, i2⟩ := pos_inv g1
  refine ⟨(((gcn f (d + 1) : Nat) : Int) : Rat)⁻¹, fun w => by rw [w] at i1; exact Rat.lt_irrefl i1, fun x => ?_⟩
  rw [← brow_zp (f := f) (d := d) x, q3 x]
  show _ = _ * zp (F (m - 1)) (n (m - 1) + 1) x
  grind
theorem chG.done {f : Nat → Int} {d : Nat} {F : Nat → Nat → Int} {n : Nat → Nat} {m : Nat} (h : chG (brow f d) (brow (zder (brow f d)) (d - 1)) d (d - 1) F n m) (hd : 1 ≤ d) (hf : f d ≠ 0) (he : n (m - 1) = 0) : smp (zp f (d + 1)) (zp f (d + 1)) := by
  have hpc := h.pc hd hf
  have h1 := h.1
  have h7 := h.2.2.2.2.2.2.1
  refine ⟨zp_pp _ _, zp_pp _ _, zF F n, n, m, hpc, ?_⟩
  have hl := h7.1 (m - 1) (by omega)
  rw [he] at hl
  obtain ⟨c, c0, hc⟩ := hl.const
  exact ⟨c, c0, fun x => by rw [hc]; grind⟩
section BEGIN
variable {b o : Nat}
set_option maxHeartbeats 1000000 in
theorem sp_X8_put {E : Ex} {B : Nat × Nat} {S : Stat} {D : Dat} {N d : Nat} {f : Nat → Int} (hS : chS S b o) (hN : S.1 N = some (100, 9)) (hNb : N < b ∨ b + 219 < N) (hd : d < 9) (hf : ∀ k : Nat, k ≤ d → D N k = f k) (hb : ∀ k, k ≤ d → (f k).natAbs ≤ 1000000)
    (K : ∀ D' : Dat, (∀ c i, (c < cw b 0 0 ∨ cw b 0 8 + 1 < c) → (c ≠ b + 12 ∨ i ≠ 0) → D' c i = D c i) → D' (b + 12) 0 = d → chR D' b 0 d f → E (.inl none) B S D') : Wp P_X8_put E 0 [some (aR b), some (aR N), some (aI d)] [] B S D := by
  obtain ⟨ho, s1, s2, s3, s4, s5, s6, s7, s8, s9, s10, s11, s12, s13, s14, s15, s16, s17, s18, s19, s20⟩ := hS
  obtain ⟨r1, r2⟩ := s5 0 (by omega)
  have r1' : S.2.1 (b + 1) (0 : Int) = some (b + 2 + 0) := r1
  have loop : ∀ (L j : Nat) (D1 : Dat), j + L = d + 1 → (∀ c i, (c < cw b 0 0 ∨ cw b 0 8 + 1 < c) → D1 c i = D c i) → (∀ k, k < j → wD 1 2 D1 (cw b 0 k) (f k)) → Wp P_X8_put E 1 [some (aR b), some (aR N), some (aI d), some (aI j)] [] B S D1 := by
    intro L
    induction L with
    | zero =>
      intro j D1 hj hfr hdone
      refine wp_in ?_
      simp only [P_X8_put, i_kil, i_icon, i_lcon, i_null, i_loadI, i_loadL, i_loadR, i_istore, i_lstore, i_astore, i_iinc, i_dup, i_dup2, i_pop, i_iadd, i_isub, i_imul, i_idiv, i_irem, i_ineg, i_iand, i_ior, i_ishl, i_ishr, i_lxor, i_ladd, i_lsub, i_lmul, i_ldiv, i_lrem, i_lneg, i_lshl, i_lcmp, i_i2l, i_l2i, i_i2b, i_i2s, i_ifeq, i_ifne, i_iflt, i_ifge, i_ifgt, i_ifle, i_cmpeq, i_cmpne, i_cmplt, i_cmpge, i_cmpgt, i_cmple, i_acmpeq, i_acmpne, i_ifnull, i_ifnonnull, i_getI, i_getR, i_putI, i_putZ, i_putR, i_ald, i_ldL, i_ldR, i_ast, i_stL, i_stR, i_alen, i_new, i_newa, i_iret, i_zret, i_lret, i_aret, i_vret, i_raise, i_throw, i_recv, i_objinit, i_tsw3, lget, lset, lput1, lput2, lkil, ltrim, largs, isL, takev, dropv, nthv, pushO, catv, gd, true_and, and_true, Option.some.injEq, Prod.mk.injEq, exists_eq_left', if_true, if_false, reduceCtorEq, Bool.false_eq_true, lcmp_ge, lcmp_lt, lcmp_le, lcmp_gt, lcmp_eq, true_or, or_true, not_true_eq_false, not_false_eq_true, false_implies, true_implies, List.length_cons, List.length_nil, s1, s7, s8]
      repeat (first | refine ⟨in_small (by omega) (by omega), ?_⟩ | (show (_ → _) ∧ (_ → _); first | refine ⟨by omega, fun _ => ?_⟩ | refine ⟨fun _ => ?_, by omega⟩) | refine ⟨by omega, ?_⟩ | refine ⟨⟨_, rfl, by assumption⟩, ?_⟩ | refine ⟨okT_I _, ?_⟩ | refine ⟨okT_S (by omega) (by omega), ?_⟩ | refine ⟨okT_B (by omega) (by omega), ?_⟩ | refine call0 (gd_of rfl) ?_)
      refine K _ (fun c i c1 c2 => ?_) ?_ fun k hk => (hdone k (by omega)).congr (fun i => ?_) fun i => ?_
      · simp only [pmu]; rw [if_neg (by omega)]; exact hfr c i c1
      · simp only [pmu, and_self, if_true]
      · simp only [pmu]; rw [if_neg (by unfold cw; omega)]
      · simp only [pmu]; rw [if_neg (by unfold cw; omega)]
    | succ L ih =>
      intro j D1 hj hfr hdone
      obtain ⟨t1, t2⟩ := s6 0 j (by omega) (by omega)
      have t3 := t2.1
      have e1 : D1 N j = f j := by rw [hfr _ _ (by unfold cw; omega)]; exact hf j (by omega)
      have hbj := hb j (by omega)
      refine wp_in ?_
      simp only [P_X8_put, i_kil, i_icon, i_lcon, i_null, i_loadI, i_loadL, i_loadR, i_istore, i_lstore, i_astore, i_iinc, i_dup, i_dup2, i_pop, i_iadd, i_isub, i_imul, i_idiv, i_irem, i_ineg, i_iand, i_ior, i_ishl, i_ishr, i_lxor, i_ladd, i_lsub, i_lmul, i_ldiv, i_lrem, i_lneg, i_lshl, i_lcmp, i_i2l, i_l2i, i_i2b, i_i2s, i_ifeq, i_ifne, i_iflt, i_ifge, i_ifgt, i_ifle, i_cmpeq, i_cmpne, i_cmplt, i_cmpge, i_cmpgt, i_cmple, i_acmpeq, i_acmpne, i_ifnull, i_ifnonnull, i_getI, i_getR, i_putI, i_putZ, i_putR, i_ald, i_ldL, i_ldR, i_ast, i_stL, i_stR, i_alen, i_new, i_newa, i_iret, i_zret, i_lret, i_aret, i_vret, i_raise, i_throw, i_recv, i_objinit, i_tsw3, lget, lset, lput1, lput2, lkil, ltrim, largs, isL, takev, dropv, nthv, pushO, catv, gd, true_and, and_true, Option.some.injEq, Prod.mk.injEq, exists_eq_left', if_true, if_false, reduceCtorEq, Bool.false_eq_true, lcmp_ge, lcmp_lt, lcmp_le, lcmp_gt, lcmp_eq, true_or, or_true, not_true_eq_false, not_false_eq_true, false_implies, true_implies, List.length_cons, List.length_nil, s1, s3, s4, r1', r2, t1, hN, e1]
      repeat (first | refine ⟨in_small (by omega) (by omega), ?_⟩ | (show (_ → _) ∧ (_ → _); first | refine ⟨by omega, fun _ => ?_⟩ | refine ⟨fun _ => ?_, by omega⟩) | refine ⟨by omega, ?_⟩ | refine ⟨⟨_, rfl, by assumption⟩, ?_⟩ | refine ⟨okT_I _, ?_⟩ | refine ⟨okT_S (by omega) (by omega), ?_⟩ | refine ⟨okT_B (by omega) (by omega), ?_⟩ | refine call0 (gd_of rfl) ?_)
      refine sp_X3_set t2 (by decide) (by decide) (by omega) fun D2 g1 g2 => ?_
      simp only [P_X8_put, i_kil, i_icon, i_lcon, i_null, i_loadI, i_loadL, i_loadR, i_istore, i_lstore, i_astore, i_iinc, i_dup, i_dup2, i_pop, i_iadd, i_isub, i_imul, i_idiv, i_irem, i_ineg, i_iand, i_ior, i_ishl, i_ishr, i_lxor, i_ladd, i_lsub, i_lmul, i_ldiv, i_lrem, i_lneg, i_lshl, i_lcmp, i_i2l, i_l2i, i_i2b, i_i2s, i_ifeq, i_ifne, i_iflt, i_ifge, i_ifgt, i_ifle, i_cmpeq, i_cmpne, i_cmplt, i_cmpge, i_cmpgt, i_cmple, i_acmpeq, i_acmpne, i_ifnull, i_ifnonnull, i_getI, i_getR, i_putI, i_putZ, i_putR, i_ald, i_ldL, i_ldR, i_ast, i_stL, i_stR, i_alen, i_new, i_newa, i_iret, i_zret, i_lret, i_aret, i_vret, i_raise, i_throw, i_recv, i_objinit, i_tsw3, lget, lset, lput1, lput2, lkil, ltrim, largs, isL, takev, dropv, nthv, pushO, catv, gd, true_and, and_true, Option.some.injEq, Prod.mk.injEq, exists_eq_left', if_true, if_false, reduceCtorEq, Bool.false_eq_true, lcmp_ge, lcmp_lt, lcmp_le, lcmp_gt, lcmp_eq, true_or, or_true, not_true_eq_false, not_false_eq_true, false_implies, true_implies, List.length_cons, List.length_nil]
      repeat (first | refine ⟨in_small (by omega) (by omega), ?_⟩ | (show (_ → _) ∧ (_ → _); first | refine ⟨by omega, fun _ => ?_⟩ | refine ⟨fun _ => ?_, by omega⟩) | refine ⟨by omega, ?_⟩ | refine ⟨⟨_, rfl, by assumption⟩, ?_⟩ | refine ⟨okT_I _, ?_⟩ | refine ⟨okT_S (by omega) (by omega), ?_⟩ | refine ⟨okT_B (by omega) (by omega), ?_⟩ | refine call0 (gd_of rfl) ?_)
      refine ih (j + 1) D2 (by omega) (fun c i c1 => ?_) fun k hk => ?_
      · rw [g1 c i (by unfold cw at *; omega) (by unfold cw at *; omega)]; exact hfr c i c1
      · by_cases w : k = j
        · rw [w]; exact g2
        · have nb := cw_ne (b := b) (r := 0) (r' := 0) (k := k) (k' := j) (by omega) (by omega) (fun w2 => w w2.2)
          exact (hdone k (by omega)).congr (fun i => g1 _ i (by omega) (by omega)) fun i => g1 _ i (by omega) (by omega)
  refine wp_in ?_
  simp only [P_X8_put, i_kil, i_icon, i_lcon, i_null, i_loadI, i_loadL, i_loadR, i_istore, i_lstore, i_astore, i_iinc, i_dup, i_dup2, i_pop, i_iadd, i_isub, i_imul, i_idiv, i_irem, i_ineg, i_iand, i_ior, i_ishl, i_ishr, i_lxor, i_ladd, i_lsub, i_lmul, i_ldiv, i_lrem, i_lneg, i_lshl, i_lcmp, i_i2l, i_l2i, i_i2b, i_i2s, i_ifeq, i_ifne, i_iflt, i_ifge, i_ifgt, i_ifle, i_cmpeq, i_cmpne, i_cmplt, i_cmpge, i_cmpgt, i_cmple, i_acmpeq, i_acmpne, i_ifnull, i_ifnonnull, i_getI, i_getR, i_putI, i_putZ, i_putR, i_ald, i_ldL, i_ldR, i_ast, i_stL, i_stR, i_alen, i_new, i_newa, i_iret, i_zret, i_lret, i_aret, i_vret, i_raise, i_throw, i_recv, i_objinit, i_tsw3, lget, lset, lput1, lput2, lkil, ltrim, largs, isL, takev, dropv, nthv, pushO, catv, gd, true_and, and_true, Option.some.injEq, Prod.mk.injEq, exists_eq_left', if_true, if_false, reduceCtorEq, Bool.false_eq_true, lcmp_ge, lcmp_lt, lcmp_le, lcmp_gt, lcmp_eq, true_or, or_true, not_true_eq_false, not_false_eq_true, false_implies, true_implies, List.length_cons, List.length_nil]
  exact loop (d + 1) 0 D (by omega) (fun _ _ _ => rfl) fun k hk => by omega
/-- the chain of what p has once stands ready -/
def chB (p : pf) (D : Dat) (b : Nat) : Prop := ∃ (F : Nat → Nat → Int) (n : Nat → Nat) (m : Nat) (s : pf), m ≤ 10 ∧ chD D b F n m ∧ chM F n m ∧ pchain s (zF F n) n m ∧ smp p s
theorem z2_65 : 99 ≤ 2 ^ 65 := by decide +kernel
theorem lt_65 : ((2 ^ 65 : Nat) : Int) < 1000000000 ^ 5 := two_pw (by decide)
theorem lt_10 : ((10 * (2 ^ 65 * 2 ^ 65) : Nat) : Int) < 1000000000 ^ 5 := by
  have h1 : 10 * (2 ^ 65 * 2 ^ 65) ≤ 2 ^ 134 := Nat.le_of_ble_eq_true rfl
  exact Int.lt_of_le_of_lt (Int.ofNat_le.mpr h1) (two_pw (by decide))
set_option maxHeartbeats 2000000 in
theorem sp_X8_begin {E : Ex} {B : Nat × Nat} {S : Stat} {D : Dat} {N d : Nat} {f : Nat → Int} (hS : chS S b o) (hN : S.1 N = some (100, 9)) (hNb : N < b ∨ b + 219 < N) (hd : d ≤ 8) (hd1 : 1 ≤ d) (hf : ∀ k : Nat, k ≤ d → D N k = f k) (hb : ∀ k, k ≤ d → (f k).natAbs ≤ 99) (hf0 : f d ≠ 0)
    (K : ∀ D' : Dat, chF b o D D' → chB (zp f (d + 1)) D' b → E (.inl none) B S D') : Wp P_X8_begin E 0 [some (aR b), some (aR N), some (aI d)] [] B S D := by
  have hS0 := hS
  obtain ⟨ho, s1, s2, s3, s4, s5, s6, s7, s8, s9, s10, s11, s12, s13, s14, s15, s16, s17, s18, s19, s20⟩ := hS
  have z65 := z2_65
  have l65 := lt_65
  have l10 := lt_10
  have hb65 : ∀ k, k ≤ d → (f k).natAbs ≤ 2 ^ 65 := fun k hk => Nat.le_trans (hb k hk) z65
  obtain ⟨ts1, ts2⟩ := two_sz hd hf0 hd1 hb65
  refine wp_in ?_
  simp only [P_X8_begin, i_kil, i_icon, i_lcon, i_null, i_loadI, i_loadL, i_loadR, i_istore, i_lstore, i_astore, i_iinc, i_dup, i_dup2, i_pop, i_iadd, i_isub, i_imul, i_idiv, i_irem, i_ineg, i_iand, i_ior, i_ishl, i_ishr, i_lxor, i_ladd, i_lsub, i_lmul, i_ldiv, i_lrem, i_lneg, i_lshl, i_lcmp, i_i2l, i_l2i, i_i2b, i_i2s, i_ifeq, i_ifne, i_iflt, i_ifge, i_ifgt, i_ifle, i_cmpeq, i_cmpne, i_cmplt, i_cmpge, i_cmpgt, i_cmple, i_acmpeq, i_acmpne, i_ifnull, i_ifnonnull, i_getI, i_getR, i_putI, i_putZ, i_putR, i_ald, i_ldL, i_ldR, i_ast, i_stL, i_stR, i_alen, i_new, i_newa, i_iret, i_zret, i_lret, i_aret, i_vret, i_raise, i_throw, i_recv, i_objinit, i_tsw3, lget, lset, lput1, lput2, lkil, ltrim, largs, isL, takev, dropv, nthv, pushO, catv, gd, true_and, and_true, Option.some.injEq, Prod.mk.injEq, exists_eq_left', if_true, if_false, reduceCtorEq, Bool.false_eq_true, lcmp_ge, lcmp_lt, lcmp_le, lcmp_gt, lcmp_eq, true_or, or_true, not_true_eq_false, not_false_eq_true, false_implies, true_implies, List.length_cons, List.length_nil, s1]
  repeat (first | refine ⟨in_small (by omega) (by omega), ?_⟩ | (show (_ → _) ∧ (_ → _); first | refine ⟨by omega, fun _ => ?_⟩ | refine ⟨fun _ => ?_, by omega⟩) | refine ⟨by omega, ?_⟩ | refine ⟨⟨_, rfl, by assumption⟩, ?_⟩ | refine ⟨okT_I _, ?_⟩ | refine ⟨okT_S (by omega) (by omega), ?_⟩ | refine ⟨okT_B (by omega) (by omega), ?_⟩ | refine call0 (gd_of rfl) ?_)
  refine sp_X8_put hS0 hN hNb (by omega) hf (fun k hk => by have := hb k hk; omega) fun D1 a1 a2 a3 => ?_
  simp only [P_X8_begin, i_kil, i_icon, i_lcon, i_null, i_loadI, i_loadL, i_loadR, i_istore, i_lstore, i_astore, i_iinc, i_dup, i_dup2, i_pop, i_iadd, i_isub, i_imul, i_idiv, i_irem, i_ineg, i_iand, i_ior, i_ishl, i_ishr, i_lxor, i_ladd, i_lsub, i_lmul, i_ldiv, i_lrem, i_lneg, i_lshl, i_lcmp, i_i2l, i_l2i, i_i2b, i_i2s, i_ifeq, i_ifne, i_iflt, i_ifge, i_ifgt, i_ifle, i_cmpeq, i_cmpne, i_cmplt, i_cmpge, i_cmpgt, i_cmple, i_acmpeq, i_acmpne, i_ifnull, i_ifnonnull, i_getI, i_getR, i_putI, i_putZ, i_putR, i_ald, i_ldL, i_ldR, i_ast, i_stL, i_stR, i_alen, i_new, i_newa, i_iret, i_zret, i_lret, i_aret, i_vret, i_raise, i_throw, i_recv, i_objinit, i_tsw3, lget, lset, lput1, lput2, lkil, ltrim, largs, isL, takev, dropv, nthv, pushO, catv, gd, true_and, and_true, Option.some.injEq, Prod.mk.injEq, exists_eq_left', if_true, if_false, reduceCtorEq, Bool.false_eq_true, lcmp_ge, lcmp_lt, lcmp_le, lcmp_gt, lcmp_eq, true_or, or_true, not_true_eq_false, not_false_eq_true, false_implies, true_implies, List.length_cons, List.length_nil, s1]
  repeat (first | refine ⟨in_small (by omega) (by omega), ?_⟩ | (show (_ → _) ∧ (_ → _); first | refine ⟨by omega, fun _ => ?_⟩ | refine ⟨fun _ => ?_, by omega⟩) | refine ⟨by omega, ?_⟩ | refine ⟨⟨_, rfl, by assumption⟩, ?_⟩ | refine ⟨okT_I _, ?_⟩ | refine ⟨okT_S (by omega) (by omega), ?_⟩ | refine ⟨okT_B (by omega) (by omega), ?_⟩ | refine call0 (gd_of rfl) ?_)
  refine sp_X8_run (p := 5) hS0 (by omega) a2 a3 hf0 (fun k hk => nat_pw (hb65 k hk) l65) (by decide) (fun _ => chW_of hd (by omega) ts1 ts2) (fun D2 w _ _ _ _ => by omega) fun D2 F n m _ c1 c2 c3 => ?_
  have F2 : chF b o D D2 := fun c i w1 w2 => by rw [c1 c i w1 w2]; exact a1 c i (by unfold cw; omega) (.inl (by omega))
  have hm := c3.1
  have hm10 := c3.2.1
  obtain ⟨d1, d2, d3, d4⟩ := c2.2 (m - 1) (by omega)
  have em : (m : Int) - 1 = ((m - 1 : Nat) : Int) := by omega
  have d8 := c2.1
  obtain ⟨r1, r2⟩ := s5 (m - 1) (by omega)
  simp only [P_X8_begin, i_kil, i_icon, i_lcon, i_null, i_loadI, i_loadL, i_loadR, i_istore, i_lstore, i_astore, i_iinc, i_dup, i_dup2, i_pop, i_iadd, i_isub, i_imul, i_idiv, i_irem, i_ineg, i_iand, i_ior, i_ishl, i_ishr, i_lxor, i_ladd, i_lsub, i_lmul, i_ldiv, i_lrem, i_lneg, i_lshl, i_lcmp, i_i2l, i_l2i, i_i2b, i_i2s, i_ifeq, i_ifne, i_iflt, i_ifge, i_ifgt, i_ifle, i_cmpeq, i_cmpne, i_cmplt, i_cmpge, i_cmpgt, i_cmple, i_acmpeq, i_acmpne, i_ifnull, i_ifnonnull, i_getI, i_getR, i_putI, i_putZ, i_putR, i_ald, i_ldL, i_ldR, i_ast, i_stL, i_stR, i_alen, i_new, i_newa, i_iret, i_zret, i_lret, i_aret, i_vret, i_raise, i_throw, i_recv, i_objinit, i_tsw3, lget, lset, lput1, lput2, lkil, ltrim, largs, isL, takev, dropv, nthv, pushO, catv, gd, true_and, and_true, Option.some.injEq, Prod.mk.injEq, exists_eq_left', if_true, if_false, reduceCtorEq, Bool.false_eq_true, lcmp_ge, lcmp_lt, lcmp_le, lcmp_gt, lcmp_eq, true_or, or_true, not_true_eq_false, not_false_eq_true, false_implies, true_implies, List.length_cons, List.length_nil, s1, s7, s8, d8, em, d1]
  repeat (first | refine ⟨in_small (by omega) (by omega), ?_⟩ | (show (_ → _) ∧ (_ → _); first | refine ⟨by omega, fun _ => ?_⟩ | refine ⟨fun _ => ?_, by omega⟩) | refine ⟨by omega, ?_⟩ | refine ⟨⟨_, rfl, by assumption⟩, ?_⟩ | refine ⟨okT_I _, ?_⟩ | refine ⟨okT_S (by omega) (by omega), ?_⟩ | refine ⟨okT_B (by omega) (by omega), ?_⟩ | refine call0 (gd_of rfl) ?_)
  refine ⟨fun w => ?_, fun w => ?_⟩
  · -- there is something in common
    obtain ⟨e1, e2, q, q1, q2, q3, q4, q5⟩ := c3.over hd1 hf0 fun i hi => (c2.2 i hi).2.2.1
    have hgq : ∀ t : Int, ∃ z : Int, zp (brow f d) (d + 1) (t : Rat) = zp (F (m - 1)) (n (m - 1) + 1) (t : Rat) * (z : Rat) := fun t => by
      obtain ⟨z, hz⟩ := zp_int q t (d - n (m - 1) + 1)
      exact ⟨z, by rw [q3, hz]⟩
    have hqg : ∀ t : Int, ∃ z : Int, zp (brow f d) (d + 1) (t : Rat) = zp q (d - n (m - 1) + 1) (t : Rat) * (z : Rat) := fun t => by
      obtain ⟨z, hz⟩ := zp_int (F (m - 1)) t (n (m - 1) + 1)
      exact ⟨z, by rw [q3, hz]; grind⟩
    have hbb : ∀ k, k ≤ d → (brow f d k).natAbs ≤ 99 := fun k hk => Nat.le_trans (brow_abs hk hf0) (hb k hk)
    have bg := fac_bd hd (by omega) (brow_top hf0) hbb hgq
    have bq := fac_bd hd (by omega) (brow_top hf0) hbb hqg
    obtain ⟨x1, x2, x3, x4⟩ := c2.2 0 (by omega)
    have en0 : n 0 = d := c3.2.2.2.2.1
    have eF0 : F 0 = brow f d := c3.2.2.1
    rw [en0] at x1 x4
    rw [eF0] at x4
    have loop : ∀ (L j : Nat) (D3 : Dat), j + L = n (m - 1) + 1 → (∀ c i, (c < clw b 0 ∨ clw b 8 + 1 < c) → D3 c i = D2 c i) → (∀ k, k < j → wD 1 2 D3 (clw b k) (F (m - 1) k)) → Wp P_X8_begin E 1 [some (aR b), none, none, some (aI (n (m - 1))), some (aI j)] [] B S D3 := by
      intro L
      induction L with
      | zero =>
        intro j D3 hj hfr hdone
        refine wp_in ?_
        simp only [P_X8_begin, i_kil, i_icon, i_lcon, i_null, i_loadI, i_loadL, i_loadR, i_istore, i_lstore, i_astore, i_iinc, i_dup, i_dup2, i_pop, i_iadd, i_isub, i_imul, i_idiv, i_irem, i_ineg, i_iand, i_ior, i_ishl, i_ishr, i_lxor, i_ladd, i_lsub, i_lmul, i_ldiv, i_lrem, i_lneg, i_lshl, i_lcmp, i_i2l, i_l2i, i_i2b, i_i2s, i_ifeq, i_ifne, i_iflt, i_ifge, i_ifgt, i_ifle, i_cmpeq, i_cmpne, i_cmplt, i_cmpge, i_cmpgt, i_cmple, i_acmpeq, i_acmpne, i_ifnull, i_ifnonnull, i_getI, i_getR, i_putI, i_putZ, i_putR, i_ald, i_ldL, i_ldR, i_ast, i_stL, i_stR, i_alen, i_new, i_newa, i_iret, i_zret, i_lret, i_aret, i_vret, i_raise, i_throw, i_recv, i_objinit, i_tsw3, lget, lset, lput1, lput2, lkil, ltrim, largs, isL, takev, dropv, nthv, pushO, catv, gd, true_and, and_true, Option.some.injEq, Prod.mk.injEq, exists_eq_left', if_true, if_false, reduceCtorEq, Bool.false_eq_true, lcmp_ge, lcmp_lt, lcmp_le, lcmp_gt, lcmp_eq, true_or, or_true, not_true_eq_false, not_false_eq_true, false_implies, true_implies, List.length_cons, List.length_nil, s1]
        repeat (first | refine ⟨in_small (by omega) (by omega), ?_⟩ | (show (_ → _) ∧ (_ → _); first | refine ⟨by omega, fun _ => ?_⟩ | refine ⟨fun _ => ?_, by omega⟩) | refine ⟨by omega, ?_⟩ | refine ⟨⟨_, rfl, by assumption⟩, ?_⟩ | refine ⟨okT_I _, ?_⟩ | refine ⟨okT_S (by omega) (by omega), ?_⟩ | refine ⟨okT_B (by omega) (by omega), ?_⟩ | refine call0 (gd_of rfl) ?_)
        refine sp_X8_without (f := brow f d) (g := F (m - 1)) (h := q) (G := 2 ^ 65) (H := 2 ^ 65) (p := 5) (d := d) hS0 (by omega) (by omega) (by have := hfr (b + 12) 0 (by unfold clw; omega); rw [this]; exact x1) (fun k hk => (x4 k hk).congr (fun i => hfr _ i (by unfold cw clw; omega)) fun i => hfr _ i (by unfold cw clw; omega)) (fun k hk => hdone k (by omega)) d3 q1 q4 bg bq l65 l65 l10 (by decide) fun D4 i1 i2 i3 => ?_
        simp only [P_X8_begin, i_kil, i_icon, i_lcon, i_null, i_loadI, i_loadL, i_loadR, i_istore, i_lstore, i_astore, i_iinc, i_dup, i_dup2, i_pop, i_iadd, i_isub, i_imul, i_idiv, i_irem, i_ineg, i_iand, i_ior, i_ishl, i_ishr, i_lxor, i_ladd, i_lsub, i_lmul, i_ldiv, i_lrem, i_lneg, i_lshl, i_lcmp, i_i2l, i_l2i, i_i2b, i_i2s, i_ifeq, i_ifne, i_iflt, i_ifge, i_ifgt, i_ifle, i_cmpeq, i_cmpne, i_cmplt, i_cmpge, i_cmpgt, i_cmple, i_acmpeq, i_acmpne, i_ifnull, i_ifnonnull, i_getI, i_getR, i_putI, i_putZ, i_putR, i_ald, i_ldL, i_ldR, i_ast, i_stL, i_stR, i_alen, i_new, i_newa, i_iret, i_zret, i_lret, i_aret, i_vret, i_raise, i_throw, i_recv, i_objinit, i_tsw3, lget, lset, lput1, lput2, lkil, ltrim, largs, isL, takev, dropv, nthv, pushO, catv, gd, true_and, and_true, Option.some.injEq, Prod.mk.injEq, exists_eq_left', if_true, if_false, reduceCtorEq, Bool.false_eq_true, lcmp_ge, lcmp_lt, lcmp_le, lcmp_gt, lcmp_eq, true_or, or_true, not_true_eq_false, not_false_eq_true, false_implies, true_implies, List.length_cons, List.length_nil, s1]
        repeat (first | refine ⟨in_small (by omega) (by omega), ?_⟩ | (show (_ → _) ∧ (_ → _); first | refine ⟨by omega, fun _ => ?_⟩ | refine ⟨fun _ => ?_, by omega⟩) | refine ⟨by omega, ?_⟩ | refine ⟨⟨_, rfl, by assumption⟩, ?_⟩ | refine ⟨okT_I _, ?_⟩ | refine ⟨okT_S (by omega) (by omega), ?_⟩ | refine ⟨okT_B (by omega) (by omega), ?_⟩ | refine call0 (gd_of rfl) ?_)
        obtain ⟨us1, us2⟩ := two_sz (f := q) (d := d - n (m - 1)) (by omega) q2 (by omega) bq
        refine sp_X8_run (p := 5) (f := q) (d := d - n (m - 1)) hS0 (by omega) i2 i3 q2 (fun k hk => nat_pw (bq k hk) l65) (by decide) (fun _ => chW_of (by omega) (by omega) us1 us2) (fun D5 w _ _ _ _ => by omega) fun D5 F' n' m' _ j1 j2 j3 => ?_
        simp only [P_X8_begin, i_kil, i_icon, i_lcon, i_null, i_loadI, i_loadL, i_loadR, i_istore, i_lstore, i_astore, i_iinc, i_dup, i_dup2, i_pop, i_iadd, i_isub, i_imul, i_idiv, i_irem, i_ineg, i_iand, i_ior, i_ishl, i_ishr, i_lxor, i_ladd, i_lsub, i_lmul, i_ldiv, i_lrem, i_lneg, i_lshl, i_lcmp, i_i2l, i_l2i, i_i2b, i_i2s, i_ifeq, i_ifne, i_iflt, i_ifge, i_ifgt, i_ifle, i_cmpeq, i_cmpne, i_cmplt, i_cmpge, i_cmpgt, i_cmple, i_acmpeq, i_acmpne, i_ifnull, i_ifnonnull, i_getI, i_getR, i_putI, i_putZ, i_putR, i_ald, i_ldL, i_ldR, i_ast, i_stL, i_stR, i_alen, i_new, i_newa, i_iret, i_zret, i_lret, i_aret, i_vret, i_raise, i_throw, i_recv, i_objinit, i_tsw3, lget, lset, lput1, lput2, lkil, ltrim, largs, isL, takev, dropv, nthv, pushO, catv, gd, true_and, and_true, Option.some.injEq, Prod.mk.injEq, exists_eq_left', if_true, if_false, reduceCtorEq, Bool.false_eq_true, lcmp_ge, lcmp_lt, lcmp_le, lcmp_gt, lcmp_eq, true_or, or_true, not_true_eq_false, not_false_eq_true, false_implies, true_implies, List.length_cons, List.length_nil]
        refine K D5 (fun c i w1 w2 => ?_) ⟨F', n', m', _, j3.2.1, j2, j3.sz (by omega) (by omega) us1 us2, j3.pc (by omega) q2, q5⟩
        rw [j1 c i w1 w2, i1 c i w1 w2, hfr c i (by unfold clw; omega)]; exact F2 c i w1 w2
      | succ L ih =>
        intro j D3 hj hfr hdone
        obtain ⟨t1, t2⟩ := s6 (m - 1) j (by omega) (by omega)
        obtain ⟨u1, u2⟩ := s11 j (by omega)
        have u3 := u2.1
        have d8' : D3 b 8 = m := by rw [hfr _ _ (by unfold clw; omega)]; exact d8
        have lg : ((F (m - 1) j).natAbs : Int) < 1000000000 ^ 160 := Int.lt_of_lt_of_le (nat_pw (bg j (by omega)) l65) (pw_mono (by decide))
        have nb := clw_cw (b := b) (r := m - 1) (k := j) (j := j) (by omega) (by omega)
        refine wp_in ?_
        simp only [P_X8_begin, i_kil, i_icon, i_lcon, i_null, i_loadI, i_loadL, i_loadR, i_istore, i_lstore, i_astore, i_iinc, i_dup, i_dup2, i_pop, i_iadd, i_isub, i_imul, i_idiv, i_irem, i_ineg, i_iand, i_ior, i_ishl, i_ishr, i_lxor, i_ladd, i_lsub, i_lmul, i_ldiv, i_lrem, i_lneg, i_lshl, i_lcmp, i_i2l, i_l2i, i_i2b, i_i2s, i_ifeq, i_ifne, i_iflt, i_ifge, i_ifgt, i_ifle, i_cmpeq, i_cmpne, i_cmplt, i_cmpge, i_cmpgt, i_cmple, i_acmpeq, i_acmpne, i_ifnull, i_ifnonnull, i_getI, i_getR, i_putI, i_putZ, i_putR, i_ald, i_ldL, i_ldR, i_ast, i_stL, i_stR, i_alen, i_new, i_newa, i_iret, i_zret, i_lret, i_aret, i_vret, i_raise, i_throw, i_recv, i_objinit, i_tsw3, lget, lset, lput1, lput2, lkil, ltrim, largs, isL, takev, dropv, nthv, pushO, catv, gd, true_and, and_true, Option.some.injEq, Prod.mk.injEq, exists_eq_left', if_true, if_false, reduceCtorEq, Bool.false_eq_true, lcmp_ge, lcmp_lt, lcmp_le, lcmp_gt, lcmp_eq, true_or, or_true, not_true_eq_false, not_false_eq_true, false_implies, true_implies, List.length_cons, List.length_nil, s1, s3, s4, s9, s10, d8', em, r1, r2, t1, u1]
        repeat (first | refine ⟨in_small (by omega) (by omega), ?_⟩ | (show (_ → _) ∧ (_ → _); first | refine ⟨by omega, fun _ => ?_⟩ | refine ⟨fun _ => ?_, by omega⟩) | refine ⟨by omega, ?_⟩ | refine ⟨⟨_, rfl, by assumption⟩, ?_⟩ | refine ⟨okT_I _, ?_⟩ | refine ⟨okT_S (by omega) (by omega), ?_⟩ | refine ⟨okT_B (by omega) (by omega), ?_⟩ | refine call0 (gd_of rfl) ?_)
        refine sp_X3_be u2 t2 (by omega) ((d4 j (by omega)).congr (fun i => hfr _ i (by unfold cw clw; omega)) fun i => hfr _ i (by unfold cw clw; omega)) lg lg (by decide) fun D4 g1 g2 => ?_
        simp only [P_X8_begin, i_kil, i_icon, i_lcon, i_null, i_loadI, i_loadL, i_loadR, i_istore, i_lstore, i_astore, i_iinc, i_dup, i_dup2, i_pop, i_iadd, i_isub, i_imul, i_idiv, i_irem, i_ineg, i_iand, i_ior, i_ishl, i_ishr, i_lxor, i_ladd, i_lsub, i_lmul, i_ldiv, i_lrem, i_lneg, i_lshl, i_lcmp, i_i2l, i_l2i, i_i2b, i_i2s, i_ifeq, i_ifne, i_iflt, i_ifge, i_ifgt, i_ifle, i_cmpeq, i_cmpne, i_cmplt, i_cmpge, i_cmpgt, i_cmple, i_acmpeq, i_acmpne, i_ifnull, i_ifnonnull, i_getI, i_getR, i_putI, i_putZ, i_putR, i_ald, i_ldL, i_ldR, i_ast, i_stL, i_stR, i_alen, i_new, i_newa, i_iret, i_zret, i_lret, i_aret, i_vret, i_raise, i_throw, i_recv, i_objinit, i_tsw3, lget, lset, lput1, lput2, lkil, ltrim, largs, isL, takev, dropv, nthv, pushO, catv, gd, true_and, and_true, Option.some.injEq, Prod.mk.injEq, exists_eq_left', if_true, if_false, reduceCtorEq, Bool.false_eq_true, lcmp_ge, lcmp_lt, lcmp_le, lcmp_gt, lcmp_eq, true_or, or_true, not_true_eq_false, not_false_eq_true, false_implies, true_implies, List.length_cons, List.length_nil]
        repeat (first | refine ⟨in_small (by omega) (by omega), ?_⟩ | (show (_ → _) ∧ (_ → _); first | refine ⟨by omega, fun _ => ?_⟩ | refine ⟨fun _ => ?_, by omega⟩) | refine ⟨by omega, ?_⟩ | refine ⟨⟨_, rfl, by assumption⟩, ?_⟩ | refine ⟨okT_I _, ?_⟩ | refine ⟨okT_S (by omega) (by omega), ?_⟩ | refine ⟨okT_B (by omega) (by omega), ?_⟩ | refine call0 (gd_of rfl) ?_)
        refine ih (j + 1) D4 (by omega) (fun c i w1 => ?_) fun k hk => ?_
        · rw [g1 c i (by unfold clw at *; omega) (by unfold clw at *; omega)]; exact hfr c i w1
        · by_cases w : k = j
          · rw [w]; exact g2
          · exact (hdone k (by omega)).congr (fun i => g1 _ i (by unfold clw; omega) (by unfold clw; omega)) fun i => g1 _ i (by unfold clw; omega) (by unfold clw; omega)
    refine loop (n (m - 1) + 1) 0 D2 (by omega) (fun _ _ _ => rfl) fun k hk => by omega
  · refine K D2 F2 ⟨F, n, m, _, hm10, c2, c3.sz hd (by omega) ts1 ts2, c3.pc hd1 hf0, c3.done hd1 hf0 (by omega)⟩
end BEGIN
