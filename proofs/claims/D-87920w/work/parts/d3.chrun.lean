/-! chains of the component: goOn, run, whole -/
-- needs: d2.chgo
set_option maxRecDepth 100000
set_option linter.unusedVariables false
/-- the slope's numbers -/
def zder (f : Nat → Int) : Nat → Int := fun k => f (k + 1) * ((k + 1 : Nat) : Int)
theorem zder_DD {f : Nat → Int} {d : Nat} : DD (zp f (d + 1)) (zp (zder f) d) := by
  have h := ps_DD (zq f) d
  have e : ps (dco (zq f)) d = zp (zder f) d := funext fun x => ps_congr (fun k _ => by
    show ((k + 1 : Nat) : Rat) * ((f (k + 1) : Int) : Rat) = ((f (k + 1) * ((k + 1 : Nat) : Int) : Int) : Rat)
    rw [Rat.intCast_mul, Rat.intCast_natCast]; grind) x
  rw [e] at h
  exact h
theorem zder_top {f : Nat → Int} {d : Nat} (h : f d ≠ 0) (hd : 1 ≤ d) : zder f (d - 1) ≠ 0 := by
  unfold zder
  rw [show d - 1 + 1 = d by omega]
  intro w
  rcases Int.mul_eq_zero.mp w with q | q
  · exact h q
  · omega
section RUN
variable {b o : Nat}
set_option maxHeartbeats 2000000 in
theorem sp_X8_goOn {E : Ex} {B : Nat × Nat} {S : Stat} {D : Dat} {f0 f1 : Nat → Int} {n0 n1 p : Nat} (hS : chS S b o) (hn0 : n0 < 9) (hn1 : n1 < 9) (h8 : D b 8 = 2) (hd0 : D (b + 12) 0 = n0) (hd1 : D (b + 12) 1 = n1) (hf0 : chR D b 0 n0 f0) (hf1 : chR D b 1 n1 f1) (t0 : f0 n0 ≠ 0) (t1 : f1 n1 ≠ 0) (hp : ∀ k, k ≤ n1 → ((f1 k).natAbs : Int) < 1000000000 ^ p) (p160 : p ≤ 160) (hW : chW f0 (brow f1 n1) n0 n1)
    (K : ∀ (D' : Dat) (F : Nat → Nat → Int) (n : Nat → Nat) (m : Nat), chF b o D D' → chD D' b F n m → chG f0 (brow f1 n1) n0 n1 F n m → E (.inl none) B S D') : Wp P_X8_goOn E 0 [some (aR b)] [] B S D := by
  have hS0 := hS
  obtain ⟨ho, s1, s2, s3, s4, s5, s6, s7, s8, s9, s10, s11, s12, s13, s14, s15, s16, s17, s18, s19, s20⟩ := hS
  obtain ⟨r1, r2⟩ := s5 1 (by omega)
  have r1' : S.2.1 (b + 1) (2 - 1 : Int) = some (b + 2 + 1) := r1
  have hd1' : D (b + 12) (2 - 1 : Int) = n1 := hd1
  refine wp_in ?_
  simp only [P_X8_goOn, i_kil, i_icon, i_lcon, i_null, i_loadI, i_loadL, i_loadR, i_istore, i_lstore, i_astore, i_iinc, i_dup, i_dup2, i_pop, i_iadd, i_isub, i_imul, i_idiv, i_irem, i_ineg, i_iand, i_ior, i_ishl, i_ishr, i_lxor, i_ladd, i_lsub, i_lmul, i_ldiv, i_lrem, i_lneg, i_lshl, i_lcmp, i_i2l, i_l2i, i_i2b, i_i2s, i_ifeq, i_ifne, i_iflt, i_ifge, i_ifgt, i_ifle, i_cmpeq, i_cmpne, i_cmplt, i_cmpge, i_cmpgt, i_cmple, i_acmpeq, i_acmpne, i_ifnull, i_ifnonnull, i_getI, i_getR, i_putI, i_putZ, i_putR, i_ald, i_ldL, i_ldR, i_ast, i_stL, i_stR, i_alen, i_new, i_newa, i_iret, i_zret, i_lret, i_aret, i_vret, i_raise, i_throw, i_recv, i_objinit, i_tsw3, lget, lset, lput1, lput2, lkil, ltrim, largs, isL, takev, dropv, nthv, pushO, catv, gd, true_and, and_true, Option.some.injEq, Prod.mk.injEq, exists_eq_left', if_true, if_false, reduceCtorEq, Bool.false_eq_true, lcmp_ge, lcmp_lt, lcmp_le, lcmp_gt, lcmp_eq, true_or, or_true, not_true_eq_false, not_false_eq_true, false_implies, true_implies, List.length_cons, List.length_nil, s1, s3, s4, s7, s8, h8, hd1', r1']
  repeat (first | refine ⟨in_small (by omega) (by omega), ?_⟩ | (show (_ → _) ∧ (_ → _); first | refine ⟨by omega, fun _ => ?_⟩ | refine ⟨fun _ => ?_, by omega⟩) | refine ⟨by omega, ?_⟩ | refine ⟨⟨_, rfl, by assumption⟩, ?_⟩ | refine ⟨okT_I _, ?_⟩ | refine ⟨okT_S (by omega) (by omega), ?_⟩ | refine ⟨okT_B (by omega) (by omega), ?_⟩ | refine call0 (gd_of rfl) ?_)
  refine sp_X8_bare (p := p) (f := f1) hS0 (by omega) hn1 hf1 hp p160 ⟨n1, Nat.le_refl _, t1⟩ fun D1 g1 g2 => ?_
  simp only [P_X8_goOn, i_kil, i_icon, i_lcon, i_null, i_loadI, i_loadL, i_loadR, i_istore, i_lstore, i_astore, i_iinc, i_dup, i_dup2, i_pop, i_iadd, i_isub, i_imul, i_idiv, i_irem, i_ineg, i_iand, i_ior, i_ishl, i_ishr, i_lxor, i_ladd, i_lsub, i_lmul, i_ldiv, i_lrem, i_lneg, i_lshl, i_lcmp, i_i2l, i_l2i, i_i2b, i_i2s, i_ifeq, i_ifne, i_iflt, i_ifge, i_ifgt, i_ifle, i_cmpeq, i_cmpne, i_cmplt, i_cmpge, i_cmpgt, i_cmple, i_acmpeq, i_acmpne, i_ifnull, i_ifnonnull, i_getI, i_getR, i_putI, i_putZ, i_putR, i_ald, i_ldL, i_ldR, i_ast, i_stL, i_stR, i_alen, i_new, i_newa, i_iret, i_zret, i_lret, i_aret, i_vret, i_raise, i_throw, i_recv, i_objinit, i_tsw3, lget, lset, lput1, lput2, lkil, ltrim, largs, isL, takev, dropv, nthv, pushO, catv, gd, true_and, and_true, Option.some.injEq, Prod.mk.injEq, exists_eq_left', if_true, if_false, reduceCtorEq, Bool.false_eq_true, lcmp_ge, lcmp_lt, lcmp_le, lcmp_gt, lcmp_eq, true_or, or_true, not_true_eq_false, not_false_eq_true, false_implies, true_implies, List.length_cons, List.length_nil]
  have k0 : ∀ c i, b ≤ c → c < cw b 1 0 → c ≠ b + 20 → c ≠ b + 21 → D1 c i = D c i := fun c i c1 c2 c3 c4 => g1 c i (by omega) c3 c4 (by unfold cw at *; omega)
  refine go_loop hS0 hn1 hW K n1 (fun i => if i = 0 then f0 else brow f1 n1) (fun i => if i = 0 then n0 else n1) 2 D1 (by simp) (fun c i c1 c2 => g1 c i (by unfold cw; omega) (by omega) (by omega) c2) ⟨?_, fun r hr => ?_⟩ (by omega) (by simp) rfl rfl rfl rfl ⟨fun i hi => ?_, fun i h1 h2 => by omega⟩ fun i h1 h2 => by omega
  · rw [k0 _ _ (by omega) (by unfold cw; omega) (by omega) (by omega)]; exact h8
  · have hr2 : r = 0 ∨ r = 1 := by omega
    rcases hr2 with rfl | rfl
    · refine ⟨?_, hn0, t0, fun k hk => (hf0 k hk).congr (fun i => ?_) fun i => ?_⟩
      · rw [k0 _ _ (by omega) (by unfold cw; omega) (by omega) (by omega)]; exact hd0
      · have : k ≤ n0 := hk
        exact k0 _ _ (by unfold cw; omega) (by unfold cw; omega) (by unfold cw; omega) (by unfold cw; omega)
      · have : k ≤ n0 := hk
        exact k0 _ _ (by unfold cw; omega) (by unfold cw; omega) (by unfold cw; omega) (by unfold cw; omega)
    · refine ⟨?_, hn1, brow_top t1, fun k hk => g2 k hk⟩
      rw [k0 _ _ (by omega) (by unfold cw; omega) (by omega) (by omega)]; exact hd1
  · have hr2 : i = 0 ∨ i = 1 := by omega
    rcases hr2 with rfl | rfl
    · exact zp_ex t0
    · exact zp_ex (brow_top t1)
set_option maxHeartbeats 2000000 in
theorem sp_X8_run {E : Ex} {B : Nat × Nat} {S : Stat} {D : Dat} {f : Nat → Int} {d p : Nat} (hS : chS S b o) (hd : d < 9) (hd0 : D (b + 12) 0 = d) (hf : chR D b 0 d f) (t0 : f d ≠ 0) (hp : ∀ k, k ≤ d → ((f k).natAbs : Int) < 1000000000 ^ p) (p160 : p + 1 ≤ 160)
    (hW : 1 ≤ d → chW (brow f d) (brow (zder (brow f d)) (d - 1)) d (d - 1))
    (K0 : ∀ D' : Dat, d = 0 → chF b o D D' → D' b 8 = 1 → D' (b + 12) 0 = 0 → chR D' b 0 0 (brow f 0) → E (.inl none) B S D')
    (K : ∀ (D' : Dat) (F : Nat → Nat → Int) (n : Nat → Nat) (m : Nat), 1 ≤ d → chF b o D D' → chD D' b F n m → chG (brow f d) (brow (zder (brow f d)) (d - 1)) d (d - 1) F n m → E (.inl none) B S D') : Wp P_X8_run E 0 [some (aR b)] [] B S D := by
  have hS0 := hS
  obtain ⟨ho, s1, s2, s3, s4, s5, s6, s7, s8, s9, s10, s11, s12, s13, s14, s15, s16, s17, s18, s19, s20⟩ := hS
  obtain ⟨r1, r2⟩ := s5 0 (by omega)
  obtain ⟨q1, q2⟩ := s5 1 (by omega)
  have ho1 := ho.1
  have x1 := s13.1
  have hd0' : pmu D b 8 1 (b + 12) 0 = d := by simp only [pmu]; rw [if_neg (by omega)]; exact hd0
  have r1' : S.2.1 (b + 1) (0 : Int) = some (b + 2 + 0) := r1
  have q1' : S.2.1 (b + 1) (1 : Int) = some (b + 2 + 1) := q1
  refine wp_in ?_
  simp only [P_X8_run, i_kil, i_icon, i_lcon, i_null, i_loadI, i_loadL, i_loadR, i_istore, i_lstore, i_astore, i_iinc, i_dup, i_dup2, i_pop, i_iadd, i_isub, i_imul, i_idiv, i_irem, i_ineg, i_iand, i_ior, i_ishl, i_ishr, i_lxor, i_ladd, i_lsub, i_lmul, i_ldiv, i_lrem, i_lneg, i_lshl, i_lcmp, i_i2l, i_l2i, i_i2b, i_i2s, i_ifeq, i_ifne, i_iflt, i_ifge, i_ifgt, i_ifle, i_cmpeq, i_cmpne, i_cmplt, i_cmpge, i_cmpgt, i_cmple, i_acmpeq, i_acmpne, i_ifnull, i_ifnonnull, i_getI, i_getR, i_putI, i_putZ, i_putR, i_ald, i_ldL, i_ldR, i_ast, i_stL, i_stR, i_alen, i_new, i_newa, i_iret, i_zret, i_lret, i_aret, i_vret, i_raise, i_throw, i_recv, i_objinit, i_tsw3, lget, lset, lput1, lput2, lkil, ltrim, largs, isL, takev, dropv, nthv, pushO, catv, gd, true_and, and_true, Option.some.injEq, Prod.mk.injEq, exists_eq_left', if_true, if_false, reduceCtorEq, Bool.false_eq_true, lcmp_ge, lcmp_lt, lcmp_le, lcmp_gt, lcmp_eq, true_or, or_true, not_true_eq_false, not_false_eq_true, false_implies, true_implies, List.length_cons, List.length_nil, s1, s3, s4, s7, s8, hd0', r1']
  repeat (first | refine ⟨in_small (by omega) (by omega), ?_⟩ | (show (_ → _) ∧ (_ → _); first | refine ⟨by omega, fun _ => ?_⟩ | refine ⟨fun _ => ?_, by omega⟩) | refine ⟨by omega, ?_⟩ | refine ⟨⟨_, rfl, by assumption⟩, ?_⟩ | refine ⟨okT_I _, ?_⟩ | refine ⟨okT_S (by omega) (by omega), ?_⟩ | refine ⟨okT_B (by omega) (by omega), ?_⟩ | refine call0 (gd_of rfl) ?_)
  refine sp_X8_bare (r := 0) (p := p) (f := f) hS0 (by omega) hd (hf.congr fun c i c1 c2 => by simp only [pmu]; rw [if_neg (by unfold cw at *; omega)]) hp (by omega) ⟨d, Nat.le_refl _, t0⟩ fun D1 g1 g2 => ?_
  have e1 : D1 b 8 = 1 := by rw [g1 _ _ (by unfold cw; omega) (by omega) (by omega) (by omega)]; simp only [pmu, and_self, if_true]
  have e2 : D1 (b + 12) 0 = d := by rw [g1 _ _ (by unfold cw; omega) (by omega) (by omega) (by omega)]; exact hd0'
  have F1 : chF b o D D1 := fun c i c1 c2 => by
    rw [g1 c i (by unfold cw; omega) (by omega) (by omega) c2]
    simp only [pmu]; rw [if_neg (by omega)]
  simp only [P_X8_run, i_kil, i_icon, i_lcon, i_null, i_loadI, i_loadL, i_loadR, i_istore, i_lstore, i_astore, i_iinc, i_dup, i_dup2, i_pop, i_iadd, i_isub, i_imul, i_idiv, i_irem, i_ineg, i_iand, i_ior, i_ishl, i_ishr, i_lxor, i_ladd, i_lsub, i_lmul, i_ldiv, i_lrem, i_lneg, i_lshl, i_lcmp, i_i2l, i_l2i, i_i2b, i_i2s, i_ifeq, i_ifne, i_iflt, i_ifge, i_ifgt, i_ifle, i_cmpeq, i_cmpne, i_cmplt, i_cmpge, i_cmpgt, i_cmple, i_acmpeq, i_acmpne, i_ifnull, i_ifnonnull, i_getI, i_getR, i_putI, i_putZ, i_putR, i_ald, i_ldL, i_ldR, i_ast, i_stL, i_stR, i_alen, i_new, i_newa, i_iret, i_zret, i_lret, i_aret, i_vret, i_raise, i_throw, i_recv, i_objinit, i_tsw3, lget, lset, lput1, lput2, lkil, ltrim, largs, isL, takev, dropv, nthv, pushO, catv, gd, true_and, and_true, Option.some.injEq, Prod.mk.injEq, exists_eq_left', if_true, if_false, reduceCtorEq, Bool.false_eq_true, lcmp_ge, lcmp_lt, lcmp_le, lcmp_gt, lcmp_eq, true_or, or_true, not_true_eq_false, not_false_eq_true, false_implies, true_implies, List.length_cons, List.length_nil]
  refine ⟨fun w => ?_, fun w => ?_⟩
  · have hd1 : 1 ≤ d := by omega
    have hb0 : ∀ k, k ≤ d → ((brow f d k).natAbs : Int) < 1000000000 ^ p := fun k hk => by have := brow_abs hk t0; have := hp k hk; omega
    have loop : ∀ (L j : Nat) (D2 : Dat), j + L = d → (∀ c i, c ≠ b + 14 → c ≠ b + 15 → (c < cw b 1 0 ∨ cw b 1 8 + 1 < c) → D2 c i = D1 c i) → (∀ k, k < j → wD 1 2 D2 (cw b 1 k) (zder (brow f d) k)) → Wp P_X8_run E 1 [some (aR b), some (aI d), some (aI ((j : Int) + 1))] [] B S D2 := by
      intro L
      induction L with
      | zero =>
        intro j D2 hj hfr hdone
        have : j = d := by omega
        subst this
        have ej : (j : Int) - 1 = ((j - 1 : Nat) : Int) := by omega
        refine wp_in ?_
        simp only [P_X8_run, i_kil, i_icon, i_lcon, i_null, i_loadI, i_loadL, i_loadR, i_istore, i_lstore, i_astore, i_iinc, i_dup, i_dup2, i_pop, i_iadd, i_isub, i_imul, i_idiv, i_irem, i_ineg, i_iand, i_ior, i_ishl, i_ishr, i_lxor, i_ladd, i_lsub, i_lmul, i_ldiv, i_lrem, i_lneg, i_lshl, i_lcmp, i_i2l, i_l2i, i_i2b, i_i2s, i_ifeq, i_ifne, i_iflt, i_ifge, i_ifgt, i_ifle, i_cmpeq, i_cmpne, i_cmplt, i_cmpge, i_cmpgt, i_cmple, i_acmpeq, i_acmpne, i_ifnull, i_ifnonnull, i_getI, i_getR, i_putI, i_putZ, i_putR, i_ald, i_ldL, i_ldR, i_ast, i_stL, i_stR, i_alen, i_new, i_newa, i_iret, i_zret, i_lret, i_aret, i_vret, i_raise, i_throw, i_recv, i_objinit, i_tsw3, lget, lset, lput1, lput2, lkil, ltrim, largs, isL, takev, dropv, nthv, pushO, catv, gd, true_and, and_true, Option.some.injEq, Prod.mk.injEq, exists_eq_left', if_true, if_false, reduceCtorEq, Bool.false_eq_true, lcmp_ge, lcmp_lt, lcmp_le, lcmp_gt, lcmp_eq, true_or, or_true, not_true_eq_false, not_false_eq_true, false_implies, true_implies, List.length_cons, List.length_nil, s1, s7, s8]
        repeat (first | refine ⟨in_small (by omega) (by omega), ?_⟩ | (show (_ → _) ∧ (_ → _); first | refine ⟨by omega, fun _ => ?_⟩ | refine ⟨fun _ => ?_, by omega⟩) | refine ⟨by omega, ?_⟩ | refine ⟨⟨_, rfl, by assumption⟩, ?_⟩ | refine ⟨okT_I _, ?_⟩ | refine ⟨okT_S (by omega) (by omega), ?_⟩ | refine ⟨okT_B (by omega) (by omega), ?_⟩ | refine call0 (gd_of rfl) ?_)
        repeat (first | refine ⟨in_small (by omega) (by omega), ?_⟩ | (show (_ → _) ∧ (_ → _); first | refine ⟨by omega, fun _ => ?_⟩ | refine ⟨fun _ => ?_, by omega⟩) | refine ⟨by omega, ?_⟩ | refine ⟨⟨_, rfl, by assumption⟩, ?_⟩ | refine ⟨okT_I _, ?_⟩ | refine ⟨okT_S (by omega) (by omega), ?_⟩ | refine ⟨okT_B (by omega) (by omega), ?_⟩ | refine call0 (gd_of rfl) ?_)
        have u : ∀ c i, b ≤ c → c < cw b 1 0 → c ≠ b + 12 → c ≠ b → c ≠ b + 14 → c ≠ b + 15 → pmu (pmu D2 (b + 12) 1 ((j : Int) - 1)) b 8 2 c i = D1 c i := fun c i c1 c2 c3 c4 c5 c6 => by
          simp only [pmu]
          rw [if_neg (by omega), if_neg (by omega)]; exact hfr c i c5 c6 (by omega)
        refine sp_X8_goOn (p := p + 1) (f0 := brow f j) (f1 := zder (brow f j)) (n0 := j) (n1 := j - 1) hS0 hd (by omega) (by simp only [pmu, and_self, if_true]) ?_ ?_ (g2.congr fun c i c1 c2 => u c i (by unfold cw at *; omega) (by unfold cw at *; omega) (by unfold cw at *; omega) (by unfold cw at *; omega) (by unfold cw at *; omega) (by unfold cw at *; omega)) (fun k hk => (hdone k (by omega)).congr (fun i => ?_) fun i => ?_) (brow_top t0) (zder_top (brow_top t0) hd1) (fun k hk => ?_) p160 (hW hd1) fun D3 F n m k1 k2 k3 => ?_
        · simp only [pmu]; rw [if_neg (by omega), if_neg (by omega), hfr _ _ (by omega) (by omega) (by unfold cw; omega)]; exact e2
        · simp only [pmu]; rw [if_neg (by omega), if_pos (by simp)]; exact ej
        · simp only [pmu]; rw [if_neg (by unfold cw; omega), if_neg (by unfold cw; omega)]
        · simp only [pmu]; rw [if_neg (by unfold cw; omega), if_neg (by unfold cw; omega)]
        · have h1 := hb0 (k + 1) (by omega)
          unfold zder
          rw [Int.natAbs_mul, Int.natAbs_natCast, pw_succ]
          generalize (1000000000 : Int) ^ p = P at *
          have : (brow f j (k + 1)).natAbs * (k + 1) ≤ (brow f j (k + 1)).natAbs * 9 := Nat.mul_le_mul_left _ (by omega)
          omega
        · simp only [P_X8_run, i_kil, i_icon, i_lcon, i_null, i_loadI, i_loadL, i_loadR, i_istore, i_lstore, i_astore, i_iinc, i_dup, i_dup2, i_pop, i_iadd, i_isub, i_imul, i_idiv, i_irem, i_ineg, i_iand, i_ior, i_ishl, i_ishr, i_lxor, i_ladd, i_lsub, i_lmul, i_ldiv, i_lrem, i_lneg, i_lshl, i_lcmp, i_i2l, i_l2i, i_i2b, i_i2s, i_ifeq, i_ifne, i_iflt, i_ifge, i_ifgt, i_ifle, i_cmpeq, i_cmpne, i_cmplt, i_cmpge, i_cmpgt, i_cmple, i_acmpeq, i_acmpne, i_ifnull, i_ifnonnull, i_getI, i_getR, i_putI, i_putZ, i_putR, i_ald, i_ldL, i_ldR, i_ast, i_stL, i_stR, i_alen, i_new, i_newa, i_iret, i_zret, i_lret, i_aret, i_vret, i_raise, i_throw, i_recv, i_objinit, i_tsw3, lget, lset, lput1, lput2, lkil, ltrim, largs, isL, takev, dropv, nthv, pushO, catv, gd, true_and, and_true, Option.some.injEq, Prod.mk.injEq, exists_eq_left', if_true, if_false, reduceCtorEq, Bool.false_eq_true, lcmp_ge, lcmp_lt, lcmp_le, lcmp_gt, lcmp_eq, true_or, or_true, not_true_eq_false, not_false_eq_true, false_implies, true_implies, List.length_cons, List.length_nil]
          refine K D3 F n m hd1 (fun c i c1 c2 => ?_) k2 k3
          rw [k1 c i c1 c2]
          simp only [pmu]
          rw [if_neg (by omega), if_neg (by omega), hfr c i (by omega) (by omega) (by unfold cw; omega)]
          exact F1 c i c1 c2
      | succ L ih =>
        intro j D2 hj hfr hdone
        obtain ⟨a1, a2⟩ := s6 1 j (by omega) (by omega)
        obtain ⟨b1, b2⟩ := s6 0 (j + 1) (by omega) (by omega)
        have b1' : S.2.1 (b + 2 + 0) ((j : Int) + 1) = some (cw b 0 (j + 1)) := b1
        have a3 := a2.1
        have ej : (j : Int) + 1 - 1 = (j : Int) := by omega
        refine wp_in ?_
        simp only [P_X8_run, i_kil, i_icon, i_lcon, i_null, i_loadI, i_loadL, i_loadR, i_istore, i_lstore, i_astore, i_iinc, i_dup, i_dup2, i_pop, i_iadd, i_isub, i_imul, i_idiv, i_irem, i_ineg, i_iand, i_ior, i_ishl, i_ishr, i_lxor, i_ladd, i_lsub, i_lmul, i_ldiv, i_lrem, i_lneg, i_lshl, i_lcmp, i_i2l, i_l2i, i_i2b, i_i2s, i_ifeq, i_ifne, i_iflt, i_ifge, i_ifgt, i_ifle, i_cmpeq, i_cmpne, i_cmplt, i_cmpge, i_cmpgt, i_cmple, i_acmpeq, i_acmpne, i_ifnull, i_ifnonnull, i_getI, i_getR, i_putI, i_putZ, i_putR, i_ald, i_ldL, i_ldR, i_ast, i_stL, i_stR, i_alen, i_new, i_newa, i_iret, i_zret, i_lret, i_aret, i_vret, i_raise, i_throw, i_recv, i_objinit, i_tsw3, lget, lset, lput1, lput2, lkil, ltrim, largs, isL, takev, dropv, nthv, pushO, catv, gd, true_and, and_true, Option.some.injEq, Prod.mk.injEq, exists_eq_left', if_true, if_false, reduceCtorEq, Bool.false_eq_true, lcmp_ge, lcmp_lt, lcmp_le, lcmp_gt, lcmp_eq, true_or, or_true, not_true_eq_false, not_false_eq_true, false_implies, true_implies, List.length_cons, List.length_nil, s1, s2, s3, s4, s12, x1]
        repeat (first | refine ⟨in_small (by omega) (by omega), ?_⟩ | (show (_ → _) ∧ (_ → _); first | refine ⟨by omega, fun _ => ?_⟩ | refine ⟨fun _ => ?_, by omega⟩) | refine ⟨by omega, ?_⟩ | refine ⟨⟨_, rfl, by assumption⟩, ?_⟩ | refine ⟨okT_I _, ?_⟩ | refine ⟨okT_S (by omega) (by omega), ?_⟩ | refine ⟨okT_B (by omega) (by omega), ?_⟩ | refine call0 (gd_of rfl) ?_)
        refine sp_X3_set s13 (by decide) (by decide) (by omega) fun D3 i1 i2 => ?_
        simp only [P_X8_run, i_kil, i_icon, i_lcon, i_null, i_loadI, i_loadL, i_loadR, i_istore, i_lstore, i_astore, i_iinc, i_dup, i_dup2, i_pop, i_iadd, i_isub, i_imul, i_idiv, i_irem, i_ineg, i_iand, i_ior, i_ishl, i_ishr, i_lxor, i_ladd, i_lsub, i_lmul, i_ldiv, i_lrem, i_lneg, i_lshl, i_lcmp, i_i2l, i_l2i, i_i2b, i_i2s, i_ifeq, i_ifne, i_iflt, i_ifge, i_ifgt, i_ifle, i_cmpeq, i_cmpne, i_cmplt, i_cmpge, i_cmpgt, i_cmple, i_acmpeq, i_acmpne, i_ifnull, i_ifnonnull, i_getI, i_getR, i_putI, i_putZ, i_putR, i_ald, i_ldL, i_ldR, i_ast, i_stL, i_stR, i_alen, i_new, i_newa, i_iret, i_zret, i_lret, i_aret, i_vret, i_raise, i_throw, i_recv, i_objinit, i_tsw3, lget, lset, lput1, lput2, lkil, ltrim, largs, isL, takev, dropv, nthv, pushO, catv, gd, true_and, and_true, Option.some.injEq, Prod.mk.injEq, exists_eq_left', if_true, if_false, reduceCtorEq, Bool.false_eq_true, lcmp_ge, lcmp_lt, lcmp_le, lcmp_gt, lcmp_eq, true_or, or_true, not_true_eq_false, not_false_eq_true, false_implies, true_implies, List.length_cons, List.length_nil, s1, s2, s3, s4, s12, q1', q2, r1', r2, ej, a1, b1']
        repeat (first | refine ⟨in_small (by omega) (by omega), ?_⟩ | (show (_ → _) ∧ (_ → _); first | refine ⟨by omega, fun _ => ?_⟩ | refine ⟨fun _ => ?_, by omega⟩) | refine ⟨by omega, ?_⟩ | refine ⟨⟨_, rfl, by assumption⟩, ?_⟩ | refine ⟨okT_I _, ?_⟩ | refine ⟨okT_S (by omega) (by omega), ?_⟩ | refine ⟨okT_B (by omega) (by omega), ?_⟩ | refine call0 (gd_of rfl) ?_)
        have hr0 : wD 1 2 D3 (cw b 0 (j + 1)) (brow f d (j + 1)) := (g2 (j + 1) (by omega)).congr (fun i => by rw [i1 _ i (by unfold cw; omega) (by unfold cw; omega)]; exact hfr _ i (by unfold cw; omega) (by unfold cw; omega) (by unfold cw; omega)) fun i => by rw [i1 _ i (by unfold cw; omega) (by unfold cw; omega)]; exact hfr _ i (by unfold cw; omega) (by unfold cw; omega) (by unfold cw; omega)
        refine sp_X2_times (p := p) (q := 1) a2 b2 s13 (by unfold cw; omega) (by unfold cw; omega) hr0 i2 (hb0 (j + 1) (by omega)) (by omega) (by omega) (by decide) (by omega) (by decide) (by decide) (by decide) fun D4 j1 j2 => ?_
        simp only [P_X8_run, i_kil, i_icon, i_lcon, i_null, i_loadI, i_loadL, i_loadR, i_istore, i_lstore, i_astore, i_iinc, i_dup, i_dup2, i_pop, i_iadd, i_isub, i_imul, i_idiv, i_irem, i_ineg, i_iand, i_ior, i_ishl, i_ishr, i_lxor, i_ladd, i_lsub, i_lmul, i_ldiv, i_lrem, i_lneg, i_lshl, i_lcmp, i_i2l, i_l2i, i_i2b, i_i2s, i_ifeq, i_ifne, i_iflt, i_ifge, i_ifgt, i_ifle, i_cmpeq, i_cmpne, i_cmplt, i_cmpge, i_cmpgt, i_cmple, i_acmpeq, i_acmpne, i_ifnull, i_ifnonnull, i_getI, i_getR, i_putI, i_putZ, i_putR, i_ald, i_ldL, i_ldR, i_ast, i_stL, i_stR, i_alen, i_new, i_newa, i_iret, i_zret, i_lret, i_aret, i_vret, i_raise, i_throw, i_recv, i_objinit, i_tsw3, lget, lset, lput1, lput2, lkil, ltrim, largs, isL, takev, dropv, nthv, pushO, catv, gd, true_and, and_true, Option.some.injEq, Prod.mk.injEq, exists_eq_left', if_true, if_false, reduceCtorEq, Bool.false_eq_true, lcmp_ge, lcmp_lt, lcmp_le, lcmp_gt, lcmp_eq, true_or, or_true, not_true_eq_false, not_false_eq_true, false_implies, true_implies, List.length_cons, List.length_nil]
        repeat (first | refine ⟨in_small (by omega) (by omega), ?_⟩ | (show (_ → _) ∧ (_ → _); first | refine ⟨by omega, fun _ => ?_⟩ | refine ⟨fun _ => ?_, by omega⟩) | refine ⟨by omega, ?_⟩ | refine ⟨⟨_, rfl, by assumption⟩, ?_⟩ | refine ⟨okT_I _, ?_⟩ | refine ⟨okT_S (by omega) (by omega), ?_⟩ | refine ⟨okT_B (by omega) (by omega), ?_⟩ | refine call0 (gd_of rfl) ?_)
        refine ih (j + 1) D4 (by omega) (fun c i c1 c2 c3 => ?_) fun k hk => ?_
        · rw [j1 c i (by unfold cw at *; omega) (by unfold cw at *; omega), i1 c i c1 c2]; exact hfr c i c1 c2 c3
        · by_cases w : k = j
          · rw [w]; exact j2
          · have nb := cw_ne (b := b) (r := 1) (r' := 1) (k := k) (k' := j) (by omega) (by omega) (fun w2 => w w2.2)
            exact (hdone k (by omega)).congr (fun i => by rw [j1 _ i (by omega) (by omega), i1 _ i (by unfold cw; omega) (by unfold cw; omega)]) fun i => by rw [j1 _ i (by omega) (by omega), i1 _ i (by unfold cw; omega) (by unfold cw; omega)]
    exact loop d 0 D1 (by omega) (fun c i _ _ _ => rfl) fun k hk => by omega
  · have : d = 0 := by omega
    subst this
    exact K0 D1 rfl F1 e1 e2 g2
end RUN
