/-! chains of the component: the remainder -/
-- needs: 70.ext 71.poly 72.siegel 73.gauss 74.anal 75.cells 76.sturm 77.sep 78.keep 79.ode 79a.near 79b.gcd 79c.tarski 79d.sign 79e.node 79f.size 79g.small 79h.chn 79i.simple d0.chain
set_option maxRecDepth 100000
set_option linter.unusedVariables false
theorem wD.turn {D : Dat} {w : Nat} {z z' v : Int} (h : wD 1 2 D w z) (e : z'.natAbs = z.natAbs) (hv : v = Int.sign z') : wD 1 2 (pmu D w 2 v) w z' := by
  obtain ⟨n, a1, a2, a3, a4⟩ := h
  have e1 : pmu D w 2 v (w + 1) = D (w + 1) := funext fun i => by simp only [pmu]; rw [if_neg (by omega)]
  refine ⟨n, ?_, by rw [e1]; exact a2, ?_, by rw [e1, e]; exact a4⟩
  · simp only [pmu]; rw [if_neg (by omega)]; exact a1
  · simp only [pmu, and_self, if_true]; exact hv
theorem natAbs_sign_mul (a z : Int) (h : a ≠ 0) : (Int.sign a * z).natAbs = z.natAbs := by
  rcases Int.lt_trichotomy a 0 with q | q | q
  · rw [Int.sign_eq_neg_one_of_neg q]; omega
  · exact absurd q h
  · rw [Int.sign_eq_one_of_pos q]; omega
theorem nat_pw {H p : Nat} {z : Int} (h : z.natAbs ≤ H) (hp : (H : Int) < 1000000000 ^ p) : (z.natAbs : Int) < 1000000000 ^ p := by omega
section REM
variable {b o ra rb ri da db p q H G : Nat} {f g : Nat → Int}
def rmO (b ri : Nat) (D D' : Dat) : Prop := ∀ c i, (c < cw b ri 0 ∨ cw b ri 8 + 1 < c) → (c < b + 14 ∨ b + 19 < c) → D' c i = D c i
theorem cw_ne {b r r' k k' : Nat} (hk : k < 9) (hk' : k' < 9) (h : ¬ (r = r' ∧ k = k')) : cw b r k + 1 < cw b r' k' ∨ cw b r' k' + 1 < cw b r k := by unfold cw; omega
set_option maxHeartbeats 4000000 in
/-- one pass: the working row less a multiple -/
theorem rem_pass {E : Ex} {B : Nat × Nat} {S : Stat} {D : Dat} {d Hc : Nat} {fc : Nat → Int} (hS : chS S b o) (hb : rb < 10) (hi : ri < 10) (hbi : ri ≠ rb) (hd : d < 9) (hdb : db ≤ d) (hg : ∀ k, k ≤ db → wD 1 2 D (cw b rb k) (g k)) (hg0 : g db ≠ 0) (hG : ∀ k, k ≤ db → (g k).natAbs ≤ G) (hGq : (G : Int) < 1000000000 ^ q) (hf : ∀ k, k ≤ d → wD 1 2 D (cw b ri k) (fc k)) (hH : ∀ k, k ≤ d → (fc k).natAbs ≤ Hc) (hHp : ((Hc * (2 * G) : Nat) : Int) < 1000000000 ^ p) (hpq : p + q ≤ 160)
    (K : ∀ D' : Dat, rmO b ri D D' → (∀ k, k ≤ d → wD 1 2 D' (cw b ri k) (prs fc d g db k)) → Wp P_X8_remainder E 5 [some (aR b), none, none, some (aR (b + 2 + rb)), some (aI db), some (aR (b + 2 + ri)), some (aI d)] [] B S D') : Wp P_X8_remainder E 2 [some (aR b), none, none, some (aR (b + 2 + rb)), some (aI db), some (aR (b + 2 + ri)), some (aI d)] [] B S D := by
  obtain ⟨ho, s1, s2, s3, s4, s5, s6, s7, s8, s9, s10, s11, s12, s13, s14, s15, s16, s17, s18, s19, s20⟩ := hS
  have ho1 := ho.1
  have w1 := s13.1
  have w2 := s15.1
  have w3 := s17.1
  obtain ⟨-, s5b⟩ := s5 rb hb
  obtain ⟨-, s5i⟩ := s5 ri hi
  have G0 : 1 ≤ G := by have := hG db (Nat.le_refl _); omega
  have hHc : (Hc : Int) < 1000000000 ^ p := by
    have h1 : Hc * 1 ≤ Hc * (2 * G) := Nat.mul_le_mul_left _ (by omega)
    omega
  obtain ⟨b1, b2⟩ := s6 rb db hb (by omega)
  obtain ⟨f1, f2⟩ := s6 ri d hi (by omega)
  have p160 : p ≤ 160 := by omega
  have q160 : q ≤ 160 := by omega
  -- the inner loop
  have loop : ∀ (L j : Nat) (D1 : Dat), j + L = d + 1 → rmO b ri D D1 → wD 1 2 D1 (b + 14) ((g db).natAbs : Int) → wD 1 2 D1 (b + 16) (Int.sign (g db) * fc d) → (∀ k, k < j → wD 1 2 D1 (cw b ri k) (prs fc d g db k)) → (∀ k, j ≤ k → k ≤ d → wD 1 2 D1 (cw b ri k) (fc k)) → Wp P_X8_remainder E 3 [some (aR b), none, none, some (aR (b + 2 + rb)), some (aI db), some (aR (b + 2 + ri)), some (aI d), none, some (aI j)] [] B S D1 := by
    intro L
    induction L with
    | zero =>
      intro j D1 hj hfr hx hy hdone hrest
      refine wp_in ?_
      simp only [P_X8_remainder, i_kil, i_icon, i_lcon, i_null, i_loadI, i_loadL, i_loadR, i_istore, i_lstore, i_astore, i_iinc, i_dup, i_dup2, i_pop, i_iadd, i_isub, i_imul, i_idiv, i_irem, i_ineg, i_iand, i_ior, i_ishl, i_ishr, i_lxor, i_ladd, i_lsub, i_lmul, i_ldiv, i_lrem, i_lneg, i_lshl, i_lcmp, i_i2l, i_l2i, i_i2b, i_i2s, i_ifeq, i_ifne, i_iflt, i_ifge, i_ifgt, i_ifle, i_cmpeq, i_cmpne, i_cmplt, i_cmpge, i_cmpgt, i_cmple, i_acmpeq, i_acmpne, i_ifnull, i_ifnonnull, i_getI, i_getR, i_putI, i_putZ, i_putR, i_ald, i_ldL, i_ldR, i_ast, i_stL, i_stR, i_alen, i_new, i_newa, i_iret, i_zret, i_lret, i_aret, i_vret, i_raise, i_throw, i_recv, i_objinit, i_tsw3, lget, lset, lput1, lput2, lkil, ltrim, largs, isL, takev, dropv, nthv, pushO, catv, gd, true_and, and_true, Option.some.injEq, Prod.mk.injEq, exists_eq_left', if_true, if_false, reduceCtorEq, Bool.false_eq_true, lcmp_ge, lcmp_lt, lcmp_le, lcmp_gt, lcmp_eq, true_or, or_true, not_true_eq_false, not_false_eq_true, false_implies, true_implies, List.length_cons, List.length_nil]
      repeat (first | refine ⟨in_small (by omega) (by omega), ?_⟩ | (show (_ → _) ∧ (_ → _); first | refine ⟨by omega, fun _ => ?_⟩ | refine ⟨fun _ => ?_, by omega⟩) | refine ⟨by omega, ?_⟩ | refine ⟨⟨_, rfl, by assumption⟩, ?_⟩ | refine ⟨okT_I _, ?_⟩ | refine ⟨okT_S (by omega) (by omega), ?_⟩ | refine ⟨okT_B (by omega) (by omega), ?_⟩ | refine call0 (gd_of rfl) ?_)
      exact K D1 hfr fun k hk => hdone k (by omega)
    | succ L ih =>
      intro j D1 hj hfr hx hy hdone hrest
      obtain ⟨t1, t2⟩ := s6 ri j hi (by omega)
      have t3 := t2.1
      have next : ∀ D2 : Dat, (∀ c i, c ≠ b + 18 → c ≠ b + 19 → c ≠ cw b ri j → c ≠ cw b ri j + 1 → D2 c i = D1 c i) → wD 1 2 D2 (cw b ri j) (prs fc d g db j) → Wp P_X8_remainder E 4 [some (aR b), none, none, some (aR (b + 2 + rb)), some (aI db), some (aR (b + 2 + ri)), some (aI d), none, some (aI j)] [] B S D2 := fun D2 g1 g2 => by
        refine wp_in ?_
        simp only [P_X8_remainder, i_kil, i_icon, i_lcon, i_null, i_loadI, i_loadL, i_loadR, i_istore, i_lstore, i_astore, i_iinc, i_dup, i_dup2, i_pop, i_iadd, i_isub, i_imul, i_idiv, i_irem, i_ineg, i_iand, i_ior, i_ishl, i_ishr, i_lxor, i_ladd, i_lsub, i_lmul, i_ldiv, i_lrem, i_lneg, i_lshl, i_lcmp, i_i2l, i_l2i, i_i2b, i_i2s, i_ifeq, i_ifne, i_iflt, i_ifge, i_ifgt, i_ifle, i_cmpeq, i_cmpne, i_cmplt, i_cmpge, i_cmpgt, i_cmple, i_acmpeq, i_acmpne, i_ifnull, i_ifnonnull, i_getI, i_getR, i_putI, i_putZ, i_putR, i_ald, i_ldL, i_ldR, i_ast, i_stL, i_stR, i_alen, i_new, i_newa, i_iret, i_zret, i_lret, i_aret, i_vret, i_raise, i_throw, i_recv, i_objinit, i_tsw3, lget, lset, lput1, lput2, lkil, ltrim, largs, isL, takev, dropv, nthv, pushO, catv, gd, true_and, and_true, Option.some.injEq, Prod.mk.injEq, exists_eq_left', if_true, if_false, reduceCtorEq, Bool.false_eq_true, lcmp_ge, lcmp_lt, lcmp_le, lcmp_gt, lcmp_eq, true_or, or_true, not_true_eq_false, not_false_eq_true, false_implies, true_implies, List.length_cons, List.length_nil]
        repeat (first | refine ⟨in_small (by omega) (by omega), ?_⟩ | (show (_ → _) ∧ (_ → _); first | refine ⟨by omega, fun _ => ?_⟩ | refine ⟨fun _ => ?_, by omega⟩) | refine ⟨by omega, ?_⟩ | refine ⟨⟨_, rfl, by assumption⟩, ?_⟩ | refine ⟨okT_I _, ?_⟩ | refine ⟨okT_S (by omega) (by omega), ?_⟩ | refine ⟨okT_B (by omega) (by omega), ?_⟩ | refine call0 (gd_of rfl) ?_)
        refine ih (j + 1) D2 (by omega) (fun c i c1 c2 => ?_) (hx.congr (fun i => g1 _ i (by omega) (by omega) (by unfold cw; omega) (by unfold cw; omega)) fun i => g1 _ i (by omega) (by omega) (by unfold cw; omega) (by unfold cw; omega)) (hy.congr (fun i => g1 _ i (by omega) (by omega) (by unfold cw; omega) (by unfold cw; omega)) fun i => g1 _ i (by omega) (by omega) (by unfold cw; omega) (by unfold cw; omega)) (fun k hk => ?_) fun k hk1 hk2 => ?_
        · rw [g1 c i (by omega) (by omega) (by unfold cw at *; omega) (by unfold cw at *; omega)]; exact hfr c i c1 c2
        · by_cases w : k = j
          · rw [w]; exact g2
          · have := cw_ne (b := b) (r := ri) (r' := ri) (k := k) (k' := j) (by omega) (by omega) (fun w2 => w w2.2)
            exact (hdone k (by omega)).congr (fun i => g1 _ i (by unfold cw; omega) (by unfold cw; omega) (by omega) (by omega)) fun i => g1 _ i (by unfold cw; omega) (by unfold cw; omega) (by omega) (by omega)
        · have := cw_ne (b := b) (r := ri) (r' := ri) (k := k) (k' := j) (by omega) (by omega) (fun w2 => by omega)
          exact (hrest k (by omega) hk2).congr (fun i => g1 _ i (by unfold cw; omega) (by unfold cw; omega) (by omega) (by omega)) fun i => g1 _ i (by unfold cw; omega) (by unfold cw; omega) (by omega) (by omega)
      refine wp_in ?_
      simp only [P_X8_remainder, i_kil, i_icon, i_lcon, i_null, i_loadI, i_loadL, i_loadR, i_istore, i_lstore, i_astore, i_iinc, i_dup, i_dup2, i_pop, i_iadd, i_isub, i_imul, i_idiv, i_irem, i_ineg, i_iand, i_ior, i_ishl, i_ishr, i_lxor, i_ladd, i_lsub, i_lmul, i_ldiv, i_lrem, i_lneg, i_lshl, i_lcmp, i_i2l, i_l2i, i_i2b, i_i2s, i_ifeq, i_ifne, i_iflt, i_ifge, i_ifgt, i_ifle, i_cmpeq, i_cmpne, i_cmplt, i_cmpge, i_cmpgt, i_cmple, i_acmpeq, i_acmpne, i_ifnull, i_ifnonnull, i_getI, i_getR, i_putI, i_putZ, i_putR, i_ald, i_ldL, i_ldR, i_ast, i_stL, i_stR, i_alen, i_new, i_newa, i_iret, i_zret, i_lret, i_aret, i_vret, i_raise, i_throw, i_recv, i_objinit, i_tsw3, lget, lset, lput1, lput2, lkil, ltrim, largs, isL, takev, dropv, nthv, pushO, catv, gd, true_and, and_true, Option.some.injEq, Prod.mk.injEq, exists_eq_left', if_true, if_false, reduceCtorEq, Bool.false_eq_true, lcmp_ge, lcmp_lt, lcmp_le, lcmp_gt, lcmp_eq, true_or, or_true, not_true_eq_false, not_false_eq_true, false_implies, true_implies, List.length_cons, List.length_nil, s1, s2, s12, s14, s16, s5i, t1]
      repeat (first | refine ⟨in_small (by omega) (by omega), ?_⟩ | (show (_ → _) ∧ (_ → _); first | refine ⟨by omega, fun _ => ?_⟩ | refine ⟨fun _ => ?_, by omega⟩) | refine ⟨by omega, ?_⟩ | refine ⟨⟨_, rfl, by assumption⟩, ?_⟩ | refine ⟨okT_I _, ?_⟩ | refine ⟨okT_S (by omega) (by omega), ?_⟩ | refine ⟨okT_B (by omega) (by omega), ?_⟩ | refine call0 (gd_of rfl) ?_)
      refine sp_X2_times (p := p) (q := q) s17 t2 s13 (by unfold cw; omega) (by omega) (hrest j (Nat.le_refl _) (by omega)) hx (nat_pw (hH j (by omega)) hHc) (by rw [Int.natAbs_natCast]; exact nat_pw (hG db (Nat.le_refl _)) hGq) p160 q160 hpq (by decide) (by decide) (by decide) fun D2 g1 g2 => ?_
      have lz : ((fc j * ((g db).natAbs : Int)).natAbs : Int) < 1000000000 ^ 160 := by
        refine Int.lt_of_lt_of_le ?_ (pw_mono p160)
        have h1 : (fc j * ((g db).natAbs : Int)).natAbs ≤ Hc * (2 * G) := by
          rw [Int.natAbs_mul, Int.natAbs_natCast]
          exact Nat.mul_le_mul (hH j (by omega)) (by have := hG db (Nat.le_refl _); omega)
        exact nat_pw h1 hHp
      simp only [P_X8_remainder, i_kil, i_icon, i_lcon, i_null, i_loadI, i_loadL, i_loadR, i_istore, i_lstore, i_astore, i_iinc, i_dup, i_dup2, i_pop, i_iadd, i_isub, i_imul, i_idiv, i_irem, i_ineg, i_iand, i_ior, i_ishl, i_ishr, i_lxor, i_ladd, i_lsub, i_lmul, i_ldiv, i_lrem, i_lneg, i_lshl, i_lcmp, i_i2l, i_l2i, i_i2b, i_i2s, i_ifeq, i_ifne, i_iflt, i_ifge, i_ifgt, i_ifle, i_cmpeq, i_cmpne, i_cmplt, i_cmpge, i_cmpgt, i_cmple, i_acmpeq, i_acmpne, i_ifnull, i_ifnonnull, i_getI, i_getR, i_putI, i_putZ, i_putR, i_ald, i_ldL, i_ldR, i_ast, i_stL, i_stR, i_alen, i_new, i_newa, i_iret, i_zret, i_lret, i_aret, i_vret, i_raise, i_throw, i_recv, i_objinit, i_tsw3, lget, lset, lput1, lput2, lkil, ltrim, largs, isL, takev, dropv, nthv, pushO, catv, gd, true_and, and_true, Option.some.injEq, Prod.mk.injEq, exists_eq_left', if_true, if_false, reduceCtorEq, Bool.false_eq_true, lcmp_ge, lcmp_lt, lcmp_le, lcmp_gt, lcmp_eq, true_or, or_true, not_true_eq_false, not_false_eq_true, false_implies, true_implies, List.length_cons, List.length_nil, s1, s2, s12, s14, s16, s5i, t1]
      repeat (first | refine ⟨in_small (by omega) (by omega), ?_⟩ | (show (_ → _) ∧ (_ → _); first | refine ⟨by omega, fun _ => ?_⟩ | refine ⟨fun _ => ?_, by omega⟩) | refine ⟨by omega, ?_⟩ | refine ⟨⟨_, rfl, by assumption⟩, ?_⟩ | refine ⟨okT_I _, ?_⟩ | refine ⟨okT_S (by omega) (by omega), ?_⟩ | refine ⟨okT_B (by omega) (by omega), ?_⟩ | refine call0 (gd_of rfl) ?_)
      refine sp_X3_be t2 s17 (by unfold cw; omega) g2 lz lz (by decide) fun D3 i1 i2 => ?_
      simp only [P_X8_remainder, i_kil, i_icon, i_lcon, i_null, i_loadI, i_loadL, i_loadR, i_istore, i_lstore, i_astore, i_iinc, i_dup, i_dup2, i_pop, i_iadd, i_isub, i_imul, i_idiv, i_irem, i_ineg, i_iand, i_ior, i_ishl, i_ishr, i_lxor, i_ladd, i_lsub, i_lmul, i_ldiv, i_lrem, i_lneg, i_lshl, i_lcmp, i_i2l, i_l2i, i_i2b, i_i2s, i_ifeq, i_ifne, i_iflt, i_ifge, i_ifgt, i_ifle, i_cmpeq, i_cmpne, i_cmplt, i_cmpge, i_cmpgt, i_cmple, i_acmpeq, i_acmpne, i_ifnull, i_ifnonnull, i_getI, i_getR, i_putI, i_putZ, i_putR, i_ald, i_ldL, i_ldR, i_ast, i_stL, i_stR, i_alen, i_new, i_newa, i_iret, i_zret, i_lret, i_aret, i_vret, i_raise, i_throw, i_recv, i_objinit, i_tsw3, lget, lset, lput1, lput2, lkil, ltrim, largs, isL, takev, dropv, nthv, pushO, catv, gd, true_and, and_true, Option.some.injEq, Prod.mk.injEq, exists_eq_left', if_true, if_false, reduceCtorEq, Bool.false_eq_true, lcmp_ge, lcmp_lt, lcmp_le, lcmp_gt, lcmp_eq, true_or, or_true, not_true_eq_false, not_false_eq_true, false_implies, true_implies, List.length_cons, List.length_nil, s1, s2, s12, s14, s16, s5i, t1]
      refine ⟨in_small (by omega) (by omega), fun w => ?_, fun w => ?_⟩
      · -- a multiple is taken off
        have hk : j - (d - db) ≤ db := by omega
        obtain ⟨u1, u2⟩ := s6 rb (j - (d - db)) hb (by omega)
        have ej : (j : Int) - d + db = ((j - (d - db) : Nat) : Int) := by omega
        have nb := cw_ne (b := b) (r := rb) (r' := ri) (k := j - (d - db)) (k' := j) (by omega) (by omega) (fun w2 => hbi w2.1.symm)
        simp only [P_X8_remainder, i_kil, i_icon, i_lcon, i_null, i_loadI, i_loadL, i_loadR, i_istore, i_lstore, i_astore, i_iinc, i_dup, i_dup2, i_pop, i_iadd, i_isub, i_imul, i_idiv, i_irem, i_ineg, i_iand, i_ior, i_ishl, i_ishr, i_lxor, i_ladd, i_lsub, i_lmul, i_ldiv, i_lrem, i_lneg, i_lshl, i_lcmp, i_i2l, i_l2i, i_i2b, i_i2s, i_ifeq, i_ifne, i_iflt, i_ifge, i_ifgt, i_ifle, i_cmpeq, i_cmpne, i_cmplt, i_cmpge, i_cmpgt, i_cmple, i_acmpeq, i_acmpne, i_ifnull, i_ifnonnull, i_getI, i_getR, i_putI, i_putZ, i_putR, i_ald, i_ldL, i_ldR, i_ast, i_stL, i_stR, i_alen, i_new, i_newa, i_iret, i_zret, i_lret, i_aret, i_vret, i_raise, i_throw, i_recv, i_objinit, i_tsw3, lget, lset, lput1, lput2, lkil, ltrim, largs, isL, takev, dropv, nthv, pushO, catv, gd, true_and, and_true, Option.some.injEq, Prod.mk.injEq, exists_eq_left', if_true, if_false, reduceCtorEq, Bool.false_eq_true, lcmp_ge, lcmp_lt, lcmp_le, lcmp_gt, lcmp_eq, true_or, or_true, not_true_eq_false, not_false_eq_true, false_implies, true_implies, List.length_cons, List.length_nil, s1, s2, s12, s14, s16, s5i, t1, s5b, ej, u1]
        repeat (first | refine ⟨in_small (by omega) (by omega), ?_⟩ | (show (_ → _) ∧ (_ → _); first | refine ⟨by omega, fun _ => ?_⟩ | refine ⟨fun _ => ?_, by omega⟩) | refine ⟨by omega, ?_⟩ | refine ⟨⟨_, rfl, by assumption⟩, ?_⟩ | refine ⟨okT_I _, ?_⟩ | refine ⟨okT_S (by omega) (by omega), ?_⟩ | refine ⟨okT_B (by omega) (by omega), ?_⟩ | refine call0 (gd_of rfl) ?_)
        have hgk : wD 1 2 D3 (cw b rb (j - (d - db))) (g (j - (d - db))) := by
          refine (hg _ hk).congr (fun i => ?_) fun i => ?_
          · rw [i1 _ i (by omega) (by omega), g1 _ i (by unfold cw; omega) (by unfold cw; omega)]
            exact hfr _ i (by have := cw_ne (b := b) (r := rb) (r' := ri) (k := j - (d - db)) (k' := 0) (by omega) (by omega) (fun w2 => hbi w2.1.symm); unfold cw at *; omega) (by unfold cw; omega)
          · rw [i1 _ i (by omega) (by omega), g1 _ i (by unfold cw; omega) (by unfold cw; omega)]
            exact hfr _ i (by have := cw_ne (b := b) (r := rb) (r' := ri) (k := j - (d - db)) (k' := 0) (by omega) (by omega) (fun w2 => hbi w2.1.symm); unfold cw at *; omega) (by unfold cw; omega)
        have hy3 : wD 1 2 D3 (b + 16) (Int.sign (g db) * fc d) := hy.congr (fun i => by rw [i1 _ i (by unfold cw; omega) (by unfold cw; omega), g1 _ i (by omega) (by omega)]) fun i => by rw [i1 _ i (by unfold cw; omega) (by unfold cw; omega), g1 _ i (by omega) (by omega)]
        have ly : ((Int.sign (g db) * fc d).natAbs : Int) < 1000000000 ^ p := by rw [natAbs_sign_mul _ _ hg0]; exact nat_pw (hH d (Nat.le_refl _)) hHc
        refine sp_X2_times (p := p) (q := q) s17 s15 u2 (by omega) (by unfold cw; omega) hy3 hgk ly (nat_pw (hG _ hk) hGq) p160 q160 hpq (by decide) (by decide) (by decide) fun D4 j1 j2 => ?_
        have l2 : ((Int.sign (g db) * fc d * g (j - (d - db))).natAbs) ≤ Hc * G := by
          rw [Int.natAbs_mul, natAbs_sign_mul _ _ hg0]
          exact Nat.mul_le_mul (hH d (Nat.le_refl _)) (hG _ hk)
        have l1 : (fc j * ((g db).natAbs : Int)).natAbs ≤ Hc * G := by
          rw [Int.natAbs_mul, Int.natAbs_natCast]
          exact Nat.mul_le_mul (hH j (by omega)) (hG db (Nat.le_refl _))
        have l3 : Hc * (2 * G) = Hc * G + Hc * G := by rw [Nat.two_mul, Nat.mul_add]
        have l4 : ((fc j * ((g db).natAbs : Int)).natAbs : Int) + (Int.sign (g db) * fc d * g (j - (d - db))).natAbs < 1000000000 ^ 160 := by
          refine Int.lt_of_lt_of_le ?_ (pw_mono p160)
          rw [l3] at hHp
          generalize Hc * G = U at *
          omega
        have i2' : wD 1 2 D4 (cw b ri j) (fc j * ((g db).natAbs : Int)) := i2.congr (fun i => j1 _ i (by unfold cw; omega) (by unfold cw; omega)) fun i => j1 _ i (by unfold cw; omega) (by unfold cw; omega)
        simp only [P_X8_remainder, i_kil, i_icon, i_lcon, i_null, i_loadI, i_loadL, i_loadR, i_istore, i_lstore, i_astore, i_iinc, i_dup, i_dup2, i_pop, i_iadd, i_isub, i_imul, i_idiv, i_irem, i_ineg, i_iand, i_ior, i_ishl, i_ishr, i_lxor, i_ladd, i_lsub, i_lmul, i_ldiv, i_lrem, i_lneg, i_lshl, i_lcmp, i_i2l, i_l2i, i_i2b, i_i2s, i_ifeq, i_ifne, i_iflt, i_ifge, i_ifgt, i_ifle, i_cmpeq, i_cmpne, i_cmplt, i_cmpge, i_cmpgt, i_cmple, i_acmpeq, i_acmpne, i_ifnull, i_ifnonnull, i_getI, i_getR, i_putI, i_putZ, i_putR, i_ald, i_ldL, i_ldR, i_ast, i_stL, i_stR, i_alen, i_new, i_newa, i_iret, i_zret, i_lret, i_aret, i_vret, i_raise, i_throw, i_recv, i_objinit, i_tsw3, lget, lset, lput1, lput2, lkil, ltrim, largs, isL, takev, dropv, nthv, pushO, catv, gd, true_and, and_true, Option.some.injEq, Prod.mk.injEq, exists_eq_left', if_true, if_false, reduceCtorEq, Bool.false_eq_true, lcmp_ge, lcmp_lt, lcmp_le, lcmp_gt, lcmp_eq, true_or, or_true, not_true_eq_false, not_false_eq_true, false_implies, true_implies, List.length_cons, List.length_nil, s1, s2, s12, s14, s16, s5i, t1]
        repeat (first | refine ⟨in_small (by omega) (by omega), ?_⟩ | (show (_ → _) ∧ (_ → _); first | refine ⟨by omega, fun _ => ?_⟩ | refine ⟨fun _ => ?_, by omega⟩) | refine ⟨by omega, ?_⟩ | refine ⟨⟨_, rfl, by assumption⟩, ?_⟩ | refine ⟨okT_I _, ?_⟩ | refine ⟨okT_S (by omega) (by omega), ?_⟩ | refine ⟨okT_B (by omega) (by omega), ?_⟩ | refine call0 (gd_of rfl) ?_)
        refine sp_X2_add ho1 t2 t2 s17 i2' j2 (.inr rfl) lz (by have := l4; omega) l4 (by decide) (by decide) (by decide) fun D5 m1 m2 => ?_
        simp only [P_X8_remainder, i_kil, i_icon, i_lcon, i_null, i_loadI, i_loadL, i_loadR, i_istore, i_lstore, i_astore, i_iinc, i_dup, i_dup2, i_pop, i_iadd, i_isub, i_imul, i_idiv, i_irem, i_ineg, i_iand, i_ior, i_ishl, i_ishr, i_lxor, i_ladd, i_lsub, i_lmul, i_ldiv, i_lrem, i_lneg, i_lshl, i_lcmp, i_i2l, i_l2i, i_i2b, i_i2s, i_ifeq, i_ifne, i_iflt, i_ifge, i_ifgt, i_ifle, i_cmpeq, i_cmpne, i_cmplt, i_cmpge, i_cmpgt, i_cmple, i_acmpeq, i_acmpne, i_ifnull, i_ifnonnull, i_getI, i_getR, i_putI, i_putZ, i_putR, i_ald, i_ldL, i_ldR, i_ast, i_stL, i_stR, i_alen, i_new, i_newa, i_iret, i_zret, i_lret, i_aret, i_vret, i_raise, i_throw, i_recv, i_objinit, i_tsw3, lget, lset, lput1, lput2, lkil, ltrim, largs, isL, takev, dropv, nthv, pushO, catv, gd, true_and, and_true, Option.some.injEq, Prod.mk.injEq, exists_eq_left', if_true, if_false, reduceCtorEq, Bool.false_eq_true, lcmp_ge, lcmp_lt, lcmp_le, lcmp_gt, lcmp_eq, true_or, or_true, not_true_eq_false, not_false_eq_true, false_implies, true_implies, List.length_cons, List.length_nil]
        refine next D5 (fun c i c1 c2 c3 c4 => by rw [m1 c i c3 c4, j1 c i c1 c2, i1 c i c3 c4, g1 c i c1 c2]) ?_
        have e : prs fc d g db j = fc j * ((g db).natAbs : Int) + -1 * (Int.sign (g db) * fc d * g (j - (d - db))) := by
          unfold prs
          rw [if_pos (by omega)]; omega
        rw [e]; exact m2
      · refine next D3 (fun c i c1 c2 c3 c4 => by rw [i1 c i c3 c4, g1 c i c1 c2]) ?_
        have e : prs fc d g db j = fc j * ((g db).natAbs : Int) := by
          unfold prs
          rw [if_neg (by omega)]; omega
        rw [e]; exact i2
  refine wp_in ?_
  simp only [P_X8_remainder, i_kil, i_icon, i_lcon, i_null, i_loadI, i_loadL, i_loadR, i_istore, i_lstore, i_astore, i_iinc, i_dup, i_dup2, i_pop, i_iadd, i_isub, i_imul, i_idiv, i_irem, i_ineg, i_iand, i_ior, i_ishl, i_ishr, i_lxor, i_ladd, i_lsub, i_lmul, i_ldiv, i_lrem, i_lneg, i_lshl, i_lcmp, i_i2l, i_l2i, i_i2b, i_i2s, i_ifeq, i_ifne, i_iflt, i_ifge, i_ifgt, i_ifle, i_cmpeq, i_cmpne, i_cmplt, i_cmpge, i_cmpgt, i_cmple, i_acmpeq, i_acmpne, i_ifnull, i_ifnonnull, i_getI, i_getR, i_putI, i_putZ, i_putR, i_ald, i_ldL, i_ldR, i_ast, i_stL, i_stR, i_alen, i_new, i_newa, i_iret, i_zret, i_lret, i_aret, i_vret, i_raise, i_throw, i_recv, i_objinit, i_tsw3, lget, lset, lput1, lput2, lkil, ltrim, largs, isL, takev, dropv, nthv, pushO, catv, gd, true_and, and_true, Option.some.injEq, Prod.mk.injEq, exists_eq_left', if_true, if_false, reduceCtorEq, Bool.false_eq_true, lcmp_ge, lcmp_lt, lcmp_le, lcmp_gt, lcmp_eq, true_or, or_true, not_true_eq_false, not_false_eq_true, false_implies, true_implies, List.length_cons, List.length_nil, s1, s2, s12, s14, s16, s5b, b1]
  refine ⟨fun w => by omega, fun _ => ?_⟩
  repeat (first | refine ⟨in_small (by omega) (by omega), ?_⟩ | (show (_ → _) ∧ (_ → _); first | refine ⟨by omega, fun _ => ?_⟩ | refine ⟨fun _ => ?_, by omega⟩) | refine ⟨by omega, ?_⟩ | refine ⟨⟨_, rfl, by assumption⟩, ?_⟩ | refine ⟨okT_I _, ?_⟩ | refine ⟨okT_S (by omega) (by omega), ?_⟩ | refine ⟨okT_B (by omega) (by omega), ?_⟩ | refine call0 (gd_of rfl) ?_)
  refine sp_X3_be s13 b2 (by unfold cw; omega) (hg db (Nat.le_refl _)) (Int.lt_of_lt_of_le (nat_pw (hG db (Nat.le_refl _)) hGq) (pw_mono q160)) (Int.lt_of_lt_of_le (nat_pw (hG db (Nat.le_refl _)) hGq) (pw_mono q160)) (by decide) fun D1 g1 g2 => ?_
  have es := g2
  obtain ⟨n0, -, -, e14, -⟩ := es
  have x1 := g2.turn (z' := ((g db).natAbs : Int)) (v := 1) (by omega) (by rw [Int.sign_eq_one_of_pos (by omega)])
  simp only [P_X8_remainder, i_kil, i_icon, i_lcon, i_null, i_loadI, i_loadL, i_loadR, i_istore, i_lstore, i_astore, i_iinc, i_dup, i_dup2, i_pop, i_iadd, i_isub, i_imul, i_idiv, i_irem, i_ineg, i_iand, i_ior, i_ishl, i_ishr, i_lxor, i_ladd, i_lsub, i_lmul, i_ldiv, i_lrem, i_lneg, i_lshl, i_lcmp, i_i2l, i_l2i, i_i2b, i_i2s, i_ifeq, i_ifne, i_iflt, i_ifge, i_ifgt, i_ifle, i_cmpeq, i_cmpne, i_cmplt, i_cmpge, i_cmpgt, i_cmple, i_acmpeq, i_acmpne, i_ifnull, i_ifnonnull, i_getI, i_getR, i_putI, i_putZ, i_putR, i_ald, i_ldL, i_ldR, i_ast, i_stL, i_stR, i_alen, i_new, i_newa, i_iret, i_zret, i_lret, i_aret, i_vret, i_raise, i_throw, i_recv, i_objinit, i_tsw3, lget, lset, lput1, lput2, lkil, ltrim, largs, isL, takev, dropv, nthv, pushO, catv, gd, true_and, and_true, Option.some.injEq, Prod.mk.injEq, exists_eq_left', if_true, if_false, reduceCtorEq, Bool.false_eq_true, lcmp_ge, lcmp_lt, lcmp_le, lcmp_gt, lcmp_eq, true_or, or_true, not_true_eq_false, not_false_eq_true, false_implies, true_implies, List.length_cons, List.length_nil, s1, s2, s12, s14, s16, s5i, f1, w1, e14]
  repeat (first | refine ⟨in_small (by omega) (by omega), ?_⟩ | (show (_ → _) ∧ (_ → _); first | refine ⟨by omega, fun _ => ?_⟩ | refine ⟨fun _ => ?_, by omega⟩) | refine ⟨by omega, ?_⟩ | refine ⟨⟨_, rfl, by assumption⟩, ?_⟩ | refine ⟨okT_I _, ?_⟩ | refine ⟨okT_S (by omega) (by omega), ?_⟩ | refine ⟨okT_B (by omega) (by omega), ?_⟩ | refine call0 (gd_of rfl) ?_)
  refine sp_X3_be s15 f2 (by unfold cw; omega) ((hf d (Nat.le_refl _)).congr (D' := pmu D1 (b + 14) 2 1) (fun i => ?_) fun i => ?_) (Int.lt_of_lt_of_le (nat_pw (hH d (Nat.le_refl _)) hHc) (pw_mono p160)) (Int.lt_of_lt_of_le (nat_pw (hH d (Nat.le_refl _)) hHc) (pw_mono p160)) (by decide) fun D2 i1 i2 => ?_
  · simp only [pmu]; rw [if_neg (by unfold cw; omega)]; exact g1 _ i (by unfold cw; omega) (by unfold cw; omega)
  · simp only [pmu]; rw [if_neg (by unfold cw; omega)]; exact g1 _ i (by unfold cw; omega) (by unfold cw; omega)
  have es := i2
  obtain ⟨n1, -, -, e16, -⟩ := es
  have y1 := i2.turn (z' := Int.sign (g db) * fc d) (v := Int.sign (fc d) * Int.sign (g db)) (natAbs_sign_mul _ _ hg0) (by rw [Int.sign_mul, Int.sign_sign, Int.mul_comm])
  have hsg : ∀ z : Int, Int.sign z = 1 ∨ Int.sign z = 0 ∨ Int.sign z = -1 := fun z => by rcases sgn_cases z with h | h | h <;> omega
  have hin : inI (Int.sign (fc d) * Int.sign (g db)) := by
    rcases hsg (fc d) with h | h | h <;> rcases hsg (g db) with h' | h' | h' <;> rw [h, h'] <;> exact in_small (by decide) (by decide)
  simp only [P_X8_remainder, i_kil, i_icon, i_lcon, i_null, i_loadI, i_loadL, i_loadR, i_istore, i_lstore, i_astore, i_iinc, i_dup, i_dup2, i_pop, i_iadd, i_isub, i_imul, i_idiv, i_irem, i_ineg, i_iand, i_ior, i_ishl, i_ishr, i_lxor, i_ladd, i_lsub, i_lmul, i_ldiv, i_lrem, i_lneg, i_lshl, i_lcmp, i_i2l, i_l2i, i_i2b, i_i2s, i_ifeq, i_ifne, i_iflt, i_ifge, i_ifgt, i_ifle, i_cmpeq, i_cmpne, i_cmplt, i_cmpge, i_cmpgt, i_cmple, i_acmpeq, i_acmpne, i_ifnull, i_ifnonnull, i_getI, i_getR, i_putI, i_putZ, i_putR, i_ald, i_ldL, i_ldR, i_ast, i_stL, i_stR, i_alen, i_new, i_newa, i_iret, i_zret, i_lret, i_aret, i_vret, i_raise, i_throw, i_recv, i_objinit, i_tsw3, lget, lset, lput1, lput2, lkil, ltrim, largs, isL, takev, dropv, nthv, pushO, catv, gd, true_and, and_true, Option.some.injEq, Prod.mk.injEq, exists_eq_left', if_true, if_false, reduceCtorEq, Bool.false_eq_true, lcmp_ge, lcmp_lt, lcmp_le, lcmp_gt, lcmp_eq, true_or, or_true, not_true_eq_false, not_false_eq_true, false_implies, true_implies, List.length_cons, List.length_nil, s1, s2, s12, s14, s16, w2, e16]
  refine ⟨hin, ?_⟩
  refine loop (d + 1) 0 _ (by omega) (fun c i c1 c2 => ?_) (x1.congr (fun i => ?_) fun i => ?_) y1 (fun k hk => by omega) fun k _ hk => (hf k hk).congr (fun i => ?_) fun i => ?_
  · simp only [pmu]; rw [if_neg (by omega), i1 c i (by omega) (by omega)]
    simp only [pmu]; rw [if_neg (by omega)]; exact g1 c i (by omega) (by omega)
  · show pmu D2 (b + 16) 2 _ (b + 14) i = _
    simp only [pmu]; rw [if_neg (by omega), i1 _ i (by omega) (by omega)]
    simp only [pmu]
  · show pmu D2 (b + 16) 2 _ (b + 14 + 1) i = _
    simp only [pmu]; rw [if_neg (by omega), i1 _ i (by omega) (by omega)]
    simp only [pmu]
  · simp only [pmu]; rw [if_neg (by unfold cw; omega), i1 _ i (by unfold cw; omega) (by unfold cw; omega)]
    simp only [pmu]; rw [if_neg (by unfold cw; omega)]; exact g1 _ i (by unfold cw; omega) (by unfold cw; omega)
  · simp only [pmu]; rw [if_neg (by unfold cw; omega), i1 _ i (by unfold cw; omega) (by unfold cw; omega)]
    simp only [pmu]; rw [if_neg (by unfold cw; omega)]; exact g1 _ i (by unfold cw; omega) (by unfold cw; omega)
end REM
theorem wD.sg {kn ks : Int} {D : Dat} {w : Nat} {z : Int} (h : wD kn ks D w z) : D w ks = Int.sign z := by obtain ⟨n, -, -, h, -⟩ := h; exact h
theorem sign_nz {z : Int} : Int.sign z = 0 ↔ z = 0 := by
  rcases sgn_cases z with h | h | h <;> omega
section REM2
variable {b o ra rb ri da db p q H G : Nat} {f g : Nat → Int}
set_option maxHeartbeats 2000000 in
theorem sp_X8_remainder {E : Ex} {B : Nat × Nat} {S : Stat} {D : Dat} (hS : chS S b o) (ha : ra < 10) (hb : rb < 10) (hi : ri < 10) (hai : ri ≠ ra) (hbi : ri ≠ rb) (hda : da < 9) (hdb : db < 9) (hf : chR D b ra da f) (hg : chR D b rb db g) (f0 : f da ≠ 0) (g0 : g db ≠ 0) (hH : ∀ k, k ≤ da → (f k).natAbs ≤ H) (hG : ∀ k, k ≤ db → (g k).natAbs ≤ G) (hGq : (G : Int) < 1000000000 ^ q) (hsz : ((H * (2 * G) ^ (da + 1 - db) : Nat) : Int) < 1000000000 ^ p) (hpq : p + q ≤ 160)
    (K : ∀ (D' : Dat) (n : Nat) (R : Nat → Int), rmO b ri D D' → n ≤ db → (∀ k, k < n → wD 1 2 D' (cw b ri k) (R k)) → (0 < n → R (n - 1) ≠ 0) → prem (zp f (da + 1)) (zp g (db + 1)) (zp R n) → (∀ k, k < n → (R k).natAbs ≤ H * (2 * G) ^ (da + 1 - db)) → E (.inl (some (.inl (if n = 0 then -7 else (n : Int) - 1)))) B S D') : Wp P_X8_remainder E 0 [some (aR b), some (aR (b + 2 + ra)), some (aI da), some (aR (b + 2 + rb)), some (aI db), some (aR (b + 2 + ri))] [] B S D := by
  have hS0 := hS
  obtain ⟨ho, s1, s2, s3, s4, s5, s6, s7, s8, s9, s10, s11, s12, s13, s14, s15, s16, s17, s18, s19, s20⟩ := hS
  obtain ⟨-, s5b⟩ := s5 rb hb
  obtain ⟨-, s5i⟩ := s5 ri hi
  obtain ⟨-, s5a⟩ := s5 ra ha
  have G0 : 1 ≤ G := by have := hG db (Nat.le_refl _); omega
  have hT : ∀ m, 1 ≤ (2 * G) ^ m := fun m => Nat.pos_of_ne_zero (by intro h; rw [Nat.pow_eq_zero] at h; omega)
  have hH0 : H ≤ H * (2 * G) ^ (da + 1 - db) := by
    have := Nat.mul_le_mul_left H (hT (da + 1 - db)); omega
  generalize hTT : H * (2 * G) ^ (da + 1 - db) = T at *
  have p160 : p ≤ 160 := by omega
  have outer : ∀ (N n : Nat) (fc : Nat → Int) (Hc : Nat) (D1 : Dat), n ≤ N → 1 ≤ n → n ≤ da + 1 → rmO b ri D D1 → (∀ k, k < n → wD 1 2 D1 (cw b ri k) (fc k)) → fc (n - 1) ≠ 0 → (∀ k, k < n → (fc k).natAbs ≤ Hc) → Hc * (2 * G) ^ (n - db) ≤ T → prem (zp f (da + 1)) (zp g (db + 1)) (zp fc n) → Wp P_X8_remainder E 2 [some (aR b), none, none, some (aR (b + 2 + rb)), some (aI db), some (aR (b + 2 + ri)), some (aI ((n : Int) - 1))] [] B S D1 := by
    intro N
    induction N with
    | zero => intro n fc Hc D1 h1 h2; omega
    | succ N ih =>
      intro n fc Hc D1 hN h1 hn hfr hrow htop hbd hpw hpr
      have hHc : Hc ≤ T := by
        have := Nat.mul_le_mul_left Hc (hT (n - db)); omega
      by_cases hdone : n ≤ db
      · refine wp_in ?_
        simp only [P_X8_remainder, i_kil, i_icon, i_lcon, i_null, i_loadI, i_loadL, i_loadR, i_istore, i_lstore, i_astore, i_iinc, i_dup, i_dup2, i_pop, i_iadd, i_isub, i_imul, i_idiv, i_irem, i_ineg, i_iand, i_ior, i_ishl, i_ishr, i_lxor, i_ladd, i_lsub, i_lmul, i_ldiv, i_lrem, i_lneg, i_lshl, i_lcmp, i_i2l, i_l2i, i_i2b, i_i2s, i_ifeq, i_ifne, i_iflt, i_ifge, i_ifgt, i_ifle, i_cmpeq, i_cmpne, i_cmplt, i_cmpge, i_cmpgt, i_cmple, i_acmpeq, i_acmpne, i_ifnull, i_ifnonnull, i_getI, i_getR, i_putI, i_putZ, i_putR, i_ald, i_ldL, i_ldR, i_ast, i_stL, i_stR, i_alen, i_new, i_newa, i_iret, i_zret, i_lret, i_aret, i_vret, i_raise, i_throw, i_recv, i_objinit, i_tsw3, lget, lset, lput1, lput2, lkil, ltrim, largs, isL, takev, dropv, nthv, pushO, catv, gd, true_and, and_true, Option.some.injEq, Prod.mk.injEq, exists_eq_left', if_true, if_false, reduceCtorEq, Bool.false_eq_true, lcmp_ge, lcmp_lt, lcmp_le, lcmp_gt, lcmp_eq, true_or, or_true, not_true_eq_false, not_false_eq_true, false_implies, true_implies, List.length_cons, List.length_nil]
        refine ⟨fun _ => ?_, fun w => by omega⟩
        have := K D1 n fc hfr hdone hrow (fun _ => htop) hpr (fun k hk => by have := hbd k hk; omega)
        rwa [if_neg (by omega)] at this
      · have hstep : Hc * (2 * G) ≤ T := by
          have h2 : (2 * G) ^ (n - db) = (2 * G) ^ (n - db - 1) * (2 * G) := by rw [← Nat.pow_succ]; congr 1; omega
          rw [h2] at hpw
          have h3 := Nat.mul_le_mul_right (2 * G) (hT (n - db - 1))
          rw [Nat.one_mul] at h3
          have h4 := Nat.mul_le_mul_left Hc h3
          omega
        have ed : (n : Int) - 1 = ((n - 1 : Nat) : Int) := by omega
        rw [ed]
        refine rem_pass (p := p) (q := q) (Hc := Hc) (G := G) (fc := fc) (g := g) hS0 hb hi hbi (by omega) (by omega) (fun k hk => (hg k hk).congr (fun i => hfr _ i ?_ (by unfold cw; omega)) fun i => hfr _ i ?_ (by unfold cw; omega)) g0 hG hGq (fun k hk => hrow k (by omega)) (fun k hk => hbd k (by omega)) (by omega) hpq fun D2 j1 j2 => ?_
        · have := cw_ne (b := b) (r := rb) (r' := ri) (k := k) (k' := 0) (by omega) (by omega) (fun w2 => hbi w2.1.symm); unfold cw at *; omega
        · have := cw_ne (b := b) (r := rb) (r' := ri) (k := k) (k' := 0) (by omega) (by omega) (fun w2 => hbi w2.1.symm); unfold cw at *; omega
        have hfr2 : rmO b ri D D2 := fun c i c1 c2 => by rw [j1 c i c1 c2]; exact hfr c i c1 c2
        have hbd2 : ∀ k, k < n → (prs fc (n - 1) g db k).natAbs ≤ Hc * (2 * G) := fun k hk => prs_abs (by omega) (fun k hk => hbd k (by omega)) hG k (by omega)
        have hpr2 : prem (zp f (da + 1)) (zp g (db + 1)) (zp (prs fc (n - 1) g db) n) := by
          have := prem.step (f := fc) (d := n - 1) (e := db) (g := g) (by rwa [show n - 1 + 1 = n by omega]) (by omega) g0
          rwa [show n - 1 + 1 = n by omega] at this
        -- the tops that are 0 go
        have tops : ∀ (n2 : Nat), n2 ≤ n → (n2 = n ∨ ∀ k, k < 1 → True) → prem (zp f (da + 1)) (zp g (db + 1)) (zp (prs fc (n - 1) g db) n2) → Wp P_X8_remainder E 5 [some (aR b), none, none, some (aR (b + 2 + rb)), some (aI db), some (aR (b + 2 + ri)), some (aI ((n2 : Int) - 1))] [] B S D2 := by
          intro n2
          induction n2 with
          | zero =>
            intro _ _ hp2
            refine wp_in ?_
            simp only [P_X8_remainder, i_kil, i_icon, i_lcon, i_null, i_loadI, i_loadL, i_loadR, i_istore, i_lstore, i_astore, i_iinc, i_dup, i_dup2, i_pop, i_iadd, i_isub, i_imul, i_idiv, i_irem, i_ineg, i_iand, i_ior, i_ishl, i_ishr, i_lxor, i_ladd, i_lsub, i_lmul, i_ldiv, i_lrem, i_lneg, i_lshl, i_lcmp, i_i2l, i_l2i, i_i2b, i_i2s, i_ifeq, i_ifne, i_iflt, i_ifge, i_ifgt, i_ifle, i_cmpeq, i_cmpne, i_cmplt, i_cmpge, i_cmpgt, i_cmple, i_acmpeq, i_acmpne, i_ifnull, i_ifnonnull, i_getI, i_getR, i_putI, i_putZ, i_putR, i_ald, i_ldL, i_ldR, i_ast, i_stL, i_stR, i_alen, i_new, i_newa, i_iret, i_zret, i_lret, i_aret, i_vret, i_raise, i_throw, i_recv, i_objinit, i_tsw3, lget, lset, lput1, lput2, lkil, ltrim, largs, isL, takev, dropv, nthv, pushO, catv, gd, true_and, and_true, Option.some.injEq, Prod.mk.injEq, exists_eq_left', if_true, if_false, reduceCtorEq, Bool.false_eq_true, lcmp_ge, lcmp_lt, lcmp_le, lcmp_gt, lcmp_eq, true_or, or_true, not_true_eq_false, not_false_eq_true, false_implies, true_implies, List.length_cons, List.length_nil]
            refine ⟨fun _ => ?_, fun w => absurd w (by decide)⟩
            refine wp_in ?_
            simp only [P_X8_remainder, i_kil, i_icon, i_lcon, i_null, i_loadI, i_loadL, i_loadR, i_istore, i_lstore, i_astore, i_iinc, i_dup, i_dup2, i_pop, i_iadd, i_isub, i_imul, i_idiv, i_irem, i_ineg, i_iand, i_ior, i_ishl, i_ishr, i_lxor, i_ladd, i_lsub, i_lmul, i_ldiv, i_lrem, i_lneg, i_lshl, i_lcmp, i_i2l, i_l2i, i_i2b, i_i2s, i_ifeq, i_ifne, i_iflt, i_ifge, i_ifgt, i_ifle, i_cmpeq, i_cmpne, i_cmplt, i_cmpge, i_cmpgt, i_cmple, i_acmpeq, i_acmpne, i_ifnull, i_ifnonnull, i_getI, i_getR, i_putI, i_putZ, i_putR, i_ald, i_ldL, i_ldR, i_ast, i_stL, i_stR, i_alen, i_new, i_newa, i_iret, i_zret, i_lret, i_aret, i_vret, i_raise, i_throw, i_recv, i_objinit, i_tsw3, lget, lset, lput1, lput2, lkil, ltrim, largs, isL, takev, dropv, nthv, pushO, catv, gd, true_and, and_true, Option.some.injEq, Prod.mk.injEq, exists_eq_left', if_true, if_false, reduceCtorEq, Bool.false_eq_true, lcmp_ge, lcmp_lt, lcmp_le, lcmp_gt, lcmp_eq, true_or, or_true, not_true_eq_false, not_false_eq_true, false_implies, true_implies, List.length_cons, List.length_nil]
            refine ⟨fun w => absurd w (by decide), fun _ => ?_⟩
            have := K D2 0 (prs fc (n - 1) g db) hfr2 (by omega) (fun k hk => by omega) (fun w => by omega) hp2 (fun k hk => by omega)
            rwa [if_pos rfl] at this
          | succ n2 ih2 =>
            intro hle _ hp2
            obtain ⟨t1, t2⟩ := s6 ri n2 hi (by omega)
            have t3 := t2.1
            have hw := j2 n2 (by omega)
            have hsg := hw.sg
            have e2 : ((n2 + 1 : Nat) : Int) - 1 = (n2 : Int) := by omega
            rw [e2]
            refine wp_in ?_
            simp only [P_X8_remainder, i_kil, i_icon, i_lcon, i_null, i_loadI, i_loadL, i_loadR, i_istore, i_lstore, i_astore, i_iinc, i_dup, i_dup2, i_pop, i_iadd, i_isub, i_imul, i_idiv, i_irem, i_ineg, i_iand, i_ior, i_ishl, i_ishr, i_lxor, i_ladd, i_lsub, i_lmul, i_ldiv, i_lrem, i_lneg, i_lshl, i_lcmp, i_i2l, i_l2i, i_i2b, i_i2s, i_ifeq, i_ifne, i_iflt, i_ifge, i_ifgt, i_ifle, i_cmpeq, i_cmpne, i_cmplt, i_cmpge, i_cmpgt, i_cmple, i_acmpeq, i_acmpne, i_ifnull, i_ifnonnull, i_getI, i_getR, i_putI, i_putZ, i_putR, i_ald, i_ldL, i_ldR, i_ast, i_stL, i_stR, i_alen, i_new, i_newa, i_iret, i_zret, i_lret, i_aret, i_vret, i_raise, i_throw, i_recv, i_objinit, i_tsw3, lget, lset, lput1, lput2, lkil, ltrim, largs, isL, takev, dropv, nthv, pushO, catv, gd, true_and, and_true, Option.some.injEq, Prod.mk.injEq, exists_eq_left', if_true, if_false, reduceCtorEq, Bool.false_eq_true, lcmp_ge, lcmp_lt, lcmp_le, lcmp_gt, lcmp_eq, true_or, or_true, not_true_eq_false, not_false_eq_true, false_implies, true_implies, List.length_cons, List.length_nil, s5i, t1, t3, hsg]
            refine ⟨fun w => by omega, fun _ => ?_⟩
            refine ⟨by omega, by omega, fun w => ?_, fun w => ?_⟩
            · have hnz : prs fc (n - 1) g db n2 ≠ 0 := fun q => w (sign_nz.mpr q)
              refine wp_in ?_
              simp only [P_X8_remainder, i_kil, i_icon, i_lcon, i_null, i_loadI, i_loadL, i_loadR, i_istore, i_lstore, i_astore, i_iinc, i_dup, i_dup2, i_pop, i_iadd, i_isub, i_imul, i_idiv, i_irem, i_ineg, i_iand, i_ior, i_ishl, i_ishr, i_lxor, i_ladd, i_lsub, i_lmul, i_ldiv, i_lrem, i_lneg, i_lshl, i_lcmp, i_i2l, i_l2i, i_i2b, i_i2s, i_ifeq, i_ifne, i_iflt, i_ifge, i_ifgt, i_ifle, i_cmpeq, i_cmpne, i_cmplt, i_cmpge, i_cmpgt, i_cmple, i_acmpeq, i_acmpne, i_ifnull, i_ifnonnull, i_getI, i_getR, i_putI, i_putZ, i_putR, i_ald, i_ldL, i_ldR, i_ast, i_stL, i_stR, i_alen, i_new, i_newa, i_iret, i_zret, i_lret, i_aret, i_vret, i_raise, i_throw, i_recv, i_objinit, i_tsw3, lget, lset, lput1, lput2, lkil, ltrim, largs, isL, takev, dropv, nthv, pushO, catv, gd, true_and, and_true, Option.some.injEq, Prod.mk.injEq, exists_eq_left', if_true, if_false, reduceCtorEq, Bool.false_eq_true, lcmp_ge, lcmp_lt, lcmp_le, lcmp_gt, lcmp_eq, true_or, or_true, not_true_eq_false, not_false_eq_true, false_implies, true_implies, List.length_cons, List.length_nil]
              refine ⟨fun _ => ?_, fun w2 => by omega⟩
              have hlt : n2 + 1 < n := by
                rcases Nat.lt_or_ge (n2 + 1) n with q | q
                · exact q
                · exfalso
                  have e3 : n2 = n - 1 := by omega
                  rw [e3] at hnz
                  exact hnz (prs_top (by omega))
              have := ih (n2 + 1) (prs fc (n - 1) g db) (Hc * (2 * G)) D2 (by omega) (by omega) (by omega) hfr2 (fun k hk => j2 k (by omega)) (by rw [Nat.add_sub_cancel]; exact hnz) (fun k hk => hbd2 k (by omega)) ?_ hp2
              · rwa [e2] at this
              · have h5 : (2 * G) * (2 * G) ^ (n2 + 1 - db) ≤ (2 * G) ^ (n - db) := by
                  rw [Nat.mul_comm, ← Nat.pow_succ]
                  exact Nat.pow_le_pow_right (by omega) (by omega)
                rw [Nat.mul_assoc]
                exact Nat.le_trans (Nat.mul_le_mul_left _ h5) hpw
            · have hz : prs fc (n - 1) g db n2 = 0 := sign_nz.mp w
              refine ⟨in_small (by omega) (by omega), ?_⟩
              exact ih2 (by omega) (.inr fun _ _ => trivial) (hp2.congr fun x => (zp_drop hz x).symm)
        have := tops n (Nat.le_refl _) (.inl rfl) hpr2
        rwa [ed] at this
  have copy : ∀ (L j : Nat) (D1 : Dat), j + L = da + 1 → rmO b ri D D1 → (∀ k, k < j → wD 1 2 D1 (cw b ri k) (f k)) → Wp P_X8_remainder E 1 [some (aR b), some (aR (b + 2 + ra)), some (aI da), some (aR (b + 2 + rb)), some (aI db), some (aR (b + 2 + ri)), some (aI j)] [] B S D1 := by
    intro L
    induction L with
    | zero =>
      intro j D1 hj hfr hdone
      refine wp_in ?_
      simp only [P_X8_remainder, i_kil, i_icon, i_lcon, i_null, i_loadI, i_loadL, i_loadR, i_istore, i_lstore, i_astore, i_iinc, i_dup, i_dup2, i_pop, i_iadd, i_isub, i_imul, i_idiv, i_irem, i_ineg, i_iand, i_ior, i_ishl, i_ishr, i_lxor, i_ladd, i_lsub, i_lmul, i_ldiv, i_lrem, i_lneg, i_lshl, i_lcmp, i_i2l, i_l2i, i_i2b, i_i2s, i_ifeq, i_ifne, i_iflt, i_ifge, i_ifgt, i_ifle, i_cmpeq, i_cmpne, i_cmplt, i_cmpge, i_cmpgt, i_cmple, i_acmpeq, i_acmpne, i_ifnull, i_ifnonnull, i_getI, i_getR, i_putI, i_putZ, i_putR, i_ald, i_ldL, i_ldR, i_ast, i_stL, i_stR, i_alen, i_new, i_newa, i_iret, i_zret, i_lret, i_aret, i_vret, i_raise, i_throw, i_recv, i_objinit, i_tsw3, lget, lset, lput1, lput2, lkil, ltrim, largs, isL, takev, dropv, nthv, pushO, catv, gd, true_and, and_true, Option.some.injEq, Prod.mk.injEq, exists_eq_left', if_true, if_false, reduceCtorEq, Bool.false_eq_true, lcmp_ge, lcmp_lt, lcmp_le, lcmp_gt, lcmp_eq, true_or, or_true, not_true_eq_false, not_false_eq_true, false_implies, true_implies, List.length_cons, List.length_nil]
      refine ⟨fun _ => ?_, fun w => by omega⟩
      have := outer (da + 1) (da + 1) f H D1 (Nat.le_refl _) (by omega) (Nat.le_refl _) hfr (fun k hk => hdone k (by omega)) (by rw [Nat.add_sub_cancel]; exact f0) (fun k hk => hH k (by omega)) (by omega) (prem.refl _ _)
      rwa [show ((da + 1 : Nat) : Int) - 1 = da by omega] at this
    | succ L ih =>
      intro j D1 hj hfr hdone
      obtain ⟨t1, t2⟩ := s6 ri j hi (by omega)
      obtain ⟨u1, u2⟩ := s6 ra j ha (by omega)
      have t3 := t2.1
      have nb := cw_ne (b := b) (r := ra) (r' := ri) (k := j) (k' := j) (by omega) (by omega) (fun w2 => hai w2.1.symm)
      have hfj : wD 1 2 D1 (cw b ra j) (f j) := by
        refine (hf j (by omega)).congr (fun i => hfr _ i ?_ (by unfold cw; omega)) fun i => hfr _ i ?_ (by unfold cw; omega)
        · have := cw_ne (b := b) (r := ra) (r' := ri) (k := j) (k' := 0) (by omega) (by omega) (fun w2 => hai w2.1.symm); unfold cw at *; omega
        · have := cw_ne (b := b) (r := ra) (r' := ri) (k := j) (k' := 0) (by omega) (by omega) (fun w2 => hai w2.1.symm); unfold cw at *; omega
      have lf : ((f j).natAbs : Int) < 1000000000 ^ 160 := Int.lt_of_lt_of_le (nat_pw (Nat.le_trans (hH j (by omega)) hH0) hsz) (pw_mono p160)
      refine wp_in ?_
      simp only [P_X8_remainder, i_kil, i_icon, i_lcon, i_null, i_loadI, i_loadL, i_loadR, i_istore, i_lstore, i_astore, i_iinc, i_dup, i_dup2, i_pop, i_iadd, i_isub, i_imul, i_idiv, i_irem, i_ineg, i_iand, i_ior, i_ishl, i_ishr, i_lxor, i_ladd, i_lsub, i_lmul, i_ldiv, i_lrem, i_lneg, i_lshl, i_lcmp, i_i2l, i_l2i, i_i2b, i_i2s, i_ifeq, i_ifne, i_iflt, i_ifge, i_ifgt, i_ifle, i_cmpeq, i_cmpne, i_cmplt, i_cmpge, i_cmpgt, i_cmple, i_acmpeq, i_acmpne, i_ifnull, i_ifnonnull, i_getI, i_getR, i_putI, i_putZ, i_putR, i_ald, i_ldL, i_ldR, i_ast, i_stL, i_stR, i_alen, i_new, i_newa, i_iret, i_zret, i_lret, i_aret, i_vret, i_raise, i_throw, i_recv, i_objinit, i_tsw3, lget, lset, lput1, lput2, lkil, ltrim, largs, isL, takev, dropv, nthv, pushO, catv, gd, true_and, and_true, Option.some.injEq, Prod.mk.injEq, exists_eq_left', if_true, if_false, reduceCtorEq, Bool.false_eq_true, lcmp_ge, lcmp_lt, lcmp_le, lcmp_gt, lcmp_eq, true_or, or_true, not_true_eq_false, not_false_eq_true, false_implies, true_implies, List.length_cons, List.length_nil, s5i, s5a, t1, u1]
      repeat (first | refine ⟨in_small (by omega) (by omega), ?_⟩ | (show (_ → _) ∧ (_ → _); first | refine ⟨by omega, fun _ => ?_⟩ | refine ⟨fun _ => ?_, by omega⟩) | refine ⟨by omega, ?_⟩ | refine ⟨⟨_, rfl, by assumption⟩, ?_⟩ | refine ⟨okT_I _, ?_⟩ | refine ⟨okT_S (by omega) (by omega), ?_⟩ | refine ⟨okT_B (by omega) (by omega), ?_⟩ | refine call0 (gd_of rfl) ?_)
      refine sp_X3_be t2 u2 (by omega) hfj lf lf (by decide) fun D2 g1 g2 => ?_
      simp only [P_X8_remainder, i_kil, i_icon, i_lcon, i_null, i_loadI, i_loadL, i_loadR, i_istore, i_lstore, i_astore, i_iinc, i_dup, i_dup2, i_pop, i_iadd, i_isub, i_imul, i_idiv, i_irem, i_ineg, i_iand, i_ior, i_ishl, i_ishr, i_lxor, i_ladd, i_lsub, i_lmul, i_ldiv, i_lrem, i_lneg, i_lshl, i_lcmp, i_i2l, i_l2i, i_i2b, i_i2s, i_ifeq, i_ifne, i_iflt, i_ifge, i_ifgt, i_ifle, i_cmpeq, i_cmpne, i_cmplt, i_cmpge, i_cmpgt, i_cmple, i_acmpeq, i_acmpne, i_ifnull, i_ifnonnull, i_getI, i_getR, i_putI, i_putZ, i_putR, i_ald, i_ldL, i_ldR, i_ast, i_stL, i_stR, i_alen, i_new, i_newa, i_iret, i_zret, i_lret, i_aret, i_vret, i_raise, i_throw, i_recv, i_objinit, i_tsw3, lget, lset, lput1, lput2, lkil, ltrim, largs, isL, takev, dropv, nthv, pushO, catv, gd, true_and, and_true, Option.some.injEq, Prod.mk.injEq, exists_eq_left', if_true, if_false, reduceCtorEq, Bool.false_eq_true, lcmp_ge, lcmp_lt, lcmp_le, lcmp_gt, lcmp_eq, true_or, or_true, not_true_eq_false, not_false_eq_true, false_implies, true_implies, List.length_cons, List.length_nil]
      repeat (first | refine ⟨in_small (by omega) (by omega), ?_⟩ | (show (_ → _) ∧ (_ → _); first | refine ⟨by omega, fun _ => ?_⟩ | refine ⟨fun _ => ?_, by omega⟩) | refine ⟨by omega, ?_⟩ | refine ⟨⟨_, rfl, by assumption⟩, ?_⟩ | refine ⟨okT_I _, ?_⟩ | refine ⟨okT_S (by omega) (by omega), ?_⟩ | refine ⟨okT_B (by omega) (by omega), ?_⟩ | refine call0 (gd_of rfl) ?_)
      refine ih (j + 1) D2 (by omega) (fun c i c1 c2 => ?_) fun k hk => ?_
      · rw [g1 c i (by unfold cw at *; omega) (by unfold cw at *; omega)]; exact hfr c i c1 c2
      · by_cases w : k = j
        · rw [w]; exact g2
        · have := cw_ne (b := b) (r := ri) (r' := ri) (k := k) (k' := j) (by omega) (by omega) (fun w2 => w w2.2)
          exact (hdone k (by omega)).congr (fun i => g1 _ i (by omega) (by omega)) fun i => g1 _ i (by omega) (by omega)
  refine wp_in ?_
  simp only [P_X8_remainder, i_kil, i_icon, i_lcon, i_null, i_loadI, i_loadL, i_loadR, i_istore, i_lstore, i_astore, i_iinc, i_dup, i_dup2, i_pop, i_iadd, i_isub, i_imul, i_idiv, i_irem, i_ineg, i_iand, i_ior, i_ishl, i_ishr, i_lxor, i_ladd, i_lsub, i_lmul, i_ldiv, i_lrem, i_lneg, i_lshl, i_lcmp, i_i2l, i_l2i, i_i2b, i_i2s, i_ifeq, i_ifne, i_iflt, i_ifge, i_ifgt, i_ifle, i_cmpeq, i_cmpne, i_cmplt, i_cmpge, i_cmpgt, i_cmple, i_acmpeq, i_acmpne, i_ifnull, i_ifnonnull, i_getI, i_getR, i_putI, i_putZ, i_putR, i_ald, i_ldL, i_ldR, i_ast, i_stL, i_stR, i_alen, i_new, i_newa, i_iret, i_zret, i_lret, i_aret, i_vret, i_raise, i_throw, i_recv, i_objinit, i_tsw3, lget, lset, lput1, lput2, lkil, ltrim, largs, isL, takev, dropv, nthv, pushO, catv, gd, true_and, and_true, Option.some.injEq, Prod.mk.injEq, exists_eq_left', if_true, if_false, reduceCtorEq, Bool.false_eq_true, lcmp_ge, lcmp_lt, lcmp_le, lcmp_gt, lcmp_eq, true_or, or_true, not_true_eq_false, not_false_eq_true, false_implies, true_implies, List.length_cons, List.length_nil]
  exact copy (da + 1) 0 D (by omega) (fun _ _ _ _ => rfl) fun k hk => by omega
end REM2
