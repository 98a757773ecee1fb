/-! chains of the component: goOn, run -/
-- needs: d1.chrem
set_option maxRecDepth 100000
set_option linter.unusedVariables false
theorem brow_zp {f : Nat → Int} {d : Nat} (x : Rat) : (((gcn f (d + 1) : Nat) : Int) : Rat) * zp (brow f d) (d + 1) x = zp f (d + 1) x := by
  rw [← zp_smul]
  exact zp_congr (fun k hk => brow_mul (by omega)) x
theorem brow_prim {f : Nat → Int} {d : Nat} (h : f d ≠ 0) : zprim (brow f d) (d + 1) := fun r hr => Classical.byContradiction fun w => by
  have hg := gcn_pos (d + 1) d (by omega) h
  have h1 : ∀ k, k < d + 1 → (r : Int) ∣ brow f d k := fun k hk => Classical.byContradiction fun q => w ⟨k, hk, q⟩
  have h2 : ((gcn f (d + 1) * r : Nat) : Int) ∣ (gcn f (d + 1) : Nat) := gcn_prim (d + 1) _ fun k hk => by
    rw [← brow_mul (f := f) (d := d) (k := k) (by omega), Int.natCast_mul]
    exact Int.mul_dvd_mul_left _ (h1 k hk)
  have h3 := Nat.le_of_dvd hg (Int.ofNat_dvd.mp h2)
  have h4 : gcn f (d + 1) * 2 ≤ gcn f (d + 1) * r := Nat.mul_le_mul_left _ hr
  omega
theorem brow_top {f : Nat → Int} {d : Nat} (h : f d ≠ 0) : brow f d d ≠ 0 := fun w => h (by rw [← brow_mul (f := f) (d := d) (Nat.le_refl d), w, Int.mul_zero])
theorem brow_abs {f : Nat → Int} {d k : Nat} (hk : k ≤ d) (h : f d ≠ 0) : (brow f d k).natAbs ≤ (f k).natAbs := by
  have hg := gcn_pos (d + 1) d (by omega) h
  have h1 := brow_mul (f := f) (d := d) hk
  rw [← h1, Int.natAbs_mul, Int.natAbs_natCast]
  exact Nat.le_mul_of_pos_left _ hg
/-- the rows of a chain -/
def chD (D : Dat) (b : Nat) (F : Nat → Nat → Int) (n : Nat → Nat) (m : Nat) : Prop := D b 8 = m ∧ ∀ r : Nat, r < m → D (b + 12) r = n r ∧ n r < 9 ∧ F r (n r) ≠ 0 ∧ ∀ k, k ≤ n r → wD 1 2 D (cw b r k) (F r k)
def chF (b o : Nat) (D D' : Dat) : Prop := ∀ c i, (c < b ∨ b + 219 < c) → (c ≤ o ∨ o + 10 < c) → D' c i = D c i
theorem chD.congr {D D' : Dat} {b m : Nat} {F : Nat → Nat → Int} {n : Nat → Nat} (h : chD D b F n m) (hm : m ≤ 10) (e : ∀ c i, b ≤ c → c ≤ b + 219 → D' c i = D c i) : chD D' b F n m := by
  refine ⟨by rw [e _ _ (by omega) (by omega)]; exact h.1, fun r hr => ?_⟩
  obtain ⟨h1, h2, h3, h4⟩ := h.2 r hr
  refine ⟨by rw [e _ _ (by omega) (by omega)]; exact h1, h2, h3, fun k hk => (h4 k hk).congr (fun i => e _ i (by unfold cw; omega) (by unfold cw; omega)) fun i => e _ i (by unfold cw; omega) (by unfold cw; omega)⟩
def zF (F : Nat → Nat → Int) (n : Nat → Nat) : Nat → pf := fun i => zp (F i) (n i + 1)
/-- the numbers of the next division stay small -/
def chZ (F : Nat → Nat → Int) (n : Nat → Nat) (m : Nat) : Prop := ∃ p q H G : Nat, p + q ≤ 160 ∧ (∀ k, k ≤ n (m - 2) → (F (m - 2) k).natAbs ≤ H) ∧ (∀ k, k ≤ n (m - 1) → (F (m - 1) k).natAbs ≤ G) ∧ (G : Int) < 1000000000 ^ q ∧ ((H * (2 * G) ^ (n (m - 2) + 1 - n (m - 1)) : Nat) : Int) < 1000000000 ^ p
/-- .. along all rows that begin with two -/
def chW (f0 f1 : Nat → Int) (n0 n1 : Nat) : Prop := ∀ (F : Nat → Nat → Int) (n : Nat → Nat) (m : Nat), 2 ≤ m → (∀ i, i < m → n i < 9 ∧ F i (n i) ≠ 0) → F 0 = f0 → F 1 = f1 → n 0 = n0 → n 1 = n1 → fch (zF F n) n m → (∀ i, 2 ≤ i → i < m → zprim (F i) (n i + 1)) → 0 < n (m - 1) → chZ F n m
/-- what goOn leaves -/
def chG (f0 f1 : Nat → Int) (n0 n1 : Nat) (F : Nat → Nat → Int) (n : Nat → Nat) (m : Nat) : Prop := 2 ≤ m ∧ m ≤ 10 ∧ F 0 = f0 ∧ F 1 = f1 ∧ n 0 = n0 ∧ n 1 = n1 ∧ fch (zF F n) n m ∧ fend (zF F n) m ∧ ∀ i, 2 ≤ i → i < m → zprim (F i) (n i + 1)
section GO
variable {b o : Nat}
def rup {α : Type} (F : Nat → α) (m : Nat) (v : α) : Nat → α := fun i => if i = m then v else F i
set_option maxHeartbeats 4000000 in
theorem go_loop {E : Ex} {B : Nat × Nat} {S : Stat} {D : Dat} {f0 f1 : Nat → Int} {n0 n1 : Nat} (hS : chS S b o) (hn1 : n1 < 9) (hW : chW f0 f1 n0 n1)
    (K : ∀ (D' : Dat) (F : Nat → Nat → Int) (n : Nat → Nat) (m : Nat), chF b o D D' → chD D' b F n m → chG f0 f1 n0 n1 F n m → E (.inl none) B S D') :
    ∀ (N : Nat) (F : Nat → Nat → Int) (n : Nat → Nat) (m : Nat) (D1 : Dat), n (m - 1) ≤ N → chF b o D D1 → chD D1 b F n m → 2 ≤ m → n (m - 1) + m ≤ n1 + 2 → F 0 = f0 → F 1 = f1 → n 0 = n0 → n 1 = n1 → fch (zF F n) n m → (∀ i, 2 ≤ i → i < m → zprim (F i) (n i + 1)) → Wp P_X8_goOn E 1 [some (aR b)] [] B S D1 := by
  have hS0 := hS
  obtain ⟨ho, s1, s2, s3, s4, s5, s6, s7, s8, s9, s10, s11, s12, s13, s14, s15, s16, s17, s18, s19, s20⟩ := hS
  intro N
  induction N with
  | zero =>
    intro F n m D1 hN hfr hD hm hmn e0 e1 en0 en1 hc hp
    obtain ⟨d1, -, -, -⟩ := hD.2 (m - 1) (by omega)
    have em : (m : Int) - 1 = ((m - 1 : Nat) : Int) := by omega
    have d8 := hD.1
    have hz : n (m - 1) = 0 := by omega
    rw [hz] at d1
    refine wp_in ?_
    simp only [P_X8_goOn, i_kil, i_icon, i_lcon, i_null, i_loadI, i_loadL, i_loadR, i_istore, i_lstore, i_astore, i_iinc, i_dup, i_dup2, i_pop, i_iadd, i_isub, i_imul, i_idiv, i_irem, i_ineg, i_iand, i_ior, i_ishl, i_ishr, i_lxor, i_ladd, i_lsub, i_lmul, i_ldiv, i_lrem, i_lneg, i_lshl, i_lcmp, i_i2l, i_l2i, i_i2b, i_i2s, i_ifeq, i_ifne, i_iflt, i_ifge, i_ifgt, i_ifle, i_cmpeq, i_cmpne, i_cmplt, i_cmpge, i_cmpgt, i_cmple, i_acmpeq, i_acmpne, i_ifnull, i_ifnonnull, i_getI, i_getR, i_putI, i_putZ, i_putR, i_ald, i_ldL, i_ldR, i_ast, i_stL, i_stR, i_alen, i_new, i_newa, i_iret, i_zret, i_lret, i_aret, i_vret, i_raise, i_throw, i_recv, i_objinit, i_tsw3, lget, lset, lput1, lput2, lkil, ltrim, largs, isL, takev, dropv, nthv, pushO, catv, gd, true_and, and_true, Option.some.injEq, Prod.mk.injEq, exists_eq_left', if_true, if_false, reduceCtorEq, Bool.false_eq_true, lcmp_ge, lcmp_lt, lcmp_le, lcmp_gt, lcmp_eq, true_or, or_true, not_true_eq_false, not_false_eq_true, false_implies, true_implies, List.length_cons, List.length_nil, s1, s3, s4, s7, s8, d8, em, d1]
    repeat (first | refine ⟨in_small (by omega) (by omega), ?_⟩ | (show (_ → _) ∧ (_ → _); first | refine ⟨by omega, fun _ => ?_⟩ | refine ⟨fun _ => ?_, by omega⟩) | refine ⟨by omega, ?_⟩ | refine ⟨⟨_, rfl, by assumption⟩, ?_⟩ | refine ⟨okT_I _, ?_⟩ | refine ⟨okT_S (by omega) (by omega), ?_⟩ | refine ⟨okT_B (by omega) (by omega), ?_⟩ | refine call0 (gd_of rfl) ?_)
    refine K D1 F n m hfr hD ⟨hm, by omega, e0, e1, en0, en1, hc, fun _ => ?_, hp⟩
    -- a number divides all
    obtain ⟨c, c0, hcx⟩ := EX.const (by have := hc.1 (m - 1) (by omega); rwa [hz] at this)
    refine ⟨1, by decide, fun x => c⁻¹ * zF F n (m - 2) x, PP.smul ⟨_, (hc.1 (m - 2) (by omega)).pf⟩ _, fun x => ?_⟩
    rw [hcx]
    have := Rat.inv_mul_cancel c c0
    grind
  | succ N ih =>
    intro F n m D1 hN hfr hD hm hmn e0 e1 en0 en1 hc hp
    have d8 := hD.1
    by_cases hz : n (m - 1) ≤ N
    · exact ih F n m D1 hz hfr hD hm hmn e0 e1 en0 en1 hc hp
    have hall : ∀ i, i < m → n i < 9 ∧ F i (n i) ≠ 0 := fun i hi => ⟨(hD.2 i hi).2.1, (hD.2 i hi).2.2.1⟩
    obtain ⟨p, q, H, G, hpq, hH, hG, hGq, hsz⟩ := hW F n m hm hall e0 e1 en0 en1 hc hp (by omega)
    obtain ⟨a1, a2, a3, a4⟩ := hD.2 (m - 1) (by omega)
    obtain ⟨b1, b2, b3, b4⟩ := hD.2 (m - 2) (by omega)
    have em1 : (m : Int) - 1 = ((m - 1 : Nat) : Int) := by omega
    have em2 : (m : Int) - 2 = ((m - 2 : Nat) : Int) := by omega
    obtain ⟨r1, r2⟩ := s5 (m - 1) (by omega)
    obtain ⟨r3, r4⟩ := s5 (m - 2) (by omega)
    obtain ⟨r5, r6⟩ := s5 m (by omega)
    have hm10 : m < 10 := by omega
    refine wp_in ?_
    simp only [P_X8_goOn, i_kil, i_icon, i_lcon, i_null, i_loadI, i_loadL, i_loadR, i_istore, i_lstore, i_astore, i_iinc, i_dup, i_dup2, i_pop, i_iadd, i_isub, i_imul, i_idiv, i_irem, i_ineg, i_iand, i_ior, i_ishl, i_ishr, i_lxor, i_ladd, i_lsub, i_lmul, i_ldiv, i_lrem, i_lneg, i_lshl, i_lcmp, i_i2l, i_l2i, i_i2b, i_i2s, i_ifeq, i_ifne, i_iflt, i_ifge, i_ifgt, i_ifle, i_cmpeq, i_cmpne, i_cmplt, i_cmpge, i_cmpgt, i_cmple, i_acmpeq, i_acmpne, i_ifnull, i_ifnonnull, i_getI, i_getR, i_putI, i_putZ, i_putR, i_ald, i_ldL, i_ldR, i_ast, i_stL, i_stR, i_alen, i_new, i_newa, i_iret, i_zret, i_lret, i_aret, i_vret, i_raise, i_throw, i_recv, i_objinit, i_tsw3, lget, lset, lput1, lput2, lkil, ltrim, largs, isL, takev, dropv, nthv, pushO, catv, gd, true_and, and_true, Option.some.injEq, Prod.mk.injEq, exists_eq_left', if_true, if_false, reduceCtorEq, Bool.false_eq_true, lcmp_ge, lcmp_lt, lcmp_le, lcmp_gt, lcmp_eq, true_or, or_true, not_true_eq_false, not_false_eq_true, false_implies, true_implies, List.length_cons, List.length_nil, s1, s3, s4, s7, s8, d8, em1, em2, a1, b1, r1, r3, r5]
    repeat (first | refine ⟨in_small (by omega) (by omega), ?_⟩ | (show (_ → _) ∧ (_ → _); first | refine ⟨by omega, fun _ => ?_⟩ | refine ⟨fun _ => ?_, by omega⟩) | refine ⟨by omega, ?_⟩ | refine ⟨⟨_, rfl, by assumption⟩, ?_⟩ | refine ⟨okT_I _, ?_⟩ | refine ⟨okT_S (by omega) (by omega), ?_⟩ | refine ⟨okT_B (by omega) (by omega), ?_⟩ | refine call0 (gd_of rfl) ?_)
    refine sp_X8_remainder (ra := m - 2) (rb := m - 1) (ri := m) (p := p) (q := q) (H := H) (G := G) hS0 (by omega) (by omega) hm10 (by omega) (by omega) b2 a2 b4 a4 b3 a3 hH hG hGq hsz hpq fun D2 nn R g1 g2 g3 g4 g5 g6 => ?_
    have keep : ∀ D3 : Dat, (∀ c i, (c < cw b m 0 ∨ cw b m 8 + 1 < c) → (c < b + 14 ∨ b + 21 < c) → (c ≤ o ∨ o + 10 < c) → c ≠ b + 12 → c ≠ b → D3 c i = D1 c i) → ∀ r : Nat, r < m → ∀ k, k ≤ n r → wD 1 2 D3 (cw b r k) (F r k) := fun D3 h r hr k hk => by
      obtain ⟨x1, x2, x3, x4⟩ := hD.2 r hr
      have q1 := cw_ne (b := b) (r := r) (r' := m) (k := k) (k' := 0) (by omega) (by omega) (fun w => by omega)
      refine (x4 k hk).congr (fun i => h _ i (by unfold cw at *; omega) (by unfold cw; omega) (by unfold cw; omega) (by unfold cw; omega) (by unfold cw; omega)) fun i => h _ i (by unfold cw at *; omega) (by unfold cw; omega) (by unfold cw; omega) (by unfold cw; omega) (by unfold cw; omega)
    rcases Nat.eq_zero_or_pos nn with hnn | hnn
    · subst hnn
      rw [if_pos rfl]
      simp only [P_X8_goOn, i_kil, i_icon, i_lcon, i_null, i_loadI, i_loadL, i_loadR, i_istore, i_lstore, i_astore, i_iinc, i_dup, i_dup2, i_pop, i_iadd, i_isub, i_imul, i_idiv, i_irem, i_ineg, i_iand, i_ior, i_ishl, i_ishr, i_lxor, i_ladd, i_lsub, i_lmul, i_ldiv, i_lrem, i_lneg, i_lshl, i_lcmp, i_i2l, i_l2i, i_i2b, i_i2s, i_ifeq, i_ifne, i_iflt, i_ifge, i_ifgt, i_ifle, i_cmpeq, i_cmpne, i_cmplt, i_cmpge, i_cmpgt, i_cmple, i_acmpeq, i_acmpne, i_ifnull, i_ifnonnull, i_getI, i_getR, i_putI, i_putZ, i_putR, i_ald, i_ldL, i_ldR, i_ast, i_stL, i_stR, i_alen, i_new, i_newa, i_iret, i_zret, i_lret, i_aret, i_vret, i_raise, i_throw, i_recv, i_objinit, i_tsw3, lget, lset, lput1, lput2, lkil, ltrim, largs, isL, takev, dropv, nthv, pushO, catv, gd, true_and, and_true, Option.some.injEq, Prod.mk.injEq, exists_eq_left', if_true, if_false, reduceCtorEq, Bool.false_eq_true, lcmp_ge, lcmp_lt, lcmp_le, lcmp_gt, lcmp_eq, true_or, or_true, not_true_eq_false, not_false_eq_true, false_implies, true_implies, List.length_cons, List.length_nil]
      refine K D2 F n m (fun c i c1 c2 => ?_) ⟨?_, fun r hr => ⟨?_, (hD.2 r hr).2.1, (hD.2 r hr).2.2.1, keep D2 (fun c i c1 c2 c3 c4 c5 => g1 c i c1 (by omega)) r hr⟩⟩ ⟨hm, by omega, e0, e1, en0, en1, hc, fun _ => ?_, hp⟩
      · rw [g1 c i (by unfold cw; omega) (by omega)]; exact hfr c i c1 c2
      · rw [g1 _ _ (by unfold cw; omega) (by omega)]; exact d8
      · rw [g1 _ _ (by unfold cw; omega) (by omega)]; exact (hD.2 r hr).1
      · exact g5.congr fun x => rfl
    · rw [if_neg (by omega)]
      have d8' : D2 b 8 = m := by rw [g1 _ _ (by unfold cw; omega) (by omega)]; exact d8
      have T : ∀ k, k < nn → ((R k).natAbs : Int) < 1000000000 ^ p := fun k hk => nat_pw (g6 k hk) hsz
      have en : (nn : Int) - 1 = ((nn - 1 : Nat) : Int) := by omega
      have neg : ∀ (L j : Nat) (D4 : Dat), j + L = nn → (∀ c i, (c < cw b m 0 ∨ cw b m 8 + 1 < c) → D4 c i = pmu D2 (b + 12) m ((nn : Int) - 1) c i) → (∀ k, k < j → wD 1 2 D4 (cw b m k) (- R k)) → (∀ k, j ≤ k → k < nn → wD 1 2 D4 (cw b m k) (R k)) → Wp P_X8_goOn E 2 [some (aR b), some (aI ((nn : Int) - 1)), some (aI j)] [] B S D4 := by
        intro L
        induction L with
        | zero =>
          intro j D4 hj hfr4 hdone hrest
          have d8'' : D4 b 8 = m := by
            rw [hfr4 _ _ (by unfold cw; omega)]
            simp only [pmu]; rw [if_neg (by omega)]; exact d8'
          have hR0 : - R (nn - 1) ≠ 0 := by have := g4 hnn; omega
          refine wp_in ?_
          simp only [P_X8_goOn, i_kil, i_icon, i_lcon, i_null, i_loadI, i_loadL, i_loadR, i_istore, i_lstore, i_astore, i_iinc, i_dup, i_dup2, i_pop, i_iadd, i_isub, i_imul, i_idiv, i_irem, i_ineg, i_iand, i_ior, i_ishl, i_ishr, i_lxor, i_ladd, i_lsub, i_lmul, i_ldiv, i_lrem, i_lneg, i_lshl, i_lcmp, i_i2l, i_l2i, i_i2b, i_i2s, i_ifeq, i_ifne, i_iflt, i_ifge, i_ifgt, i_ifle, i_cmpeq, i_cmpne, i_cmplt, i_cmpge, i_cmpgt, i_cmple, i_acmpeq, i_acmpne, i_ifnull, i_ifnonnull, i_getI, i_getR, i_putI, i_putZ, i_putR, i_ald, i_ldL, i_ldR, i_ast, i_stL, i_stR, i_alen, i_new, i_newa, i_iret, i_zret, i_lret, i_aret, i_vret, i_raise, i_throw, i_recv, i_objinit, i_tsw3, lget, lset, lput1, lput2, lkil, ltrim, largs, isL, takev, dropv, nthv, pushO, catv, gd, true_and, and_true, Option.some.injEq, Prod.mk.injEq, exists_eq_left', if_true, if_false, reduceCtorEq, Bool.false_eq_true, lcmp_ge, lcmp_lt, lcmp_le, lcmp_gt, lcmp_eq, true_or, or_true, not_true_eq_false, not_false_eq_true, false_implies, true_implies, List.length_cons, List.length_nil, s1, s3, s4, d8'', r5]
          repeat (first | refine ⟨in_small (by omega) (by omega), ?_⟩ | (show (_ → _) ∧ (_ → _); first | refine ⟨by omega, fun _ => ?_⟩ | refine ⟨fun _ => ?_, by omega⟩) | refine ⟨by omega, ?_⟩ | refine ⟨⟨_, rfl, by assumption⟩, ?_⟩ | refine ⟨okT_I _, ?_⟩ | refine ⟨okT_S (by omega) (by omega), ?_⟩ | refine ⟨okT_B (by omega) (by omega), ?_⟩ | refine call0 (gd_of rfl) ?_)
          rw [en]
          refine sp_X8_bare (p := p) (f := fun k => - R k) hS0 hm10 (by omega) (fun k hk => hdone k (by omega)) (fun k hk => by rw [Int.natAbs_neg]; exact T k (by omega)) (by omega) ⟨nn - 1, Nat.le_refl _, hR0⟩ fun D5 j1 j2 => ?_
          have d85 : D5 b 8 = m := by rw [j1 _ _ (by unfold cw; omega) (by omega) (by omega) (by omega)]; exact d8''
          simp only [P_X8_goOn, i_kil, i_icon, i_lcon, i_null, i_loadI, i_loadL, i_loadR, i_istore, i_lstore, i_astore, i_iinc, i_dup, i_dup2, i_pop, i_iadd, i_isub, i_imul, i_idiv, i_irem, i_ineg, i_iand, i_ior, i_ishl, i_ishr, i_lxor, i_ladd, i_lsub, i_lmul, i_ldiv, i_lrem, i_lneg, i_lshl, i_lcmp, i_i2l, i_l2i, i_i2b, i_i2s, i_ifeq, i_ifne, i_iflt, i_ifge, i_ifgt, i_ifle, i_cmpeq, i_cmpne, i_cmplt, i_cmpge, i_cmpgt, i_cmple, i_acmpeq, i_acmpne, i_ifnull, i_ifnonnull, i_getI, i_getR, i_putI, i_putZ, i_putR, i_ald, i_ldL, i_ldR, i_ast, i_stL, i_stR, i_alen, i_new, i_newa, i_iret, i_zret, i_lret, i_aret, i_vret, i_raise, i_throw, i_recv, i_objinit, i_tsw3, lget, lset, lput1, lput2, lkil, ltrim, largs, isL, takev, dropv, nthv, pushO, catv, gd, true_and, and_true, Option.some.injEq, Prod.mk.injEq, exists_eq_left', if_true, if_false, reduceCtorEq, Bool.false_eq_true, lcmp_ge, lcmp_lt, lcmp_le, lcmp_gt, lcmp_eq, true_or, or_true, not_true_eq_false, not_false_eq_true, false_implies, true_implies, List.length_cons, List.length_nil, s1, d85]
          repeat (first | refine ⟨in_small (by omega) (by omega), ?_⟩ | (show (_ → _) ∧ (_ → _); first | refine ⟨by omega, fun _ => ?_⟩ | refine ⟨fun _ => ?_, by omega⟩) | refine ⟨by omega, ?_⟩ | refine ⟨⟨_, rfl, by assumption⟩, ?_⟩ | refine ⟨okT_I _, ?_⟩ | refine ⟨okT_S (by omega) (by omega), ?_⟩ | refine ⟨okT_B (by omega) (by omega), ?_⟩ | refine call0 (gd_of rfl) ?_)
          have zr : ∀ i, i < m → zF (rup F m (brow (fun k => - R k) (nn - 1))) (rup n m (nn - 1)) i = zF F n i := fun i hi => by unfold zF rup; rw [if_neg (by omega), if_neg (by omega)]
          have nr : ∀ i, i < m → rup n m (nn - 1) i = n i := fun i hi => by unfold rup; rw [if_neg (by omega)]
          have nm : rup n m (nn - 1) m = nn - 1 := by unfold rup; rw [if_pos rfl]
          have Fr : ∀ i, i < m → rup F m (brow (fun k => - R k) (nn - 1)) i = F i := fun i hi => by unfold rup; rw [if_neg (by omega)]
          have Fm : rup F m (brow (fun k => - R k) (nn - 1)) m = brow (fun k => - R k) (nn - 1) := by unfold rup; rw [if_pos rfl]
          have zm : zF (rup F m (brow (fun k => - R k) (nn - 1))) (rup n m (nn - 1)) m = zp (brow (fun k => - R k) (nn - 1)) nn := by unfold zF; rw [nm, Fm, show nn - 1 + 1 = nn by omega]
          have key : ∀ c i, (c < cw b m 0 ∨ cw b m 8 + 1 < c) → (c < b + 14 ∨ b + 21 < c) → (c ≤ o ∨ o + 10 < c) → c ≠ b + 12 → c ≠ b → pmu D5 b 8 (((m + 1 : Nat) : Int)) c i = D1 c i := fun c i c1 c2 c3 c4 c5 => by
            simp only [pmu]
            rw [if_neg (by omega), j1 c i (by unfold cw at *; omega) (by omega) (by omega) c3, hfr4 c i c1]
            simp only [pmu]
            rw [if_neg (by omega)]
            exact g1 c i c1 (by omega)
          have keyd : ∀ i, i ≠ (m : Int) → pmu D5 b 8 (((m + 1 : Nat) : Int)) (b + 12) i = D1 (b + 12) i := fun i hi => by
            simp only [pmu]
            rw [if_neg (by omega), j1 _ i (by unfold cw; omega) (by omega) (by omega) (by omega), hfr4 _ i (by unfold cw; omega)]
            simp only [pmu]
            rw [if_neg (by omega)]
            exact g1 _ i (by unfold cw; omega) (by omega)
          have keym : pmu D5 b 8 (((m + 1 : Nat) : Int)) (b + 12) m = (nn : Int) - 1 := by
            simp only [pmu]
            rw [if_neg (by omega), j1 _ _ (by unfold cw; omega) (by omega) (by omega) (by omega), hfr4 _ _ (by unfold cw; omega)]
            simp only [pmu, and_self, if_true]
          refine ih (rup F m (brow (fun k => - R k) (nn - 1))) (rup n m (nn - 1)) (m + 1) _ (by rw [Nat.add_sub_cancel, nm]; omega) (fun c i c1 c2 => ?_) ⟨by simp only [pmu, and_self, if_true]; omega, fun r hr => ?_⟩ (by omega) (by rw [Nat.add_sub_cancel, nm]; omega) (by rw [Fr 0 (by omega)]; exact e0) (by rw [Fr 1 (by omega)]; exact e1) (by rw [nr 0 (by omega)]; exact en0) (by rw [nr 1 (by omega)]; exact en1) ⟨fun i hi => ?_, fun i h1 h2 => ?_⟩ fun i h1 h2 => ?_
          · have := key c i (by unfold cw; omega) (by omega) c2 (by omega) (by omega)
            rw [show ((m : Int) + 1) = ((m + 1 : Nat) : Int) by omega, this]; exact hfr c i c1 c2
          · rw [show ((m : Int) + 1) = ((m + 1 : Nat) : Int) by omega]
            rcases Nat.lt_or_ge r m with w | w
            · rw [nr r w, Fr r w]
              refine ⟨?_, (hD.2 r w).2.1, (hD.2 r w).2.2.1, keep _ key r w⟩
              rw [keyd _ (by omega)]; exact (hD.2 r w).1
            · have : r = m := by omega
              subst this
              rw [nm, Fm]
              refine ⟨by rw [keym]; omega, by omega, brow_top hR0, fun k hk => (j2 k hk).congr (fun i => ?_) fun i => ?_⟩
              · simp only [pmu]; rw [if_neg (by unfold cw; omega)]
              · simp only [pmu]; rw [if_neg (by unfold cw; omega)]
          · rcases Nat.lt_or_ge i m with w | w
            · rw [zr i w, nr i w]; exact hc.1 i w
            · have : i = m := by omega
              subst this
              rw [zm, nm]
              have := zp_ex (brow_top (f := fun k => - R k) hR0)
              rwa [show nn - 1 + 1 = nn by omega] at this
          · rcases Nat.lt_or_ge (i + 1) m with w | w
            · rw [zr (i + 1) w, zr i (by omega), zr (i - 1) (by omega), nr (i + 1) w, nr i (by omega)]
              exact hc.2 i h1 w
            · have e : i + 1 = m := by omega
              rw [show i = m - 1 by omega, show m - 1 + 1 = m by omega, zm, nm, nr (m - 1) (by omega), zr (m - 1) (by omega), show m - 1 - 1 = m - 2 by omega, zr (m - 2) (by omega)]
              refine ⟨by omega, ?_⟩
              have hg0 : (0 : Rat) < (((gcn (fun k => - R k) nn : Nat) : Int) : Rat) := Rat.intCast_pos.mpr (by have := gcn_pos (f := fun k => - R k) nn (nn - 1) (by omega) hR0; omega)
              refine g5.scale hg0 fun x => ?_
              have := brow_zp (f := fun k => - R k) (d := nn - 1) x
              rw [show nn - 1 + 1 = nn by omega] at this
              rw [zp_neg] at this
              have h3 : (((gcn (fun k => - R k) nn : Nat) : Int) : Rat) * - zp (brow (fun k => - R k) (nn - 1)) nn x = - ((((gcn (fun k => - R k) nn : Nat) : Int) : Rat) * zp (brow (fun k => - R k) (nn - 1)) nn x) := by grind
              rw [h3, this]; grind
          · rcases Nat.lt_or_ge i m with w | w
            · rw [nr i w, Fr i w]; exact hp i h1 w
            · have : i = m := by omega
              subst this
              rw [nm, Fm]; exact brow_prim hR0
        | succ L ihL =>
          intro j D4 hj hfr4 hdone hrest
          have d8'' : D4 b 8 = m := by
            rw [hfr4 _ _ (by unfold cw; omega)]
            simp only [pmu]; rw [if_neg (by omega)]; exact d8'
          obtain ⟨t1, t2⟩ := s6 m j hm10 (by omega)
          have t3 := t2.1
          have hRj := hrest j (Nat.le_refl _) (by omega)
          have hsj := hRj.sg
          refine wp_in ?_
          simp only [P_X8_goOn, i_kil, i_icon, i_lcon, i_null, i_loadI, i_loadL, i_loadR, i_istore, i_lstore, i_astore, i_iinc, i_dup, i_dup2, i_pop, i_iadd, i_isub, i_imul, i_idiv, i_irem, i_ineg, i_iand, i_ior, i_ishl, i_ishr, i_lxor, i_ladd, i_lsub, i_lmul, i_ldiv, i_lrem, i_lneg, i_lshl, i_lcmp, i_i2l, i_l2i, i_i2b, i_i2s, i_ifeq, i_ifne, i_iflt, i_ifge, i_ifgt, i_ifle, i_cmpeq, i_cmpne, i_cmplt, i_cmpge, i_cmpgt, i_cmple, i_acmpeq, i_acmpne, i_ifnull, i_ifnonnull, i_getI, i_getR, i_putI, i_putZ, i_putR, i_ald, i_ldL, i_ldR, i_ast, i_stL, i_stR, i_alen, i_new, i_newa, i_iret, i_zret, i_lret, i_aret, i_vret, i_raise, i_throw, i_recv, i_objinit, i_tsw3, lget, lset, lput1, lput2, lkil, ltrim, largs, isL, takev, dropv, nthv, pushO, catv, gd, true_and, and_true, Option.some.injEq, Prod.mk.injEq, exists_eq_left', if_true, if_false, reduceCtorEq, Bool.false_eq_true, lcmp_ge, lcmp_lt, lcmp_le, lcmp_gt, lcmp_eq, true_or, or_true, not_true_eq_false, not_false_eq_true, false_implies, true_implies, List.length_cons, List.length_nil, s1, s3, s4, d8'', r5, r6, t1, t3, hsj]
          have hin : inI (-Int.sign (R j)) := by rcases sgn_cases (R j) with h | h | h <;> rw [h.1] <;> exact in_small (by decide) (by decide)
          refine ⟨fun w => by omega, fun _ => ?_⟩
          repeat (first | refine ⟨in_small (by omega) (by omega), ?_⟩ | (show (_ → _) ∧ (_ → _); first | refine ⟨by omega, fun _ => ?_⟩ | refine ⟨fun _ => ?_, by omega⟩) | refine ⟨by omega, ?_⟩ | refine ⟨⟨_, rfl, by assumption⟩, ?_⟩ | refine ⟨okT_I _, ?_⟩ | refine ⟨okT_S (by omega) (by omega), ?_⟩ | refine ⟨okT_B (by omega) (by omega), ?_⟩ | refine call0 (gd_of rfl) ?_)
          have hin : inI (-Int.sign (R j)) := by rcases sgn_cases (R j) with h | h | h <;> rw [h.1] <;> exact in_small (by decide) (by decide)
          refine ihL (j + 1) _ (by omega) (fun c i c1 => ?_) (fun k hk => ?_) fun k h1 h2 => ?_
          · simp only [pmu]; rw [if_neg (by unfold cw at *; omega)]; exact hfr4 c i c1
          · by_cases w : k = j
            · rw [w]; exact hRj.turn (z' := - R j) (by omega) (by rw [Int.sign_neg])
            · have nb := cw_ne (b := b) (r := m) (r' := m) (k := k) (k' := j) (by omega) (by omega) (fun w2 => w w2.2)
              exact (hdone k (by omega)).congr (fun i => by simp only [pmu]; rw [if_neg (by omega)]) fun i => by simp only [pmu]; rw [if_neg (by omega)]
          · have nb := cw_ne (b := b) (r := m) (r' := m) (k := k) (k' := j) (by omega) (by omega) (fun w2 => by omega)
            exact (hrest k (by omega) h2).congr (fun i => by simp only [pmu]; rw [if_neg (by omega)]) fun i => by simp only [pmu]; rw [if_neg (by omega)]
      simp only [P_X8_goOn, i_kil, i_icon, i_lcon, i_null, i_loadI, i_loadL, i_loadR, i_istore, i_lstore, i_astore, i_iinc, i_dup, i_dup2, i_pop, i_iadd, i_isub, i_imul, i_idiv, i_irem, i_ineg, i_iand, i_ior, i_ishl, i_ishr, i_lxor, i_ladd, i_lsub, i_lmul, i_ldiv, i_lrem, i_lneg, i_lshl, i_lcmp, i_i2l, i_l2i, i_i2b, i_i2s, i_ifeq, i_ifne, i_iflt, i_ifge, i_ifgt, i_ifle, i_cmpeq, i_cmpne, i_cmplt, i_cmpge, i_cmpgt, i_cmple, i_acmpeq, i_acmpne, i_ifnull, i_ifnonnull, i_getI, i_getR, i_putI, i_putZ, i_putR, i_ald, i_ldL, i_ldR, i_ast, i_stL, i_stR, i_alen, i_new, i_newa, i_iret, i_zret, i_lret, i_aret, i_vret, i_raise, i_throw, i_recv, i_objinit, i_tsw3, lget, lset, lput1, lput2, lkil, ltrim, largs, isL, takev, dropv, nthv, pushO, catv, gd, true_and, and_true, Option.some.injEq, Prod.mk.injEq, exists_eq_left', if_true, if_false, reduceCtorEq, Bool.false_eq_true, lcmp_ge, lcmp_lt, lcmp_le, lcmp_gt, lcmp_eq, true_or, or_true, not_true_eq_false, not_false_eq_true, false_implies, true_implies, List.length_cons, List.length_nil, s1, s7, s8, d8']
      refine ⟨fun _ => ?_, fun w => by omega⟩
      repeat (first | refine ⟨in_small (by omega) (by omega), ?_⟩ | (show (_ → _) ∧ (_ → _); first | refine ⟨by omega, fun _ => ?_⟩ | refine ⟨fun _ => ?_, by omega⟩) | refine ⟨by omega, ?_⟩ | refine ⟨⟨_, rfl, by assumption⟩, ?_⟩ | refine ⟨okT_I _, ?_⟩ | refine ⟨okT_S (by omega) (by omega), ?_⟩ | refine ⟨okT_B (by omega) (by omega), ?_⟩ | refine call0 (gd_of rfl) ?_)
      refine neg nn 0 _ (by omega) (fun c i _ => rfl) (fun k hk => by omega) fun k _ hk => (g3 k hk).congr (fun i => ?_) fun i => ?_
      · simp only [pmu]; rw [if_neg (by unfold cw; omega)]
      · simp only [pmu]; rw [if_neg (by unfold cw; omega)]
end GO
