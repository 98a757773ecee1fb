/-! chains of the component: layout; put, only, bare -/
-- needs: cg.need
set_option maxRecDepth 100000
set_option linter.unusedVariables false
def cw (b r k : Nat) : Nat := b + 22 + 2 * (9 * r + k)
def clw (b k : Nat) : Nat := b + 202 + 2 * k
def chS (S : Stat) (b o : Nat) : Prop := rS S o ∧ S.1 b = some (8, 0) ∧ S.2.1 b 0 = some o ∧ S.2.1 b 1 = some (b + 1) ∧ S.1 (b + 1) = some (106, 10) ∧ (∀ r : Nat, r < 10 → S.2.1 (b + 1) r = some (b + 2 + r) ∧ S.1 (b + 2 + r) = some (105, 9)) ∧ (∀ r k : Nat, r < 10 → k < 9 → S.2.1 (b + 2 + r) k = some (cw b r k) ∧ wS 3 S (cw b r k) 160) ∧
  S.2.1 b 2 = some (b + 12) ∧ S.1 (b + 12) = some (100, 10) ∧ S.2.1 b 3 = some (b + 13) ∧ S.1 (b + 13) = some (105, 9) ∧ (∀ k : Nat, k < 9 → S.2.1 (b + 13) k = some (clw b k) ∧ wS 3 S (clw b k) 160) ∧
  S.2.1 b 4 = some (b + 14) ∧ wS 3 S (b + 14) 160 ∧ S.2.1 b 5 = some (b + 16) ∧ wS 3 S (b + 16) 160 ∧ S.2.1 b 6 = some (b + 18) ∧ wS 3 S (b + 18) 160 ∧ S.2.1 b 7 = some (b + 20) ∧ wS 3 S (b + 20) 160 ∧ (b + 219 < o ∨ o + 10 < b)
/-- the row r up to d -/
def chR (D : Dat) (b r d : Nat) (f : Nat → Int) : Prop := ∀ k, k ≤ d → wD 1 2 D (cw b r k) (f k)
theorem chR.congr {D D' : Dat} {b r d : Nat} {f : Nat → Int} (h : chR D b r d f) (e : ∀ c i, cw b r 0 ≤ c → c ≤ cw b r d + 1 → D' c i = D c i) : chR D' b r d f := fun k hk => (h k hk).congr (fun i => e _ i (by unfold cw; omega) (by unfold cw; omega)) fun i => e _ i (by unfold cw; omega) (by unfold cw; omega)
theorem chR.of {D : Dat} {b r d : Nat} {f g : Nat → Int} (h : chR D b r d f) (e : ∀ k, k ≤ d → g k = f k) : chR D b r d g := fun k hk => by rw [e k hk]; exact h k hk
/-- what divides a row -/
def gcn (f : Nat → Int) : Nat → Nat
  | 0 => 0
  | n + 1 => Nat.gcd (gcn f n) (f n).natAbs
theorem gcn_dvd {f : Nat → Int} : ∀ (n k : Nat), k < n → ((gcn f n : Nat) : Int) ∣ f k := by
  intro n
  induction n with
  | zero => intro k hk; omega
  | succ n ih =>
    intro k hk
    simp only [gcn]
    rcases Nat.lt_or_ge k n with h | h
    · exact Int.dvd_trans (Int.ofNat_dvd.mpr (Nat.gcd_dvd_left _ _)) (ih k h)
    · rw [show k = n by omega]
      exact Int.ofNat_dvd_left.mpr (Nat.gcd_dvd_right _ _)
theorem gcn_pos {f : Nat → Int} : ∀ (n k : Nat), k < n → f k ≠ 0 → 0 < gcn f n := by
  intro n
  induction n with
  | zero => intro k hk; omega
  | succ n ih =>
    intro k hk h0
    simp only [gcn]
    rcases Nat.lt_or_ge k n with h | h
    · exact Nat.gcd_pos_of_pos_left _ (ih k h h0)
    · rw [show n = k by omega]
      exact Nat.gcd_pos_of_pos_right _ (by omega)
theorem gcn_lt {f : Nat → Int} {P : Int} (hP : 0 < P) : ∀ n, (∀ k, k < n → ((f k).natAbs : Int) < P) → ((gcn f n : Nat) : Int) < P := by
  intro n
  induction n with
  | zero => intro _; exact hP
  | succ n ih =>
    intro h
    simp only [gcn]
    have h1 := ih fun k hk => h k (by omega)
    have h2 := h n (by omega)
    rcases Nat.eq_zero_or_pos (gcn f n) with w | w
    · rw [w, Nat.gcd_zero_left]; exact h2
    · have := Nat.gcd_le_left (f n).natAbs w
      omega
/-- nothing above 1 divides all -/
theorem gcn_prim {f : Nat → Int} : ∀ (n : Nat) (r : Int), (∀ k, k < n → r ∣ f k) → r ∣ (gcn f n : Nat) := by
  intro n
  induction n with
  | zero => intro r _; exact ⟨0, by simp [gcn]⟩
  | succ n ih =>
    intro r h
    simp only [gcn]
    have h1 := ih r fun k hk => h k (by omega)
    have h2 := h n (by omega)
    refine Int.natAbs_dvd.mp (Int.ofNat_dvd.mpr (Nat.dvd_gcd ?_ ?_))
    · exact Int.ofNat_dvd_left.mp (Int.natAbs_dvd.mpr h1) 
    · exact Int.ofNat_dvd_left.mp (Int.natAbs_dvd.mpr h2)
/-- a row over what divides it -/
def brow (f : Nat → Int) (d : Nat) : Nat → Int := fun k => (f k).tdiv (gcn f (d + 1))
theorem brow_mul {f : Nat → Int} {d k : Nat} (hk : k ≤ d) : ((gcn f (d + 1) : Nat) : Int) * brow f d k = f k := Int.mul_tdiv_cancel' (gcn_dvd (d + 1) k (by omega))
/-- the frame of what a chain does: all of its cells but those outside -/
def chO (b o : Nat) (D D' : Dat) : Prop := ∀ c i, (c ≤ b + 12 ∨ b + 219 < c) → (c ≤ o ∨ o + 10 < c) → D' c i = D c i
set_option maxHeartbeats 2000000 in
theorem sp_X8_bare {E : Ex} {B : Nat × Nat} {S : Stat} {D : Dat} {b o r d p : Nat} {f : Nat → Int} (hS : chS S b o) (hr : r < 10) (hd : d < 9) (hf : chR D b r d f) (hp : ∀ k, k ≤ d → ((f k).natAbs : Int) < 1000000000 ^ p) (hp1 : p ≤ 160) (hn : ∃ k, k ≤ d ∧ f k ≠ 0)
    (K : ∀ D' : Dat, (∀ c i, (c < cw b r 0 ∨ cw b r d + 1 < c) → c ≠ b + 20 → c ≠ b + 21 → (c ≤ o ∨ o + 10 < c) → D' c i = D c i) → chR D' b r d (brow f d) → E (.inl none) B S D') : Wp P_X8_bare E 0 [some (aR b), some (aR (b + 2 + r)), some (aI d)] [] B S D := by
  obtain ⟨ho, s1, s2, s3, s4, s5, s6, s7, s8, s9, s10, s11, s12, s13, s14, s15, s16, s17, s18, s19, s20⟩ := hS
  have ho1 := ho.1
  have w1 := s19.1
  obtain ⟨-, s5b⟩ := s5 r hr
  have hg0 : ((gcn f (d + 1) : Nat) : Int) ≠ 0 := by
    obtain ⟨k, hk, h0⟩ := hn
    have := gcn_pos (d + 1) k (by omega) h0
    omega
  have hgl : ((gcn f (d + 1) : Nat) : Int) < 1000000000 ^ p := gcn_lt (pw_pos p) _ fun k hk => hp k (by omega)
  have second : ∀ (L j : Nat) (D1 : Dat), j + L = d + 1 → (∀ c i, (c < cw b r 0 ∨ cw b r d + 1 < c) → c ≠ b + 20 → c ≠ b + 21 → (c ≤ o ∨ o + 10 < c) → D1 c i = D c i) → wD 1 2 D1 (b + 20) (gcn f (d + 1)) → (∀ k, k < j → wD 1 2 D1 (cw b r k) (brow f d k)) → (∀ k, j ≤ k → k ≤ d → wD 1 2 D1 (cw b r k) (f k)) → Wp P_X8_bare E 2 [some (aR b), some (aR (b + 2 + r)), some (aI d), some (aI j)] [] B S D1 := by
    intro L
    induction L with
    | zero =>
      intro j D1 hj hfr hw hdone hrest
      refine wp_in ?_
      simp only [P_X8_bare, i_kil, i_icon, i_lcon, i_null, i_loadI, i_loadL, i_loadR, i_istore, i_lstore, i_astore, i_iinc, i_dup, i_dup2, i_pop, i_iadd, i_isub, i_imul, i_idiv, i_irem, i_ineg, i_iand, i_ior, i_ishl, i_ishr, i_lxor, i_ladd, i_lsub, i_lmul, i_ldiv, i_lrem, i_lneg, i_lshl, i_lcmp, i_i2l, i_l2i, i_i2b, i_i2s, i_ifeq, i_ifne, i_iflt, i_ifge, i_ifgt, i_ifle, i_cmpeq, i_cmpne, i_cmplt, i_cmpge, i_cmpgt, i_cmple, i_acmpeq, i_acmpne, i_ifnull, i_ifnonnull, i_getI, i_getR, i_putI, i_putZ, i_putR, i_ald, i_ldL, i_ldR, i_ast, i_stL, i_stR, i_alen, i_new, i_newa, i_iret, i_zret, i_lret, i_aret, i_vret, i_raise, i_throw, i_recv, i_objinit, i_tsw3, lget, lset, lput1, lput2, lkil, ltrim, largs, isL, takev, dropv, nthv, pushO, catv, gd, true_and, and_true, Option.some.injEq, Prod.mk.injEq, exists_eq_left', if_true, if_false, reduceCtorEq, Bool.false_eq_true, lcmp_ge, lcmp_lt, lcmp_le, lcmp_gt, lcmp_eq, true_or, or_true, not_true_eq_false, not_false_eq_true, false_implies, true_implies, List.length_cons, List.length_nil]
      refine ⟨fun _ => K D1 hfr fun k hk => hdone k (by omega), fun h => by omega⟩
    | succ L ih =>
      intro j D1 hj hfr hw hdone hrest
      obtain ⟨t1, t2⟩ := s6 r j hr (by omega)
      have t3 := t2.1
      refine wp_in ?_
      simp only [P_X8_bare, i_kil, i_icon, i_lcon, i_null, i_loadI, i_loadL, i_loadR, i_istore, i_lstore, i_astore, i_iinc, i_dup, i_dup2, i_pop, i_iadd, i_isub, i_imul, i_idiv, i_irem, i_ineg, i_iand, i_ior, i_ishl, i_ishr, i_lxor, i_ladd, i_lsub, i_lmul, i_ldiv, i_lrem, i_lneg, i_lshl, i_lcmp, i_i2l, i_l2i, i_i2b, i_i2s, i_ifeq, i_ifne, i_iflt, i_ifge, i_ifgt, i_ifle, i_cmpeq, i_cmpne, i_cmplt, i_cmpge, i_cmpgt, i_cmple, i_acmpeq, i_acmpne, i_ifnull, i_ifnonnull, i_getI, i_getR, i_putI, i_putZ, i_putR, i_ald, i_ldL, i_ldR, i_ast, i_stL, i_stR, i_alen, i_new, i_newa, i_iret, i_zret, i_lret, i_aret, i_vret, i_raise, i_throw, i_recv, i_objinit, i_tsw3, lget, lset, lput1, lput2, lkil, ltrim, largs, isL, takev, dropv, nthv, pushO, catv, gd, true_and, and_true, Option.some.injEq, Prod.mk.injEq, exists_eq_left', if_true, if_false, reduceCtorEq, Bool.false_eq_true, lcmp_ge, lcmp_lt, lcmp_le, lcmp_gt, lcmp_eq, true_or, or_true, not_true_eq_false, not_false_eq_true, false_implies, true_implies, List.length_cons, List.length_nil, s1, s2, s18, s5b, t1]
      repeat (first | refine ⟨in_small (by omega) (by omega), ?_⟩ | (show (_ → _) ∧ (_ → _); first | refine ⟨by omega, fun _ => ?_⟩ | refine ⟨fun _ => ?_, by omega⟩) | refine ⟨by omega, ?_⟩ | refine ⟨⟨_, rfl, by assumption⟩, ?_⟩ | refine ⟨okT_I _, ?_⟩ | refine ⟨okT_S (by omega) (by omega), ?_⟩ | refine ⟨okT_B (by omega) (by omega), ?_⟩ | refine call0 (gd_of rfl) ?_)
      refine sp_X2_part (p := p) ho t2 t2 s19 (by unfold wN cw; omega) (by unfold wN cw; omega) (by unfold wN; omega) (hrest j (Nat.le_refl _) (by omega)) hw hg0 (hp j (by omega)) (by rw [Int.natAbs_natCast]; exact Int.lt_of_lt_of_le hgl (pw_mono hp1)) hp1 hp1 hp1 (by decide) (by decide) (by decide) fun D2 g1 g2 => ?_
      simp only [P_X8_bare, i_kil, i_icon, i_lcon, i_null, i_loadI, i_loadL, i_loadR, i_istore, i_lstore, i_astore, i_iinc, i_dup, i_dup2, i_pop, i_iadd, i_isub, i_imul, i_idiv, i_irem, i_ineg, i_iand, i_ior, i_ishl, i_ishr, i_lxor, i_ladd, i_lsub, i_lmul, i_ldiv, i_lrem, i_lneg, i_lshl, i_lcmp, i_i2l, i_l2i, i_i2b, i_i2s, i_ifeq, i_ifne, i_iflt, i_ifge, i_ifgt, i_ifle, i_cmpeq, i_cmpne, i_cmplt, i_cmpge, i_cmpgt, i_cmple, i_acmpeq, i_acmpne, i_ifnull, i_ifnonnull, i_getI, i_getR, i_putI, i_putZ, i_putR, i_ald, i_ldL, i_ldR, i_ast, i_stL, i_stR, i_alen, i_new, i_newa, i_iret, i_zret, i_lret, i_aret, i_vret, i_raise, i_throw, i_recv, i_objinit, i_tsw3, lget, lset, lput1, lput2, lkil, ltrim, largs, isL, takev, dropv, nthv, pushO, catv, gd, true_and, and_true, Option.some.injEq, Prod.mk.injEq, exists_eq_left', if_true, if_false, reduceCtorEq, Bool.false_eq_true, lcmp_ge, lcmp_lt, lcmp_le, lcmp_gt, lcmp_eq, true_or, or_true, not_true_eq_false, not_false_eq_true, false_implies, true_implies, List.length_cons, List.length_nil]
      repeat (first | refine ⟨in_small (by omega) (by omega), ?_⟩ | (show (_ → _) ∧ (_ → _); first | refine ⟨by omega, fun _ => ?_⟩ | refine ⟨fun _ => ?_, by omega⟩) | refine ⟨by omega, ?_⟩ | refine ⟨⟨_, rfl, by assumption⟩, ?_⟩ | refine ⟨okT_I _, ?_⟩ | refine ⟨okT_S (by omega) (by omega), ?_⟩ | refine ⟨okT_B (by omega) (by omega), ?_⟩ | refine call0 (gd_of rfl) ?_)
      refine ih (j + 1) D2 (by omega) (fun c i c1 c2 c3 c4 => ?_) (hw.rO g1 (by unfold wN; omega) (by unfold cw; omega) (by unfold cw; omega) (by unfold cw; omega)) (fun k hk => ?_) fun k hk1 hk2 => ?_
      · rw [g1 c i (by unfold cw at *; omega) (by unfold cw at *; omega) c4]; exact hfr c i c1 c2 c3 c4
      · by_cases q : k = j
        · rw [q]; exact g2
        · exact (hdone k (by omega)).rO g1 (by unfold wN cw; omega) (by unfold cw; omega) (by unfold cw; omega) (by unfold cw; omega)
      · exact (hrest k (by omega) hk2).rO g1 (by unfold wN cw; omega) (by unfold cw; omega) (by unfold cw; omega) (by unfold cw; omega)
  have first : ∀ (L j : Nat) (D1 : Dat), j + L = d + 1 → (∀ c i, c ≠ b + 20 → c ≠ b + 21 → (c ≤ o ∨ o + 10 < c) → D1 c i = D c i) → wD 1 2 D1 (b + 20) (gcn f j) → Wp P_X8_bare E 1 [some (aR b), some (aR (b + 2 + r)), some (aI d), some (aI j)] [] B S D1 := by
    intro L
    induction L with
    | zero =>
      intro j D1 hj hfr hw
      have : j = d + 1 := by omega
      subst this
      refine wp_in ?_
      simp only [P_X8_bare, i_kil, i_icon, i_lcon, i_null, i_loadI, i_loadL, i_loadR, i_istore, i_lstore, i_astore, i_iinc, i_dup, i_dup2, i_pop, i_iadd, i_isub, i_imul, i_idiv, i_irem, i_ineg, i_iand, i_ior, i_ishl, i_ishr, i_lxor, i_ladd, i_lsub, i_lmul, i_ldiv, i_lrem, i_lneg, i_lshl, i_lcmp, i_i2l, i_l2i, i_i2b, i_i2s, i_ifeq, i_ifne, i_iflt, i_ifge, i_ifgt, i_ifle, i_cmpeq, i_cmpne, i_cmplt, i_cmpge, i_cmpgt, i_cmple, i_acmpeq, i_acmpne, i_ifnull, i_ifnonnull, i_getI, i_getR, i_putI, i_putZ, i_putR, i_ald, i_ldL, i_ldR, i_ast, i_stL, i_stR, i_alen, i_new, i_newa, i_iret, i_zret, i_lret, i_aret, i_vret, i_raise, i_throw, i_recv, i_objinit, i_tsw3, lget, lset, lput1, lput2, lkil, ltrim, largs, isL, takev, dropv, nthv, pushO, catv, gd, true_and, and_true, Option.some.injEq, Prod.mk.injEq, exists_eq_left', if_true, if_false, reduceCtorEq, Bool.false_eq_true, lcmp_ge, lcmp_lt, lcmp_le, lcmp_gt, lcmp_eq, true_or, or_true, not_true_eq_false, not_false_eq_true, false_implies, true_implies, List.length_cons, List.length_nil]
      refine ⟨fun _ => ?_, fun h => by omega⟩
      exact second (d + 1) 0 D1 (by omega) (fun c i _ c2 c3 c4 => hfr c i c2 c3 c4) hw (fun k hk => by omega) fun k _ hk => (hf k hk).congr (fun i => hfr _ i (by unfold cw; omega) (by unfold cw; omega) (by unfold cw; omega)) fun i => hfr _ i (by unfold cw; omega) (by unfold cw; omega) (by unfold cw; omega)
    | succ L ih =>
      intro j D1 hj hfr hw
      obtain ⟨t1, t2⟩ := s6 r j hr (by omega)
      have t3 := t2.1
      refine wp_in ?_
      simp only [P_X8_bare, i_kil, i_icon, i_lcon, i_null, i_loadI, i_loadL, i_loadR, i_istore, i_lstore, i_astore, i_iinc, i_dup, i_dup2, i_pop, i_iadd, i_isub, i_imul, i_idiv, i_irem, i_ineg, i_iand, i_ior, i_ishl, i_ishr, i_lxor, i_ladd, i_lsub, i_lmul, i_ldiv, i_lrem, i_lneg, i_lshl, i_lcmp, i_i2l, i_l2i, i_i2b, i_i2s, i_ifeq, i_ifne, i_iflt, i_ifge, i_ifgt, i_ifle, i_cmpeq, i_cmpne, i_cmplt, i_cmpge, i_cmpgt, i_cmple, i_acmpeq, i_acmpne, i_ifnull, i_ifnonnull, i_getI, i_getR, i_putI, i_putZ, i_putR, i_ald, i_ldL, i_ldR, i_ast, i_stL, i_stR, i_alen, i_new, i_newa, i_iret, i_zret, i_lret, i_aret, i_vret, i_raise, i_throw, i_recv, i_objinit, i_tsw3, lget, lset, lput1, lput2, lkil, ltrim, largs, isL, takev, dropv, nthv, pushO, catv, gd, true_and, and_true, Option.some.injEq, Prod.mk.injEq, exists_eq_left', if_true, if_false, reduceCtorEq, Bool.false_eq_true, lcmp_ge, lcmp_lt, lcmp_le, lcmp_gt, lcmp_eq, true_or, or_true, not_true_eq_false, not_false_eq_true, false_implies, true_implies, List.length_cons, List.length_nil, s1, s2, s18, s5b, t1]
      repeat (first | refine ⟨in_small (by omega) (by omega), ?_⟩ | (show (_ → _) ∧ (_ → _); first | refine ⟨by omega, fun _ => ?_⟩ | refine ⟨fun _ => ?_, by omega⟩) | refine ⟨by omega, ?_⟩ | refine ⟨⟨_, rfl, by assumption⟩, ?_⟩ | refine ⟨okT_I _, ?_⟩ | refine ⟨okT_S (by omega) (by omega), ?_⟩ | refine ⟨okT_B (by omega) (by omega), ?_⟩ | refine call0 (gd_of rfl) ?_)
      have hx : wD 1 2 D1 (cw b r j) (f j) := (hf j (by omega)).congr (fun i => hfr _ i (by unfold cw; omega) (by unfold cw; omega) (by unfold cw; omega)) fun i => hfr _ i (by unfold cw; omega) (by unfold cw; omega) (by unfold cw; omega)
      refine sp_X2_common (p := p) ho s19 s19 t2 (by unfold wN; omega) (by unfold wN; omega) (by unfold wN cw; omega) hw hx (by rw [Int.natAbs_natCast]; exact gcn_lt (pw_pos p) _ fun k hk => hp k (by omega)) (hp j (by omega)) hp1 hp1 hp1 hp1 (by decide) (by decide) (by decide) fun D2 g1 g2 => ?_
      simp only [P_X8_bare, i_kil, i_icon, i_lcon, i_null, i_loadI, i_loadL, i_loadR, i_istore, i_lstore, i_astore, i_iinc, i_dup, i_dup2, i_pop, i_iadd, i_isub, i_imul, i_idiv, i_irem, i_ineg, i_iand, i_ior, i_ishl, i_ishr, i_lxor, i_ladd, i_lsub, i_lmul, i_ldiv, i_lrem, i_lneg, i_lshl, i_lcmp, i_i2l, i_l2i, i_i2b, i_i2s, i_ifeq, i_ifne, i_iflt, i_ifge, i_ifgt, i_ifle, i_cmpeq, i_cmpne, i_cmplt, i_cmpge, i_cmpgt, i_cmple, i_acmpeq, i_acmpne, i_ifnull, i_ifnonnull, i_getI, i_getR, i_putI, i_putZ, i_putR, i_ald, i_ldL, i_ldR, i_ast, i_stL, i_stR, i_alen, i_new, i_newa, i_iret, i_zret, i_lret, i_aret, i_vret, i_raise, i_throw, i_recv, i_objinit, i_tsw3, lget, lset, lput1, lput2, lkil, ltrim, largs, isL, takev, dropv, nthv, pushO, catv, gd, true_and, and_true, Option.some.injEq, Prod.mk.injEq, exists_eq_left', if_true, if_false, reduceCtorEq, Bool.false_eq_true, lcmp_ge, lcmp_lt, lcmp_le, lcmp_gt, lcmp_eq, true_or, or_true, not_true_eq_false, not_false_eq_true, false_implies, true_implies, List.length_cons, List.length_nil]
      repeat (first | refine ⟨in_small (by omega) (by omega), ?_⟩ | (show (_ → _) ∧ (_ → _); first | refine ⟨by omega, fun _ => ?_⟩ | refine ⟨fun _ => ?_, by omega⟩) | refine ⟨by omega, ?_⟩ | refine ⟨⟨_, rfl, by assumption⟩, ?_⟩ | refine ⟨okT_I _, ?_⟩ | refine ⟨okT_S (by omega) (by omega), ?_⟩ | refine ⟨okT_B (by omega) (by omega), ?_⟩ | refine call0 (gd_of rfl) ?_)
      refine ih (j + 1) D2 (by omega) (fun c i c2 c3 c4 => ?_) g2
      rw [g1 c i c2 c3 c4]; exact hfr c i c2 c3 c4
  refine wp_in ?_
  simp only [P_X8_bare, i_kil, i_icon, i_lcon, i_null, i_loadI, i_loadL, i_loadR, i_istore, i_lstore, i_astore, i_iinc, i_dup, i_dup2, i_pop, i_iadd, i_isub, i_imul, i_idiv, i_irem, i_ineg, i_iand, i_ior, i_ishl, i_ishr, i_lxor, i_ladd, i_lsub, i_lmul, i_ldiv, i_lrem, i_lneg, i_lshl, i_lcmp, i_i2l, i_l2i, i_i2b, i_i2s, i_ifeq, i_ifne, i_iflt, i_ifge, i_ifgt, i_ifle, i_cmpeq, i_cmpne, i_cmplt, i_cmpge, i_cmpgt, i_cmple, i_acmpeq, i_acmpne, i_ifnull, i_ifnonnull, i_getI, i_getR, i_putI, i_putZ, i_putR, i_ald, i_ldL, i_ldR, i_ast, i_stL, i_stR, i_alen, i_new, i_newa, i_iret, i_zret, i_lret, i_aret, i_vret, i_raise, i_throw, i_recv, i_objinit, i_tsw3, lget, lset, lput1, lput2, lkil, ltrim, largs, isL, takev, dropv, nthv, pushO, catv, gd, true_and, and_true, Option.some.injEq, Prod.mk.injEq, exists_eq_left', if_true, if_false, reduceCtorEq, Bool.false_eq_true, lcmp_ge, lcmp_lt, lcmp_le, lcmp_gt, lcmp_eq, true_or, or_true, not_true_eq_false, not_false_eq_true, false_implies, true_implies, List.length_cons, List.length_nil, s1, s18]
  repeat (first | refine ⟨in_small (by omega) (by omega), ?_⟩ | (show (_ → _) ∧ (_ → _); first | refine ⟨by omega, fun _ => ?_⟩ | refine ⟨fun _ => ?_, by omega⟩) | refine ⟨by omega, ?_⟩ | refine ⟨⟨_, rfl, by assumption⟩, ?_⟩ | refine ⟨okT_I _, ?_⟩ | refine ⟨okT_S (by omega) (by omega), ?_⟩ | refine ⟨okT_B (by omega) (by omega), ?_⟩ | refine call0 (gd_of rfl) ?_)
  refine sp_X3_set s19 (by decide) (by decide) (by omega) fun D1 g1 g2 => ?_
  simp only [P_X8_bare, i_kil, i_icon, i_lcon, i_null, i_loadI, i_loadL, i_loadR, i_istore, i_lstore, i_astore, i_iinc, i_dup, i_dup2, i_pop, i_iadd, i_isub, i_imul, i_idiv, i_irem, i_ineg, i_iand, i_ior, i_ishl, i_ishr, i_lxor, i_ladd, i_lsub, i_lmul, i_ldiv, i_lrem, i_lneg, i_lshl, i_lcmp, i_i2l, i_l2i, i_i2b, i_i2s, i_ifeq, i_ifne, i_iflt, i_ifge, i_ifgt, i_ifle, i_cmpeq, i_cmpne, i_cmplt, i_cmpge, i_cmpgt, i_cmple, i_acmpeq, i_acmpne, i_ifnull, i_ifnonnull, i_getI, i_getR, i_putI, i_putZ, i_putR, i_ald, i_ldL, i_ldR, i_ast, i_stL, i_stR, i_alen, i_new, i_newa, i_iret, i_zret, i_lret, i_aret, i_vret, i_raise, i_throw, i_recv, i_objinit, i_tsw3, lget, lset, lput1, lput2, lkil, ltrim, largs, isL, takev, dropv, nthv, pushO, catv, gd, true_and, and_true, Option.some.injEq, Prod.mk.injEq, exists_eq_left', if_true, if_false, reduceCtorEq, Bool.false_eq_true, lcmp_ge, lcmp_lt, lcmp_le, lcmp_gt, lcmp_eq, true_or, or_true, not_true_eq_false, not_false_eq_true, false_implies, true_implies, List.length_cons, List.length_nil]
  repeat (first | refine ⟨in_small (by omega) (by omega), ?_⟩ | (show (_ → _) ∧ (_ → _); first | refine ⟨by omega, fun _ => ?_⟩ | refine ⟨fun _ => ?_, by omega⟩) | refine ⟨by omega, ?_⟩ | refine ⟨⟨_, rfl, by assumption⟩, ?_⟩ | refine ⟨okT_I _, ?_⟩ | refine ⟨okT_S (by omega) (by omega), ?_⟩ | refine ⟨okT_B (by omega) (by omega), ?_⟩ | refine call0 (gd_of rfl) ?_)
  exact first (d + 1) 0 D1 (by omega) (fun c i c1 c2 c3 => g1 c i c1 c2) g2
