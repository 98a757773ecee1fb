/-! Ratio: fractions, always shortened (the value is a Rat) -/
set_option maxRecDepth 100000
set_option linter.unusedVariables false
def qS (S : Stat) (o e : Nat) : Prop := S.1 e = some (6, 0) ∧ S.2.1 e 0 = some o ∧ S.2.1 e 1 = some (e + 1) ∧ wS 3 S (e + 1) 160 ∧ S.2.1 e 2 = some (e + 3) ∧ wS 3 S (e + 3) 160 ∧ S.2.1 e 3 = some (e + 5) ∧ wS 3 S (e + 5) 160 ∧ S.2.1 e 4 = some (e + 7) ∧ wS 3 S (e + 7) 160
def qD (D : Dat) (e : Nat) (x : Rat) : Prop := wD 1 2 D (e + 1) x.num ∧ wD 1 2 D (e + 3) (x.den : Int)
def qO (D D' : Dat) (o e : Nat) : Prop := ∀ c i, (c ≤ e ∨ e + 8 < c) → (c ≤ o ∨ o + 10 < c) → D' c i = D c i
def qN (o e : Nat) : Prop := e + 8 < o ∨ o + 10 < e
def qB (x : Rat) (p : Nat) : Prop := (x.num.natAbs : Int) < 1000000000 ^ p ∧ (x.den : Int) < 1000000000 ^ p
theorem qO.refl {D : Dat} {o e : Nat} : qO D D o e := fun _ _ _ _ => rfl
theorem qO.tr {D D' D'' : Dat} {o e : Nat} (h : qO D D' o e) (h' : qO D' D'' o e) : qO D D'' o e := fun c i h1 h2 => by rw [h' c i h1 h2, h c i h1 h2]
theorem rO.qO {D D' : Dat} {o e w : Nat} (h : rO D D' o w) (hw : e < w ∧ w < e + 8) : qO D D' o e := fun c i h1 h2 => h c i (by omega) (by omega) h2
theorem wO.qO {D D' : Dat} {o e w : Nat} (h : wO D D' w) (hw : e < w ∧ w < e + 8) : qO D D' o e := fun c i h1 h2 => h c i (by omega) (by omega)
theorem qD.qO {D D' : Dat} {o e f : Nat} {x : Rat} (h : qD D f x) (hq : qO D D' o e) (hn : qN o f) (hf : f + 8 < e ∨ e + 8 < f) : qD D' f x := by
  unfold qN at hn
  exact ⟨h.1.congr (fun i => hq _ i (by omega) (by omega)) (fun i => hq _ i (by omega) (by omega)), h.2.congr (fun i => hq _ i (by omega) (by omega)) (fun i => hq _ i (by omega) (by omega))⟩
theorem natAbs_nat (n : Nat) : ((n : Int).natAbs : Int) = n := by omega
theorem qB.den {x : Rat} {p : Nat} (h : qB x p) : (((x.den : Int)).natAbs : Int) < 1000000000 ^ p := by rw [natAbs_nat]; exact h.2
theorem qB.mono {x : Rat} {p q : Nat} (h : qB x p) (hq : p ≤ q) : qB x q := ⟨Int.lt_of_lt_of_le h.1 (pw_mono hq), Int.lt_of_lt_of_le h.2 (pw_mono hq)⟩
theorem wD.neg {kn ks : Int} {D : Dat} {w : Nat} {z : Int} (h : wD kn ks D w z) (hk : kn ≠ ks) : wD kn ks (pmu D w ks (-Int.sign z)) w (-z) := by
  obtain ⟨n, h1, h2, h3, h4⟩ := h
  have e : pmu D w ks (-Int.sign z) (w + 1) = D (w + 1) := by funext i; simp [pmu]
  refine ⟨n, ?_, by rw [e]; exact h2, ?_, by rw [e, Int.natAbs_neg]; exact h4⟩
  · simp [pmu, hk]; exact h1
  · simp [pmu, Int.sign_neg]
theorem divInt_neg_neg (a b : Int) : Rat.divInt (-a) (-b) = Rat.divInt a b := by
  have h := Rat.divInt_mul_divInt (-1) a (d₁ := -1) (d₂ := b)
  rw [Rat.divInt_self' (by decide), Rat.one_mul] at h
  rw [h]; congr 1 <;> omega
/-- what shortening computes -/
theorem shorten_law {a b : Int} (hb : 0 < b) : (Rat.divInt a b).num = a.tdiv (Int.gcd a b) ∧ (((Rat.divInt a b).den : Nat) : Int) = b.tdiv (Int.gcd a b) := by
  have h1 : ((Int.gcd a b : Nat) : Int) ∣ a := Int.gcd_dvd_left ..
  have h2 : ((Int.gcd a b : Nat) : Int) ∣ b := Int.gcd_dvd_right ..
  rw [Rat.num_divInt, Rat.den_divInt, if_neg (by omega), Int.gcd_comm b a, Int.sign_eq_one_of_pos hb, Int.one_mul, Int.tdiv_eq_ediv_of_dvd h1, Int.tdiv_eq_ediv_of_dvd h2]
  refine ⟨rfl, ?_⟩
  rw [Int.natCast_ediv]
  congr 1
  omega
theorem wD_nn {kn ks : Int} {D : Dat} {w : Nat} {z : Int} (h : wD kn ks D w z) : D w ks = Int.sign z := by obtain ⟨n, h1, h2, h3, h4⟩ := h; exact h3
set_option maxHeartbeats 1000000 in
theorem sp_X6_shorten {E : Ex} {B : Nat × Nat} {S : Stat} {D : Dat} {o e : Nat} {a b : Int} (ho : rS S o) (he : qS S o e) (hn : qN o e) (hx : wD 1 2 D (e + 1) a) (hy : wD 1 2 D (e + 3) b) (hb0 : b ≠ 0) (ha : (a.natAbs : Int) < 1000000000 ^ 160) (hb : (b.natAbs : Int) < 1000000000 ^ 160)
    (k : ∀ D' : Dat, qO D D' o e → qD D' e (Rat.divInt a b) → E (.inl none) B S D') : Wp P_X6_shorten E 0 [some (aR e)] [] B S D := by
  obtain ⟨e1, e2, e3, e4, e5, e6, e7, e8, -⟩ := he
  have ho1 := ho.1
  have hn0 := hn
  unfold qN at hn
  have step : ∀ (a b : Int) (D1 : Dat), qO D D1 o e → wD 1 2 D1 (e + 1) a → wD 1 2 D1 (e + 3) b → 0 < b → (a.natAbs : Int) < 1000000000 ^ 160 → (b.natAbs : Int) < 1000000000 ^ 160 →
      (∀ D' : Dat, qO D D' o e → qD D' e (Rat.divInt a b) → E (.inl none) B S D') → Wp P_X6_shorten E 1 [some (aR e)] [] B S D1 := by
    intro a b D1 hq hx hy hb ha hb2 k
    obtain ⟨l1, l2⟩ := shorten_law (a := a) hb
    have hg0 : ((Int.gcd a b : Nat) : Int) ≠ 0 := by
      intro h
      have := (Int.gcd_eq_zero_iff).mp (show Int.gcd a b = 0 by omega)
      omega
    have hgb : (((Int.gcd a b : Nat) : Int).natAbs : Int) < 1000000000 ^ 160 := by
      have h2 : ((Int.gcd a b : Nat) : Int) ∣ b := Int.gcd_dvd_right ..
      have := Int.le_of_dvd hb h2
      omega
    refine wp_in ?_
    simp only [P_X6_shorten, i_kil, i_icon, i_lcon, i_null, i_loadI, i_loadL, i_loadR, i_istore, i_lstore, i_astore, i_iinc, i_dup, i_dup2, i_pop, i_iadd, i_isub, i_imul, i_idiv, i_irem, i_ineg, i_iand, i_ior, i_ishl, i_ishr, i_lxor, i_ladd, i_lsub, i_lmul, i_ldiv, i_lrem, i_lneg, i_lshl, i_lcmp, i_i2l, i_l2i, i_i2b, i_i2s, i_ifeq, i_ifne, i_iflt, i_ifge, i_ifgt, i_ifle, i_cmpeq, i_cmpne, i_cmplt, i_cmpge, i_cmpgt, i_cmple, i_acmpeq, i_acmpne, i_ifnull, i_ifnonnull, i_getI, i_getR, i_putI, i_putZ, i_putR, i_ald, i_ldL, i_ldR, i_ast, i_stL, i_stR, i_alen, i_new, i_newa, i_iret, i_zret, i_lret, i_aret, i_vret, i_raise, i_throw, i_recv, i_objinit, i_tsw3, lget, lset, lput1, lput2, lkil, ltrim, largs, isL, takev, dropv, nthv, pushO, catv, gd, true_and, and_true, Option.some.injEq, Prod.mk.injEq, exists_eq_left', if_true, if_false, reduceCtorEq, Bool.false_eq_true, lcmp_ge, lcmp_lt, lcmp_le, lcmp_gt, lcmp_eq, true_or, or_true, not_true_eq_false, not_false_eq_true, false_implies, true_implies, List.length_cons, List.length_nil, e1, e2, e3, e5, e7, ho1]
    refine ⟨⟨o, rfl, ho1⟩, call0 (gd_of rfl) ?_⟩
    refine sp_X2_common ho e8 e4 e6 (by unfold wN; omega) (by unfold wN; omega) (by unfold wN; omega) hx hy ha hb2 (Nat.le_refl _) (Nat.le_refl _) (Nat.le_refl _) (Nat.le_refl _) (by omega) (by omega) (by omega) fun D2 g1 g2 => ?_
    have hq2 := hq.tr (g1.qO (by omega))
    have hx2 := hx.rO g1 (by unfold wN; omega) (by omega) (by omega) (by omega)
    have hy2 := hy.rO g1 (by unfold wN; omega) (by omega) (by omega) (by omega)
    simp only [P_X6_shorten, i_kil, i_icon, i_lcon, i_null, i_loadI, i_loadL, i_loadR, i_istore, i_lstore, i_astore, i_iinc, i_dup, i_dup2, i_pop, i_iadd, i_isub, i_imul, i_idiv, i_irem, i_ineg, i_iand, i_ior, i_ishl, i_ishr, i_lxor, i_ladd, i_lsub, i_lmul, i_ldiv, i_lrem, i_lneg, i_lshl, i_lcmp, i_i2l, i_l2i, i_i2b, i_i2s, i_ifeq, i_ifne, i_iflt, i_ifge, i_ifgt, i_ifle, i_cmpeq, i_cmpne, i_cmplt, i_cmpge, i_cmpgt, i_cmple, i_acmpeq, i_acmpne, i_ifnull, i_ifnonnull, i_getI, i_getR, i_putI, i_putZ, i_putR, i_ald, i_ldL, i_ldR, i_ast, i_stL, i_stR, i_alen, i_new, i_newa, i_iret, i_zret, i_lret, i_aret, i_vret, i_raise, i_throw, i_recv, i_objinit, i_tsw3, lget, lset, lput1, lput2, lkil, ltrim, largs, isL, takev, dropv, nthv, pushO, catv, gd, true_and, and_true, Option.some.injEq, Prod.mk.injEq, exists_eq_left', if_true, if_false, reduceCtorEq, Bool.false_eq_true, lcmp_ge, lcmp_lt, lcmp_le, lcmp_gt, lcmp_eq, true_or, or_true, not_true_eq_false, not_false_eq_true, false_implies, true_implies, List.length_cons, List.length_nil, e1, e2, e3, e5, e7, ho1]
    refine ⟨⟨e + 5, rfl, e8.1⟩, call0 (gd_of rfl) ?_⟩
    refine sp_X3_isOne e8 g2 (by omega) (by omega) ?_
    simp only [P_X6_shorten, i_kil, i_icon, i_lcon, i_null, i_loadI, i_loadL, i_loadR, i_istore, i_lstore, i_astore, i_iinc, i_dup, i_dup2, i_pop, i_iadd, i_isub, i_imul, i_idiv, i_irem, i_ineg, i_iand, i_ior, i_ishl, i_ishr, i_lxor, i_ladd, i_lsub, i_lmul, i_ldiv, i_lrem, i_lneg, i_lshl, i_lcmp, i_i2l, i_l2i, i_i2b, i_i2s, i_ifeq, i_ifne, i_iflt, i_ifge, i_ifgt, i_ifle, i_cmpeq, i_cmpne, i_cmplt, i_cmpge, i_cmpgt, i_cmple, i_acmpeq, i_acmpne, i_ifnull, i_ifnonnull, i_getI, i_getR, i_putI, i_putZ, i_putR, i_ald, i_ldL, i_ldR, i_ast, i_stL, i_stR, i_alen, i_new, i_newa, i_iret, i_zret, i_lret, i_aret, i_vret, i_raise, i_throw, i_recv, i_objinit, i_tsw3, lget, lset, lput1, lput2, lkil, ltrim, largs, isL, takev, dropv, nthv, pushO, catv, gd, true_and, and_true, Option.some.injEq, Prod.mk.injEq, exists_eq_left', if_true, if_false, reduceCtorEq, Bool.false_eq_true, lcmp_ge, lcmp_lt, lcmp_le, lcmp_gt, lcmp_eq, true_or, or_true, not_true_eq_false, not_false_eq_true, false_implies, true_implies, List.length_cons, List.length_nil, e1, e2, e3, e5, e7, ho1]
    refine ⟨fun h => ?_, fun h => ?_⟩
    · refine ⟨⟨o, rfl, ho1⟩, call0 (gd_of rfl) ?_⟩
      refine sp_X2_part ho e4 e4 e8 (by unfold wN; omega) (by unfold wN; omega) (by unfold wN; omega) hx2 g2 hg0 ha hgb (Nat.le_refl _) (Nat.le_refl _) (Nat.le_refl _) (by omega) (by omega) (by omega) fun D3 f1 f2 => ?_
      simp only [P_X6_shorten, i_kil, i_icon, i_lcon, i_null, i_loadI, i_loadL, i_loadR, i_istore, i_lstore, i_astore, i_iinc, i_dup, i_dup2, i_pop, i_iadd, i_isub, i_imul, i_idiv, i_irem, i_ineg, i_iand, i_ior, i_ishl, i_ishr, i_lxor, i_ladd, i_lsub, i_lmul, i_ldiv, i_lrem, i_lneg, i_lshl, i_lcmp, i_i2l, i_l2i, i_i2b, i_i2s, i_ifeq, i_ifne, i_iflt, i_ifge, i_ifgt, i_ifle, i_cmpeq, i_cmpne, i_cmplt, i_cmpge, i_cmpgt, i_cmple, i_acmpeq, i_acmpne, i_ifnull, i_ifnonnull, i_getI, i_getR, i_putI, i_putZ, i_putR, i_ald, i_ldL, i_ldR, i_ast, i_stL, i_stR, i_alen, i_new, i_newa, i_iret, i_zret, i_lret, i_aret, i_vret, i_raise, i_throw, i_recv, i_objinit, i_tsw3, lget, lset, lput1, lput2, lkil, ltrim, largs, isL, takev, dropv, nthv, pushO, catv, gd, true_and, and_true, Option.some.injEq, Prod.mk.injEq, exists_eq_left', if_true, if_false, reduceCtorEq, Bool.false_eq_true, lcmp_ge, lcmp_lt, lcmp_le, lcmp_gt, lcmp_eq, true_or, or_true, not_true_eq_false, not_false_eq_true, false_implies, true_implies, List.length_cons, List.length_nil, e1, e2, e3, e5, e7, ho1]
      refine ⟨⟨o, rfl, ho1⟩, call0 (gd_of rfl) ?_⟩
      refine sp_X2_part ho e6 e6 e8 (by unfold wN; omega) (by unfold wN; omega) (by unfold wN; omega) (hy2.rO f1 (by unfold wN; omega) (by omega) (by omega) (by omega)) (g2.rO f1 (by unfold wN; omega) (by omega) (by omega) (by omega)) hg0 hb2 hgb (Nat.le_refl _) (Nat.le_refl _) (Nat.le_refl _) (by omega) (by omega) (by omega) fun D4 h1 h2 => ?_
      simp only [P_X6_shorten, i_kil, i_icon, i_lcon, i_null, i_loadI, i_loadL, i_loadR, i_istore, i_lstore, i_astore, i_iinc, i_dup, i_dup2, i_pop, i_iadd, i_isub, i_imul, i_idiv, i_irem, i_ineg, i_iand, i_ior, i_ishl, i_ishr, i_lxor, i_ladd, i_lsub, i_lmul, i_ldiv, i_lrem, i_lneg, i_lshl, i_lcmp, i_i2l, i_l2i, i_i2b, i_i2s, i_ifeq, i_ifne, i_iflt, i_ifge, i_ifgt, i_ifle, i_cmpeq, i_cmpne, i_cmplt, i_cmpge, i_cmpgt, i_cmple, i_acmpeq, i_acmpne, i_ifnull, i_ifnonnull, i_getI, i_getR, i_putI, i_putZ, i_putR, i_ald, i_ldL, i_ldR, i_ast, i_stL, i_stR, i_alen, i_new, i_newa, i_iret, i_zret, i_lret, i_aret, i_vret, i_raise, i_throw, i_recv, i_objinit, i_tsw3, lget, lset, lput1, lput2, lkil, ltrim, largs, isL, takev, dropv, nthv, pushO, catv, gd, true_and, and_true, Option.some.injEq, Prod.mk.injEq, exists_eq_left', if_true, if_false, reduceCtorEq, Bool.false_eq_true, lcmp_ge, lcmp_lt, lcmp_le, lcmp_gt, lcmp_eq, true_or, or_true, not_true_eq_false, not_false_eq_true, false_implies, true_implies, List.length_cons, List.length_nil]
      refine k D4 ((hq2.tr (f1.qO (by omega))).tr (h1.qO (by omega))) ⟨?_, ?_⟩
      · rw [l1]; exact f2.rO h1 (by unfold wN; omega) (by omega) (by omega) (by omega)
      · rw [l2]; exact h2
    · have hg1 : ((Int.gcd a b : Nat) : Int) = 1 := by
        rcases Classical.em (((Int.gcd a b : Nat) : Int) = 1) with h' | h'
        · exact h'
        · rw [if_neg h'] at h; exact absurd rfl h
      rw [hg1, Int.tdiv_one] at l1 l2
      exact k D2 hq2 ⟨by rw [l1]; exact hx2, by rw [l2]; exact hy2⟩
  have hys := wD_nn hy
  have hxs := wD_nn hx
  refine wp_in ?_
  simp only [P_X6_shorten, i_kil, i_icon, i_lcon, i_null, i_loadI, i_loadL, i_loadR, i_istore, i_lstore, i_astore, i_iinc, i_dup, i_dup2, i_pop, i_iadd, i_isub, i_imul, i_idiv, i_irem, i_ineg, i_iand, i_ior, i_ishl, i_ishr, i_lxor, i_ladd, i_lsub, i_lmul, i_ldiv, i_lrem, i_lneg, i_lshl, i_lcmp, i_i2l, i_l2i, i_i2b, i_i2s, i_ifeq, i_ifne, i_iflt, i_ifge, i_ifgt, i_ifle, i_cmpeq, i_cmpne, i_cmplt, i_cmpge, i_cmpgt, i_cmple, i_acmpeq, i_acmpne, i_ifnull, i_ifnonnull, i_getI, i_getR, i_putI, i_putZ, i_putR, i_ald, i_ldL, i_ldR, i_ast, i_stL, i_stR, i_alen, i_new, i_newa, i_iret, i_zret, i_lret, i_aret, i_vret, i_raise, i_throw, i_recv, i_objinit, i_tsw3, lget, lset, lput1, lput2, lkil, ltrim, largs, isL, takev, dropv, nthv, pushO, catv, gd, true_and, and_true, Option.some.injEq, Prod.mk.injEq, exists_eq_left', if_true, if_false, reduceCtorEq, Bool.false_eq_true, lcmp_ge, lcmp_lt, lcmp_le, lcmp_gt, lcmp_eq, true_or, or_true, not_true_eq_false, not_false_eq_true, false_implies, true_implies, List.length_cons, List.length_nil, e1, e2, e3, e5, e7, ho1, e4.1, e6.1, hys]
  refine ⟨fun h => ?_, fun h => ?_⟩
  · have hb1 : 0 < b := by rcases sgn_cases b with g | g | g <;> omega
    exact step a b D qO.refl hx hy hb1 ha hb k
  · have hb1 : b < 0 := by rcases sgn_cases b with g | g | g <;> omega
    have ex : pmu D (e + 3) 2 1 (e + 1) 2 = Int.sign a := by
      simp only [pmu]; rw [if_neg (fun h => by omega)]; exact hxs
    rw [ex]
    refine ⟨by unfold inI; rcases sgn_cases a with g | g | g <;> omega, ?_⟩
    have hy' : wD 1 2 (pmu D (e + 3) 2 1) (e + 3) (-b) := hy.abs (by decide) hb1
    have hx' : wD 1 2 (pmu D (e + 3) 2 1) (e + 1) a := hx.congr (fun i => by simp only [pmu]; rw [if_neg (fun h => by omega)]) (fun i => by simp only [pmu]; rw [if_neg (fun h => by omega)])
    refine step (-a) (-b) _ (fun c i c1 c2 => ?_) (hx'.neg (by decide)) (hy'.congr (fun i => ?_) (fun i => ?_)) (by omega) (by rw [Int.natAbs_neg]; exact ha) (by rw [Int.natAbs_neg]; exact hb) (by rw [divInt_neg_neg]; exact k)
    · simp only [pmu]; rw [if_neg (fun h => by omega), if_neg (fun h => by omega)]
    · simp only [pmu]; rw [if_neg (fun h => by omega)]
    · simp only [pmu]; rw [if_neg (fun h => by omega)]

theorem pw_mul {x y : Int} {p q : Nat} (hx : (x.natAbs : Int) < 1000000000 ^ p) (hy : (y.natAbs : Int) < 1000000000 ^ q) : ((x * y).natAbs : Int) < 1000000000 ^ (p + q) := by
  rw [Int.natAbs_mul, pw_add, Int.natCast_mul]
  rcases Int.lt_or_le 0 (y.natAbs : Int) with h | h
  · exact Int.lt_trans (Int.mul_lt_mul_of_pos_right hx h) (Int.mul_lt_mul_of_pos_left hy (pw_pos p))
  · rw [show (y.natAbs : Int) = 0 by omega, Int.mul_zero]; exact Int.mul_pos (pw_pos p) (pw_pos q)
theorem rat_mul (x y : Rat) : Rat.divInt (x.num * y.num) (x.den * y.den) = x * y := by
  rw [← Rat.divInt_mul_divInt, Rat.num_divInt_den, Rat.num_divInt_den]
theorem rat_div (x y : Rat) : Rat.divInt (x.num * y.den) (x.den * y.num) = x / y := by
  rw [← Rat.divInt_mul_divInt, Rat.num_divInt_den, ← Rat.inv_divInt, Rat.num_divInt_den, Rat.div_def]
theorem rat_add (x y : Rat) : Rat.divInt (x.num * y.den + y.num * x.den) (x.den * y.den) = x + y := by
  have h1 : ((x.den : Nat) : Int) ≠ 0 := by have := x.den_nz; omega
  have h2 : ((y.den : Nat) : Int) ≠ 0 := by have := y.den_nz; omega
  rw [← Rat.divInt_add_divInt _ _ h1 h2, Rat.num_divInt_den, Rat.num_divInt_den]
theorem rat_sub (x y : Rat) : Rat.divInt (x.num * y.den - y.num * x.den) (x.den * y.den) = x - y := by
  have h1 : ((x.den : Nat) : Int) ≠ 0 := by have := x.den_nz; omega
  have h2 : ((y.den : Nat) : Int) ≠ 0 := by have := y.den_nz; omega
  rw [← Rat.divInt_sub_divInt _ _ h1 h2, Rat.num_divInt_den, Rat.num_divInt_den]
set_option maxHeartbeats 1000000 in
theorem sp_X6_times {E : Ex} {B : Nat × Nat} {S : Stat} {D : Dat} {o e f p q : Nat} {x y : Rat} (ho : rS S o) (he : qS S o e) (hf : qS S o f) (hn : qN o e) (hn2 : qN o f) (hef : f + 8 < e ∨ e + 8 < f) (hx : qD D e x) (hy : qD D f y) (px : qB x p) (py : qB y q) (hpq : p + q ≤ 160)
    (k : ∀ D' : Dat, qO D D' o e → qD D' e (x * y) → E (.inl none) B S D') : Wp P_X6_times E 0 [some (aR e), some (aR f)] [] B S D := by
  have he0 := he
  obtain ⟨e1, e2, e3, e4, e5, e6, e7, e8, e9, e10⟩ := he
  obtain ⟨f1, f2, f3, f4, f5, f6, f7, f8, f9, f10⟩ := hf
  have ho1 := ho.1
  have hn0 := hn
  unfold qN at hn hn2
  refine wp_in ?_
  simp only [P_X6_times, i_kil, i_icon, i_lcon, i_null, i_loadI, i_loadL, i_loadR, i_istore, i_lstore, i_astore, i_iinc, i_dup, i_dup2, i_pop, i_iadd, i_isub, i_imul, i_idiv, i_irem, i_ineg, i_iand, i_ior, i_ishl, i_ishr, i_lxor, i_ladd, i_lsub, i_lmul, i_ldiv, i_lrem, i_lneg, i_lshl, i_lcmp, i_i2l, i_l2i, i_i2b, i_i2s, i_ifeq, i_ifne, i_iflt, i_ifge, i_ifgt, i_ifle, i_cmpeq, i_cmpne, i_cmplt, i_cmpge, i_cmpgt, i_cmple, i_acmpeq, i_acmpne, i_ifnull, i_ifnonnull, i_getI, i_getR, i_putI, i_putZ, i_putR, i_ald, i_ldL, i_ldR, i_ast, i_stL, i_stR, i_alen, i_new, i_newa, i_iret, i_zret, i_lret, i_aret, i_vret, i_raise, i_throw, i_recv, i_objinit, i_tsw3, lget, lset, lput1, lput2, lkil, ltrim, largs, isL, takev, dropv, nthv, pushO, catv, gd, true_and, and_true, Option.some.injEq, Prod.mk.injEq, exists_eq_left', if_true, if_false, reduceCtorEq, Bool.false_eq_true, lcmp_ge, lcmp_lt, lcmp_le, lcmp_gt, lcmp_eq, true_or, or_true, not_true_eq_false, not_false_eq_true, false_implies, true_implies, List.length_cons, List.length_nil, e1, e2, e3, e5, e7, f1, f2, f3, f5, f7, ho1]
  refine ⟨⟨o, rfl, ho1⟩, call0 (gd_of rfl) ?_⟩
  refine sp_X2_times e8 e4 f4 (by omega) (by omega) hx.1 hy.1 px.1 py.1 (by omega) (by omega) hpq (by omega) (by omega) (by omega) fun D1 g1 g2 => ?_
  simp only [P_X6_times, i_kil, i_icon, i_lcon, i_null, i_loadI, i_loadL, i_loadR, i_istore, i_lstore, i_astore, i_iinc, i_dup, i_dup2, i_pop, i_iadd, i_isub, i_imul, i_idiv, i_irem, i_ineg, i_iand, i_ior, i_ishl, i_ishr, i_lxor, i_ladd, i_lsub, i_lmul, i_ldiv, i_lrem, i_lneg, i_lshl, i_lcmp, i_i2l, i_l2i, i_i2b, i_i2s, i_ifeq, i_ifne, i_iflt, i_ifge, i_ifgt, i_ifle, i_cmpeq, i_cmpne, i_cmplt, i_cmpge, i_cmpgt, i_cmple, i_acmpeq, i_acmpne, i_ifnull, i_ifnonnull, i_getI, i_getR, i_putI, i_putZ, i_putR, i_ald, i_ldL, i_ldR, i_ast, i_stL, i_stR, i_alen, i_new, i_newa, i_iret, i_zret, i_lret, i_aret, i_vret, i_raise, i_throw, i_recv, i_objinit, i_tsw3, lget, lset, lput1, lput2, lkil, ltrim, largs, isL, takev, dropv, nthv, pushO, catv, gd, true_and, and_true, Option.some.injEq, Prod.mk.injEq, exists_eq_left', if_true, if_false, reduceCtorEq, Bool.false_eq_true, lcmp_ge, lcmp_lt, lcmp_le, lcmp_gt, lcmp_eq, true_or, or_true, not_true_eq_false, not_false_eq_true, false_implies, true_implies, List.length_cons, List.length_nil, e1, e2, e3, e5, e7, f1, f2, f3, f5, f7, ho1]
  refine ⟨⟨e + 1, rfl, e4.1⟩, call0 (gd_of rfl) ?_⟩
  have b1 := Int.lt_of_lt_of_le (pw_mul px.1 py.1) (pw_mono hpq)
  refine sp_X3_be e4 e8 (by omega) g2 b1 b1 (by omega) fun D2 h1 h2 => ?_
  simp only [P_X6_times, i_kil, i_icon, i_lcon, i_null, i_loadI, i_loadL, i_loadR, i_istore, i_lstore, i_astore, i_iinc, i_dup, i_dup2, i_pop, i_iadd, i_isub, i_imul, i_idiv, i_irem, i_ineg, i_iand, i_ior, i_ishl, i_ishr, i_lxor, i_ladd, i_lsub, i_lmul, i_ldiv, i_lrem, i_lneg, i_lshl, i_lcmp, i_i2l, i_l2i, i_i2b, i_i2s, i_ifeq, i_ifne, i_iflt, i_ifge, i_ifgt, i_ifle, i_cmpeq, i_cmpne, i_cmplt, i_cmpge, i_cmpgt, i_cmple, i_acmpeq, i_acmpne, i_ifnull, i_ifnonnull, i_getI, i_getR, i_putI, i_putZ, i_putR, i_ald, i_ldL, i_ldR, i_ast, i_stL, i_stR, i_alen, i_new, i_newa, i_iret, i_zret, i_lret, i_aret, i_vret, i_raise, i_throw, i_recv, i_objinit, i_tsw3, lget, lset, lput1, lput2, lkil, ltrim, largs, isL, takev, dropv, nthv, pushO, catv, gd, true_and, and_true, Option.some.injEq, Prod.mk.injEq, exists_eq_left', if_true, if_false, reduceCtorEq, Bool.false_eq_true, lcmp_ge, lcmp_lt, lcmp_le, lcmp_gt, lcmp_eq, true_or, or_true, not_true_eq_false, not_false_eq_true, false_implies, true_implies, List.length_cons, List.length_nil, e1, e2, e3, e5, e7, f1, f2, f3, f5, f7, ho1]
  refine ⟨⟨o, rfl, ho1⟩, call0 (gd_of rfl) ?_⟩
  have b2 := Int.lt_of_lt_of_le (pw_mul px.den py.den) (pw_mono hpq)
  have o2 : qO D D2 o e := (g1.qO (o := o) (e := e) (by omega)).tr (h1.qO (by omega))
  have hy2 := hy.qO o2 hn2 hef
  have hx2 : wD 1 2 D2 (e + 3) (x.den : Int) := hx.2.congr (fun i => by rw [h1 _ i (by omega) (by omega), g1 _ i (by omega) (by omega)]) (fun i => by rw [h1 _ i (by omega) (by omega), g1 _ i (by omega) (by omega)])
  refine sp_X2_times e8 e6 f6 (by omega) (by omega) hx2 hy2.2 px.den py.den (by omega) (by omega) hpq (by omega) (by omega) (by omega) fun D3 i1 i2 => ?_
  simp only [P_X6_times, i_kil, i_icon, i_lcon, i_null, i_loadI, i_loadL, i_loadR, i_istore, i_lstore, i_astore, i_iinc, i_dup, i_dup2, i_pop, i_iadd, i_isub, i_imul, i_idiv, i_irem, i_ineg, i_iand, i_ior, i_ishl, i_ishr, i_lxor, i_ladd, i_lsub, i_lmul, i_ldiv, i_lrem, i_lneg, i_lshl, i_lcmp, i_i2l, i_l2i, i_i2b, i_i2s, i_ifeq, i_ifne, i_iflt, i_ifge, i_ifgt, i_ifle, i_cmpeq, i_cmpne, i_cmplt, i_cmpge, i_cmpgt, i_cmple, i_acmpeq, i_acmpne, i_ifnull, i_ifnonnull, i_getI, i_getR, i_putI, i_putZ, i_putR, i_ald, i_ldL, i_ldR, i_ast, i_stL, i_stR, i_alen, i_new, i_newa, i_iret, i_zret, i_lret, i_aret, i_vret, i_raise, i_throw, i_recv, i_objinit, i_tsw3, lget, lset, lput1, lput2, lkil, ltrim, largs, isL, takev, dropv, nthv, pushO, catv, gd, true_and, and_true, Option.some.injEq, Prod.mk.injEq, exists_eq_left', if_true, if_false, reduceCtorEq, Bool.false_eq_true, lcmp_ge, lcmp_lt, lcmp_le, lcmp_gt, lcmp_eq, true_or, or_true, not_true_eq_false, not_false_eq_true, false_implies, true_implies, List.length_cons, List.length_nil, e1, e2, e3, e5, e7, f1, f2, f3, f5, f7, ho1]
  refine ⟨⟨e + 3, rfl, e6.1⟩, call0 (gd_of rfl) ?_⟩
  refine sp_X3_be e6 e8 (by omega) i2 b2 b2 (by omega) fun D4 j1 j2 => ?_
  simp only [P_X6_times, i_kil, i_icon, i_lcon, i_null, i_loadI, i_loadL, i_loadR, i_istore, i_lstore, i_astore, i_iinc, i_dup, i_dup2, i_pop, i_iadd, i_isub, i_imul, i_idiv, i_irem, i_ineg, i_iand, i_ior, i_ishl, i_ishr, i_lxor, i_ladd, i_lsub, i_lmul, i_ldiv, i_lrem, i_lneg, i_lshl, i_lcmp, i_i2l, i_l2i, i_i2b, i_i2s, i_ifeq, i_ifne, i_iflt, i_ifge, i_ifgt, i_ifle, i_cmpeq, i_cmpne, i_cmplt, i_cmpge, i_cmpgt, i_cmple, i_acmpeq, i_acmpne, i_ifnull, i_ifnonnull, i_getI, i_getR, i_putI, i_putZ, i_putR, i_ald, i_ldL, i_ldR, i_ast, i_stL, i_stR, i_alen, i_new, i_newa, i_iret, i_zret, i_lret, i_aret, i_vret, i_raise, i_throw, i_recv, i_objinit, i_tsw3, lget, lset, lput1, lput2, lkil, ltrim, largs, isL, takev, dropv, nthv, pushO, catv, gd, true_and, and_true, Option.some.injEq, Prod.mk.injEq, exists_eq_left', if_true, if_false, reduceCtorEq, Bool.false_eq_true, lcmp_ge, lcmp_lt, lcmp_le, lcmp_gt, lcmp_eq, true_or, or_true, not_true_eq_false, not_false_eq_true, false_implies, true_implies, List.length_cons, List.length_nil, e1, e2, e3, e5, e7, f1, f2, f3, f5, f7, ho1]
  refine ⟨⟨e, rfl, e1⟩, call0 (gd_of rfl) ?_⟩
  have o4 : qO D D4 o e := (o2.tr (i1.qO (by omega))).tr (j1.qO (by omega))
  refine sp_X6_shorten ho he0 hn0 (h2.congr (fun i => by rw [j1 _ i (by omega) (by omega), i1 _ i (by omega) (by omega)]) (fun i => by rw [j1 _ i (by omega) (by omega), i1 _ i (by omega) (by omega)])) j2 (fun h => ?_) b1 b2 fun D5 k1 k2 => ?_
  · have d1 := x.den_nz
    have d2 := y.den_nz
    rcases Int.mul_eq_zero.mp h with h | h <;> omega
  · simp only [P_X6_times, i_kil, i_icon, i_lcon, i_null, i_loadI, i_loadL, i_loadR, i_istore, i_lstore, i_astore, i_iinc, i_dup, i_dup2, i_pop, i_iadd, i_isub, i_imul, i_idiv, i_irem, i_ineg, i_iand, i_ior, i_ishl, i_ishr, i_lxor, i_ladd, i_lsub, i_lmul, i_ldiv, i_lrem, i_lneg, i_lshl, i_lcmp, i_i2l, i_l2i, i_i2b, i_i2s, i_ifeq, i_ifne, i_iflt, i_ifge, i_ifgt, i_ifle, i_cmpeq, i_cmpne, i_cmplt, i_cmpge, i_cmpgt, i_cmple, i_acmpeq, i_acmpne, i_ifnull, i_ifnonnull, i_getI, i_getR, i_putI, i_putZ, i_putR, i_ald, i_ldL, i_ldR, i_ast, i_stL, i_stR, i_alen, i_new, i_newa, i_iret, i_zret, i_lret, i_aret, i_vret, i_raise, i_throw, i_recv, i_objinit, i_tsw3, lget, lset, lput1, lput2, lkil, ltrim, largs, isL, takev, dropv, nthv, pushO, catv, gd, true_and, and_true, Option.some.injEq, Prod.mk.injEq, exists_eq_left', if_true, if_false, reduceCtorEq, Bool.false_eq_true, lcmp_ge, lcmp_lt, lcmp_le, lcmp_gt, lcmp_eq, true_or, or_true, not_true_eq_false, not_false_eq_true, false_implies, true_implies, List.length_cons, List.length_nil]
    rw [rat_mul] at k2
    exact k D5 (o4.tr k1) k2
set_option maxHeartbeats 1000000 in
theorem sp_X6_over {E : Ex} {B : Nat × Nat} {S : Stat} {D : Dat} {o e f p q : Nat} {x y : Rat} (ho : rS S o) (he : qS S o e) (hf : qS S o f) (hn : qN o e) (hn2 : qN o f) (hef : f + 8 < e ∨ e + 8 < f) (hx : qD D e x) (hy : qD D f y) (hy0 : y ≠ 0) (px : qB x p) (py : qB y q) (hpq : p + q ≤ 160)
    (k : ∀ D' : Dat, qO D D' o e → qD D' e (x / y) → E (.inl none) B S D') : Wp P_X6_over E 0 [some (aR e), some (aR f)] [] B S D := by
  have he0 := he
  obtain ⟨e1, e2, e3, e4, e5, e6, e7, e8, e9, e10⟩ := he
  obtain ⟨f1, f2, f3, f4, f5, f6, f7, f8, f9, f10⟩ := hf
  have ho1 := ho.1
  have hn0 := hn
  unfold qN at hn hn2
  refine wp_in ?_
  simp only [P_X6_over, i_kil, i_icon, i_lcon, i_null, i_loadI, i_loadL, i_loadR, i_istore, i_lstore, i_astore, i_iinc, i_dup, i_dup2, i_pop, i_iadd, i_isub, i_imul, i_idiv, i_irem, i_ineg, i_iand, i_ior, i_ishl, i_ishr, i_lxor, i_ladd, i_lsub, i_lmul, i_ldiv, i_lrem, i_lneg, i_lshl, i_lcmp, i_i2l, i_l2i, i_i2b, i_i2s, i_ifeq, i_ifne, i_iflt, i_ifge, i_ifgt, i_ifle, i_cmpeq, i_cmpne, i_cmplt, i_cmpge, i_cmpgt, i_cmple, i_acmpeq, i_acmpne, i_ifnull, i_ifnonnull, i_getI, i_getR, i_putI, i_putZ, i_putR, i_ald, i_ldL, i_ldR, i_ast, i_stL, i_stR, i_alen, i_new, i_newa, i_iret, i_zret, i_lret, i_aret, i_vret, i_raise, i_throw, i_recv, i_objinit, i_tsw3, lget, lset, lput1, lput2, lkil, ltrim, largs, isL, takev, dropv, nthv, pushO, catv, gd, true_and, and_true, Option.some.injEq, Prod.mk.injEq, exists_eq_left', if_true, if_false, reduceCtorEq, Bool.false_eq_true, lcmp_ge, lcmp_lt, lcmp_le, lcmp_gt, lcmp_eq, true_or, or_true, not_true_eq_false, not_false_eq_true, false_implies, true_implies, List.length_cons, List.length_nil, e1, e2, e3, e5, e7, e9, f1, f2, f3, f5, f7, ho1]
  refine ⟨⟨o, rfl, ho1⟩, call0 (gd_of rfl) ?_⟩
  refine sp_X2_times e8 e4 f6 (by omega) (by omega) hx.1 hy.2 px.1 py.den (by omega) (by omega) hpq (by omega) (by omega) (by omega) fun D1 g1 g2 => ?_
  simp only [P_X6_over, i_kil, i_icon, i_lcon, i_null, i_loadI, i_loadL, i_loadR, i_istore, i_lstore, i_astore, i_iinc, i_dup, i_dup2, i_pop, i_iadd, i_isub, i_imul, i_idiv, i_irem, i_ineg, i_iand, i_ior, i_ishl, i_ishr, i_lxor, i_ladd, i_lsub, i_lmul, i_ldiv, i_lrem, i_lneg, i_lshl, i_lcmp, i_i2l, i_l2i, i_i2b, i_i2s, i_ifeq, i_ifne, i_iflt, i_ifge, i_ifgt, i_ifle, i_cmpeq, i_cmpne, i_cmplt, i_cmpge, i_cmpgt, i_cmple, i_acmpeq, i_acmpne, i_ifnull, i_ifnonnull, i_getI, i_getR, i_putI, i_putZ, i_putR, i_ald, i_ldL, i_ldR, i_ast, i_stL, i_stR, i_alen, i_new, i_newa, i_iret, i_zret, i_lret, i_aret, i_vret, i_raise, i_throw, i_recv, i_objinit, i_tsw3, lget, lset, lput1, lput2, lkil, ltrim, largs, isL, takev, dropv, nthv, pushO, catv, gd, true_and, and_true, Option.some.injEq, Prod.mk.injEq, exists_eq_left', if_true, if_false, reduceCtorEq, Bool.false_eq_true, lcmp_ge, lcmp_lt, lcmp_le, lcmp_gt, lcmp_eq, true_or, or_true, not_true_eq_false, not_false_eq_true, false_implies, true_implies, List.length_cons, List.length_nil, e1, e2, e3, e5, e7, e9, f1, f2, f3, f5, f7, ho1]
  refine ⟨⟨o, rfl, ho1⟩, call0 (gd_of rfl) ?_⟩
  have b1 := Int.lt_of_lt_of_le (pw_mul px.1 py.den) (pw_mono hpq)
  have b2 := Int.lt_of_lt_of_le (pw_mul px.den py.1) (pw_mono hpq)
  have hy2 := hy.qO (g1.qO (o := o) (e := e) (by omega)) hn2 hef
  have hx2 : wD 1 2 D1 (e + 3) (x.den : Int) := hx.2.congr (fun i => by rw [g1 _ i (by omega) (by omega)]) (fun i => by rw [g1 _ i (by omega) (by omega)])
  refine sp_X2_times e10 e6 f4 (by omega) (by omega) hx2 hy2.1 px.den py.1 (by omega) (by omega) hpq (by omega) (by omega) (by omega) fun D2 h1 h2 => ?_
  simp only [P_X6_over, i_kil, i_icon, i_lcon, i_null, i_loadI, i_loadL, i_loadR, i_istore, i_lstore, i_astore, i_iinc, i_dup, i_dup2, i_pop, i_iadd, i_isub, i_imul, i_idiv, i_irem, i_ineg, i_iand, i_ior, i_ishl, i_ishr, i_lxor, i_ladd, i_lsub, i_lmul, i_ldiv, i_lrem, i_lneg, i_lshl, i_lcmp, i_i2l, i_l2i, i_i2b, i_i2s, i_ifeq, i_ifne, i_iflt, i_ifge, i_ifgt, i_ifle, i_cmpeq, i_cmpne, i_cmplt, i_cmpge, i_cmpgt, i_cmple, i_acmpeq, i_acmpne, i_ifnull, i_ifnonnull, i_getI, i_getR, i_putI, i_putZ, i_putR, i_ald, i_ldL, i_ldR, i_ast, i_stL, i_stR, i_alen, i_new, i_newa, i_iret, i_zret, i_lret, i_aret, i_vret, i_raise, i_throw, i_recv, i_objinit, i_tsw3, lget, lset, lput1, lput2, lkil, ltrim, largs, isL, takev, dropv, nthv, pushO, catv, gd, true_and, and_true, Option.some.injEq, Prod.mk.injEq, exists_eq_left', if_true, if_false, reduceCtorEq, Bool.false_eq_true, lcmp_ge, lcmp_lt, lcmp_le, lcmp_gt, lcmp_eq, true_or, or_true, not_true_eq_false, not_false_eq_true, false_implies, true_implies, List.length_cons, List.length_nil, e1, e2, e3, e5, e7, e9, f1, f2, f3, f5, f7, ho1]
  refine ⟨⟨e + 1, rfl, e4.1⟩, call0 (gd_of rfl) ?_⟩
  refine sp_X3_be e4 e8 (by omega) (g2.congr (fun i => h1 _ i (by omega) (by omega)) (fun i => h1 _ i (by omega) (by omega))) b1 b1 (by omega) fun D3 i1 i2 => ?_
  simp only [P_X6_over, i_kil, i_icon, i_lcon, i_null, i_loadI, i_loadL, i_loadR, i_istore, i_lstore, i_astore, i_iinc, i_dup, i_dup2, i_pop, i_iadd, i_isub, i_imul, i_idiv, i_irem, i_ineg, i_iand, i_ior, i_ishl, i_ishr, i_lxor, i_ladd, i_lsub, i_lmul, i_ldiv, i_lrem, i_lneg, i_lshl, i_lcmp, i_i2l, i_l2i, i_i2b, i_i2s, i_ifeq, i_ifne, i_iflt, i_ifge, i_ifgt, i_ifle, i_cmpeq, i_cmpne, i_cmplt, i_cmpge, i_cmpgt, i_cmple, i_acmpeq, i_acmpne, i_ifnull, i_ifnonnull, i_getI, i_getR, i_putI, i_putZ, i_putR, i_ald, i_ldL, i_ldR, i_ast, i_stL, i_stR, i_alen, i_new, i_newa, i_iret, i_zret, i_lret, i_aret, i_vret, i_raise, i_throw, i_recv, i_objinit, i_tsw3, lget, lset, lput1, lput2, lkil, ltrim, largs, isL, takev, dropv, nthv, pushO, catv, gd, true_and, and_true, Option.some.injEq, Prod.mk.injEq, exists_eq_left', if_true, if_false, reduceCtorEq, Bool.false_eq_true, lcmp_ge, lcmp_lt, lcmp_le, lcmp_gt, lcmp_eq, true_or, or_true, not_true_eq_false, not_false_eq_true, false_implies, true_implies, List.length_cons, List.length_nil, e1, e2, e3, e5, e7, e9, f1, f2, f3, f5, f7, ho1]
  refine ⟨⟨e + 3, rfl, e6.1⟩, call0 (gd_of rfl) ?_⟩
  refine sp_X3_be e6 e10 (by omega) (h2.congr (fun i => i1 _ i (by omega) (by omega)) (fun i => i1 _ i (by omega) (by omega))) b2 b2 (by omega) fun D4 j1 j2 => ?_
  simp only [P_X6_over, i_kil, i_icon, i_lcon, i_null, i_loadI, i_loadL, i_loadR, i_istore, i_lstore, i_astore, i_iinc, i_dup, i_dup2, i_pop, i_iadd, i_isub, i_imul, i_idiv, i_irem, i_ineg, i_iand, i_ior, i_ishl, i_ishr, i_lxor, i_ladd, i_lsub, i_lmul, i_ldiv, i_lrem, i_lneg, i_lshl, i_lcmp, i_i2l, i_l2i, i_i2b, i_i2s, i_ifeq, i_ifne, i_iflt, i_ifge, i_ifgt, i_ifle, i_cmpeq, i_cmpne, i_cmplt, i_cmpge, i_cmpgt, i_cmple, i_acmpeq, i_acmpne, i_ifnull, i_ifnonnull, i_getI, i_getR, i_putI, i_putZ, i_putR, i_ald, i_ldL, i_ldR, i_ast, i_stL, i_stR, i_alen, i_new, i_newa, i_iret, i_zret, i_lret, i_aret, i_vret, i_raise, i_throw, i_recv, i_objinit, i_tsw3, lget, lset, lput1, lput2, lkil, ltrim, largs, isL, takev, dropv, nthv, pushO, catv, gd, true_and, and_true, Option.some.injEq, Prod.mk.injEq, exists_eq_left', if_true, if_false, reduceCtorEq, Bool.false_eq_true, lcmp_ge, lcmp_lt, lcmp_le, lcmp_gt, lcmp_eq, true_or, or_true, not_true_eq_false, not_false_eq_true, false_implies, true_implies, List.length_cons, List.length_nil, e1, e2, e3, e5, e7, e9, f1, f2, f3, f5, f7, ho1]
  refine ⟨⟨e, rfl, e1⟩, call0 (gd_of rfl) ?_⟩
  have o4 : qO D D4 o e := (((g1.qO (o := o) (e := e) (by omega)).tr (h1.qO (by omega))).tr (i1.qO (by omega))).tr (j1.qO (by omega))
  refine sp_X6_shorten ho he0 hn0 (i2.congr (fun i => j1 _ i (by omega) (by omega)) (fun i => j1 _ i (by omega) (by omega))) j2 (fun h => ?_) b1 b2 fun D5 k1 k2 => ?_
  · have d1 := x.den_nz
    rcases Int.mul_eq_zero.mp h with h | h
    · omega
    · exact hy0 (Rat.num_eq_zero.mp h)
  · simp only [P_X6_over, i_kil, i_icon, i_lcon, i_null, i_loadI, i_loadL, i_loadR, i_istore, i_lstore, i_astore, i_iinc, i_dup, i_dup2, i_pop, i_iadd, i_isub, i_imul, i_idiv, i_irem, i_ineg, i_iand, i_ior, i_ishl, i_ishr, i_lxor, i_ladd, i_lsub, i_lmul, i_ldiv, i_lrem, i_lneg, i_lshl, i_lcmp, i_i2l, i_l2i, i_i2b, i_i2s, i_ifeq, i_ifne, i_iflt, i_ifge, i_ifgt, i_ifle, i_cmpeq, i_cmpne, i_cmplt, i_cmpge, i_cmpgt, i_cmple, i_acmpeq, i_acmpne, i_ifnull, i_ifnonnull, i_getI, i_getR, i_putI, i_putZ, i_putR, i_ald, i_ldL, i_ldR, i_ast, i_stL, i_stR, i_alen, i_new, i_newa, i_iret, i_zret, i_lret, i_aret, i_vret, i_raise, i_throw, i_recv, i_objinit, i_tsw3, lget, lset, lput1, lput2, lkil, ltrim, largs, isL, takev, dropv, nthv, pushO, catv, gd, true_and, and_true, Option.some.injEq, Prod.mk.injEq, exists_eq_left', if_true, if_false, reduceCtorEq, Bool.false_eq_true, lcmp_ge, lcmp_lt, lcmp_le, lcmp_gt, lcmp_eq, true_or, or_true, not_true_eq_false, not_false_eq_true, false_implies, true_implies, List.length_cons, List.length_nil]
    rw [rat_div] at k2
    exact k D5 (o4.tr k1) k2
