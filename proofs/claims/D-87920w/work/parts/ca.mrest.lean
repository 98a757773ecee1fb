/-! the model's rest of a member, its way: sums over the rows in any order -/
set_option maxRecDepth 100000
set_option linter.unusedVariables false
def rsum (f : Nat → Rat) : Nat → Rat
  | 0 => 0
  | n + 1 => rsum f n + f n
theorem rsum_congr {f g : Nat → Rat} : ∀ n, (∀ k, k < n → f k = g k) → rsum f n = rsum g n := by
  intro n
  induction n with
  | zero => intro _; rfl
  | succ n ih => intro h; simp only [rsum]; rw [ih fun k hk => h k (by omega), h n (by omega)]
theorem rsum_upd {f g : Nat → Rat} {p : Nat} : ∀ n, p < n → (∀ k, k < n → k ≠ p → f k = g k) → rsum f n + g p = rsum g n + f p := by
  intro n
  induction n with
  | zero => intro h; omega
  | succ n ih =>
    intro hp h
    simp only [rsum]
    by_cases w : p = n
    · subst w
      rw [rsum_congr p fun k hk => h k (by omega) (by omega)]
      grind
    · have h1 := ih (by omega) fun k hk hne => h k (by omega) hne
      rw [h n (by omega) (fun x => w x.symm)]
      grind
/-- a sum over a row in another order -/
theorem rsum_perm {f : Nat → Rat} : ∀ (n : Nat) (σ : Nat → Nat), (∀ k, k < n → σ k < n) → (∀ i j, i < j → j < n → σ i ≠ σ j) → rsum (fun k => f (σ k)) n = rsum f n := by
  intro n
  induction n with
  | zero => intro σ _ _; rfl
  | succ n ih =>
    intro σ h1 h2
    have hp : ∃ p, p < n + 1 ∧ σ p = n := Classical.byContradiction fun w => by
      obtain ⟨i, j, hij, hj, he⟩ := pigeon n (n + 1) σ (by omega) fun i hi => by
        have a := h1 i hi
        have b : σ i ≠ n := fun q => w ⟨i, hi, q⟩
        omega
      exact h2 i j hij hj he
    obtain ⟨p, hp, hpn⟩ := hp
    by_cases w : p = n
    · subst w
      simp only [rsum]
      rw [hpn, ih σ (fun k hk => by
        have a := h1 k (by omega)
        have b := h2 k p hk (by omega)
        omega) fun i j hij hj => h2 i j hij (by omega)]
    · have h3 := ih (fun k => if k = p then σ n else σ k) (fun k hk => by
        show (if k = p then σ n else σ k) < n
        by_cases q : k = p
        · rw [if_pos q]
          have a := h1 n (by omega)
          have b := h2 p n (by omega) (by omega)
          omega
        · rw [if_neg q]
          have a := h1 k (by omega)
          rcases Nat.lt_trichotomy k p with x | x | x
          · have b := h2 k p x hp; omega
          · exact absurd x q
          · have b := h2 p k x (by omega); omega) fun i j hij hj => by
        show (if i = p then σ n else σ i) ≠ (if j = p then σ n else σ j)
        by_cases q : i = p
        · rw [if_pos q, if_neg (by omega)]; exact fun x => h2 j n hj (by omega) x.symm
        · rw [if_neg q]
          by_cases q2 : j = p
          · rw [if_pos q2]; exact h2 i n (by omega) (by omega)
          · rw [if_neg q2]; exact h2 i j hij (by omega)
      have h4 := rsum_upd (f := fun k => f (if k = p then σ n else σ k)) (g := fun k => f (σ k)) (p := p) n (by omega) fun k hk hne => by
        show f (if k = p then σ n else σ k) = f (σ k)
        rw [if_neg hne]
      have h4' : rsum (fun k => f (if k = p then σ n else σ k)) n + f (σ p) = rsum (fun k => f (σ k)) n + f (if p = p then σ n else σ p) := h4
      rw [if_pos rfl, hpn] at h4'
      simp only [rsum]
      have h3' : rsum (fun k => f (if k = p then σ n else σ k)) n = rsum f n := h3
      rw [h3'] at h4'
      exact h4'.symm
theorem xred_rsum (R : Nat → xV) (P : Nat → Nat) (v : xV) (i : Nat) : ∀ k, xred R P v k i = v i - rsum (fun r => v (P r) * R r i) k := by
  intro k
  induction k with
  | zero => simp only [xred, rsum]; grind
  | succ k ih => simp only [xred, rsum]; rw [ih]; grind
theorem spSo.perm {c g : Nat} {st : spst} {σ : Nat → Nat} (ho : ordOK c g) (h : spSo c g st σ) : ∀ i j, i < j → j < st.1 → σ i ≠ σ j := fun i j hij hj e => by
  have := h.2 i j hij hj
  rw [e, rank_self ho] at this
  omega
/-- the model's rest after k rows -/
def mrst (st : spst) (σ : Nat → Nat) (φ : Nat → Rat) : Nat → Nat → Rat
  | 0 => φ
  | k + 1 => fun t => mrst st σ φ k t - φ (spLd st σ k) * spEl st σ k t
theorem mrst_rsum (st : spst) (σ : Nat → Nat) (φ : Nat → Rat) (t : Nat) : ∀ k, mrst st σ φ k t = φ t - rsum (fun r => φ (spLd st σ r) * spEl st σ r t) k := by
  intro k
  induction k with
  | zero => simp only [mrst, rsum]; grind
  | succ k ih => simp only [mrst, rsum]; rw [ih]; grind
theorem mrst_all {c g : Nat} {st : spst} {σ : Nat → Nat} {φ : Nat → Rat} (ho : ordOK c g) (hO : spOK st) (hs : spSo c g st σ) {t : Nat} (ht : t < 455) : mrst st σ φ st.1 t = spRest st φ t := by
  rw [mrst_rsum]
  unfold spRest
  rw [if_pos ht, xred_rsum]
  have e0 : spP φ t = φ t := by unfold spP; rw [if_pos ht]
  rw [e0]
  congr 1
  have h1 := rsum_perm (f := fun r => φ (st.2.2.1 r) * st.2.1 r t) st.1 σ hs.1 (hs.perm ho)
  have e1 : rsum (fun r => φ (spLd st σ r) * spEl st σ r t) st.1 = rsum (fun k => (fun r => φ (st.2.2.1 r) * st.2.1 r t) (σ k)) st.1 := rsum_congr st.1 fun k hk => by
    show φ (st.2.2.1 (σ k)) * (if t < 455 then st.2.1 (σ k) t else 0) = _
    rw [if_pos ht]
  rw [e1, h1]
  refine rsum_congr st.1 fun k hk => ?_
  have := (hO.piv hk).1
  unfold spP
  rw [if_pos this]
/-- a small whole number times a row's number, and sums of such, are whole and small over the divisor -/
theorem msum_bd {st : spst} {σ : Nat → Nat} {φ : Nat → Rat} {H : Int} (hφ : spSm φ) (hl : ∀ k, k < st.1 → spLd st σ k < 455) {f : Nat → Rat} (hf : ∀ k, k < st.1 → ∃ z : Int, (z : Rat) = st.2.2.2.1 * f k ∧ (z.natAbs : Int) < H) (hH : 0 < H) : ∀ k, k ≤ st.1 → ∃ z : Int, (z : Rat) = st.2.2.2.1 * rsum (fun r => φ (spLd st σ r) * f r) k ∧ (z.natAbs : Int) ≤ 999 * k * H := by
  intro k
  induction k with
  | zero => intro _; exact ⟨0, by simp only [rsum]; show (0 : Rat) = _; grind, by simp⟩
  | succ k ih =>
    intro hk
    obtain ⟨z, z1, z2⟩ := ih (by omega)
    obtain ⟨y, y1, y2⟩ := hf k (by omega)
    obtain ⟨p1, p2⟩ := hφ.1 _ (hl k (by omega))
    have e := rat_num p1
    refine ⟨z + (φ (spLd st σ k)).num * y, ?_, ?_⟩
    · simp only [rsum]
      rw [Rat.intCast_add, Rat.intCast_mul, z1, y1, ← e]; grind
    · have h1 : ((φ (spLd st σ k)).num * y).natAbs ≤ 999 * y.natAbs := by
        rw [Int.natAbs_mul]; exact Nat.mul_le_mul_right _ (by omega)
      have e2 : 999 * ((k + 1 : Nat) : Int) * H = 999 * (k : Int) * H + 999 * H := by
        rw [show ((k + 1 : Nat) : Int) = (k : Int) + 1 by omega]; grind
      rw [e2]
      generalize 999 * (k : Int) * H = Q at *
      generalize (φ (spLd st σ k)).num * y = Y at *
      omega
theorem fit_of {st : spst} (hO : spOK st) {x : Rat} {z : Int} (h : (z : Rat) = st.2.2.2.1 * x) (hz : (z.natAbs : Int) < 1000000000 ^ 12) : qfit x := by
  obtain ⟨d, d1, d2, d3⟩ := hO.div
  have hd0 : (d : Rat) ≠ 0 := fun w => d2 (Rat.intCast_inj.mp w)
  have e : x = Rat.divInt z d := by
    rw [Rat.divInt_eq_div, h, ← d1, Rat.div_def]
    have : (d : Rat) * (d : Rat)⁻¹ = 1 := Rat.mul_inv_cancel _ hd0
    grind
  rw [e]
  exact qB_fit (p := 12) (qB_div d2 hz (Int.lt_of_lt_of_le d3 (pw_mono (by omega)))) (by omega)
theorem mrst_fit {c g : Nat} {st : spst} {σ : Nat → Nat} {φ : Nat → Rat} (hO : spOK st) (hs : spSo c g st σ) (hφ : spSm φ) {t : Nat} (ht : t < 455) {k : Nat} (hk : k ≤ st.1) : qfit (mrst st σ φ k t) := by
  have hH := pw_pos 11
  have hk35 := hO.1
  obtain ⟨z, z1, z2⟩ := msum_bd (H := 1000000000 ^ 11) hφ (fun k hk => (spLd_lt hO hs hk).1) (f := fun r => spEl st σ r t) (fun k hk => by
    obtain ⟨y, y1, y2⟩ := hO.cell (r := σ k) (i := t) (hs.1 k hk) (by omega)
    exact ⟨y, by show _ = st.2.2.2.1 * (if t < 455 then st.2.1 (σ k) t else 0); rw [if_pos ht]; exact y1, y2⟩) hH k hk
  obtain ⟨d, d1, d2, d3⟩ := hO.div
  obtain ⟨p1, p2⟩ := hφ.1 t ht
  have e := rat_num p1
  refine fit_of hO (z := d * (φ t).num - z) ?_ ?_
  · rw [mrst_rsum, Rat.intCast_sub, Rat.intCast_mul, z1, d1, ← e]; grind
  · have h1 : (d * (φ t).num).natAbs ≤ d.natAbs * 999 := by
      rw [Int.natAbs_mul]; exact Nat.mul_le_mul_left _ (by omega)
    have e2 : (1000000000 : Int) ^ 12 = 1000000000 * 1000000000 ^ 11 := pw_succ 11
    rw [e2]
    generalize (1000000000 : Int) ^ 11 = H at *
    have h2 : 999 * (k : Int) * H ≤ 999 * 35 * H := Int.mul_le_mul_of_nonneg_right (by omega) (by omega)
    generalize d * (φ t).num = Y at *
    omega
/-- a used multiple's share after k rows -/
def mway (st : spst) (σ : Nat → Nat) (φ : Nat → Rat) (u k : Nat) : Rat := rsum (fun r => φ (spLd st σ r) * st.2.1 (σ r) (455 + u)) k
theorem mway_all {c g : Nat} {st : spst} {σ : Nat → Nat} {φ : Nat → Rat} (ho : ordOK c g) (hs : spSo c g st σ) {u : Nat} : mway st σ φ u st.1 = spWv st φ u st.1 := by
  unfold mway
  have h1 := rsum_perm (f := fun r => φ (st.2.2.1 r) * st.2.1 r (455 + u)) st.1 σ hs.1 (hs.perm ho)
  have e : ∀ k, spWv st φ u k = rsum (fun r => φ (st.2.2.1 r) * st.2.1 r (455 + u)) k := fun k => by
    induction k with
    | zero => rfl
    | succ k ih => simp only [spWv, rsum]; rw [ih]
  rw [e]
  exact h1
theorem mway_fit {c g : Nat} {st : spst} {σ : Nat → Nat} {φ : Nat → Rat} (hO : spOK st) (hs : spSo c g st σ) (hφ : spSm φ) {u : Nat} (hu : u < 35) {k : Nat} (hk : k ≤ st.1) : qfit (mway st σ φ u k) := by
  have hH := pw_pos 11
  have hk35 := hO.1
  obtain ⟨z, z1, z2⟩ := msum_bd (H := 1000000000 ^ 11) hφ (fun k hk => (spLd_lt hO hs hk).1) (f := fun r => st.2.1 (σ r) (455 + u)) (fun k hk => hO.cell (hs.1 k hk) (by omega)) hH k hk
  refine fit_of hO (z := z) z1 ?_
  have e2 : (1000000000 : Int) ^ 12 = 1000000000 * 1000000000 ^ 11 := pw_succ 11
  rw [e2]
  generalize (1000000000 : Int) ^ 11 = H at *
  have h2 : 999 * (k : Int) * H ≤ 999 * 35 * H := Int.mul_le_mul_of_nonneg_right (by omega) (by omega)
  omega
/-- where a polynomial has a term -/
theorem find_at {E : Ex} {B : Nat × Nat} {S : Stat} {D : Dat} {p n t : Nat} {φ : Nat → Rat} {e : Nat → Nat} {x : Int} (hp : mpS S p) (hD : mpD D p φ n e) (ht : t < 455) (hx : x = tcode t)
    (K0 : φ t = 0 → E (.inl (some (.inl (-1)))) B S D) (K1 : ∀ j : Nat, j < n → e j = t → E (.inl (some (.inl (j : Int)))) B S D) : Wp P_X16_find E 0 [some (aR p), some (aI x)] [] B S D := by
  subst hx
  obtain ⟨p1, p2, p3, p4, p5, p6, p7⟩ := hp
  obtain ⟨f1, f2, f3, f4, f5, f6⟩ := hD
  have loop : ∀ (L j : Nat), j + L = n → (∀ i, i < j → e i ≠ t) → Wp P_X16_find E 1 [some (aR p), some (aI (tcode t)), some (aI j)] [] B S D := by
    intro L
    induction L with
    | zero =>
      intro j hj h
      refine wp_in ?_
      simp only [P_X16_find, i_kil, i_icon, i_lcon, i_null, i_loadI, i_loadL, i_loadR, i_istore, i_lstore, i_astore, i_iinc, i_dup, i_dup2, i_pop, i_iadd, i_isub, i_imul, i_idiv, i_irem, i_ineg, i_iand, i_ior, i_ishl, i_ishr, i_lxor, i_ladd, i_lsub, i_lmul, i_ldiv, i_lrem, i_lneg, i_lshl, i_lcmp, i_i2l, i_l2i, i_i2b, i_i2s, i_ifeq, i_ifne, i_iflt, i_ifge, i_ifgt, i_ifle, i_cmpeq, i_cmpne, i_cmplt, i_cmpge, i_cmpgt, i_cmple, i_acmpeq, i_acmpne, i_ifnull, i_ifnonnull, i_getI, i_getR, i_putI, i_putZ, i_putR, i_ald, i_ldL, i_ldR, i_ast, i_stL, i_stR, i_alen, i_new, i_newa, i_iret, i_zret, i_lret, i_aret, i_vret, i_raise, i_throw, i_recv, i_objinit, i_tsw3, lget, lset, lput1, lput2, lkil, ltrim, largs, isL, takev, dropv, nthv, pushO, catv, gd, true_and, and_true, Option.some.injEq, Prod.mk.injEq, exists_eq_left', if_true, if_false, reduceCtorEq, Bool.false_eq_true, lcmp_ge, lcmp_lt, lcmp_le, lcmp_gt, lcmp_eq, true_or, or_true, not_true_eq_false, not_false_eq_true, false_implies, true_implies, List.length_cons, List.length_nil, p1, f2]
      repeat (first | refine ⟨in_small (by omega) (by omega), ?_⟩ | (show (_ → _) ∧ (_ → _); first | refine ⟨by omega, fun _ => ?_⟩ | refine ⟨fun _ => ?_, by omega⟩) | refine ⟨by omega, ?_⟩ | refine ⟨⟨_, rfl, by assumption⟩, ?_⟩ | refine ⟨okT_I _, ?_⟩ | refine ⟨okT_S (by omega) (by omega), ?_⟩ | refine ⟨okT_B (by omega) (by omega), ?_⟩ | refine call0 (gd_of rfl) ?_)
      exact K0 (f5 t ht fun i hi => h i (by omega))
    | succ L ih =>
      intro j hj h
      obtain ⟨x1, x2, x3, x4⟩ := f3 j (by omega)
      refine wp_in ?_
      simp only [P_X16_find, i_kil, i_icon, i_lcon, i_null, i_loadI, i_loadL, i_loadR, i_istore, i_lstore, i_astore, i_iinc, i_dup, i_dup2, i_pop, i_iadd, i_isub, i_imul, i_idiv, i_irem, i_ineg, i_iand, i_ior, i_ishl, i_ishr, i_lxor, i_ladd, i_lsub, i_lmul, i_ldiv, i_lrem, i_lneg, i_lshl, i_lcmp, i_i2l, i_l2i, i_i2b, i_i2s, i_ifeq, i_ifne, i_iflt, i_ifge, i_ifgt, i_ifle, i_cmpeq, i_cmpne, i_cmplt, i_cmpge, i_cmpgt, i_cmple, i_acmpeq, i_acmpne, i_ifnull, i_ifnonnull, i_getI, i_getR, i_putI, i_putZ, i_putR, i_ald, i_ldL, i_ldR, i_ast, i_stL, i_stR, i_alen, i_new, i_newa, i_iret, i_zret, i_lret, i_aret, i_vret, i_raise, i_throw, i_recv, i_objinit, i_tsw3, lget, lset, lput1, lput2, lkil, ltrim, largs, isL, takev, dropv, nthv, pushO, catv, gd, true_and, and_true, Option.some.injEq, Prod.mk.injEq, exists_eq_left', if_true, if_false, reduceCtorEq, Bool.false_eq_true, lcmp_ge, lcmp_lt, lcmp_le, lcmp_gt, lcmp_eq, true_or, or_true, not_true_eq_false, not_false_eq_true, false_implies, true_implies, List.length_cons, List.length_nil, p1, p2, p3, f2, x2]
      repeat (first | refine ⟨in_small (by omega) (by omega), ?_⟩ | (show (_ → _) ∧ (_ → _); first | refine ⟨by omega, fun _ => ?_⟩ | refine ⟨fun _ => ?_, by omega⟩) | refine ⟨by omega, ?_⟩ | refine ⟨⟨_, rfl, by assumption⟩, ?_⟩ | refine ⟨okT_I _, ?_⟩ | refine ⟨okT_S (by omega) (by omega), ?_⟩ | refine ⟨okT_B (by omega) (by omega), ?_⟩ | refine call0 (gd_of rfl) ?_)
      refine ⟨fun q => ?_, fun q => ?_⟩
      · repeat (first | refine ⟨in_small (by omega) (by omega), ?_⟩ | (show (_ → _) ∧ (_ → _); first | refine ⟨by omega, fun _ => ?_⟩ | refine ⟨fun _ => ?_, by omega⟩) | refine ⟨by omega, ?_⟩ | refine ⟨⟨_, rfl, by assumption⟩, ?_⟩ | refine ⟨okT_I _, ?_⟩ | refine ⟨okT_S (by omega) (by omega), ?_⟩ | refine ⟨okT_B (by omega) (by omega), ?_⟩ | refine call0 (gd_of rfl) ?_)
        refine ih (j + 1) (by omega) fun i hi => ?_
        by_cases w : i = j
        · rw [w]; exact fun y => q (by rw [y])
        · exact h i (by omega)
      · exact K1 j (by omega) (tcode_inj x1 ht q)
  refine wp_in ?_
  simp only [P_X16_find, i_kil, i_icon, i_lcon, i_null, i_loadI, i_loadL, i_loadR, i_istore, i_lstore, i_astore, i_iinc, i_dup, i_dup2, i_pop, i_iadd, i_isub, i_imul, i_idiv, i_irem, i_ineg, i_iand, i_ior, i_ishl, i_ishr, i_lxor, i_ladd, i_lsub, i_lmul, i_ldiv, i_lrem, i_lneg, i_lshl, i_lcmp, i_i2l, i_l2i, i_i2b, i_i2s, i_ifeq, i_ifne, i_iflt, i_ifge, i_ifgt, i_ifle, i_cmpeq, i_cmpne, i_cmplt, i_cmpge, i_cmpgt, i_cmple, i_acmpeq, i_acmpne, i_ifnull, i_ifnonnull, i_getI, i_getR, i_putI, i_putZ, i_putR, i_ald, i_ldL, i_ldR, i_ast, i_stL, i_stR, i_alen, i_new, i_newa, i_iret, i_zret, i_lret, i_aret, i_vret, i_raise, i_throw, i_recv, i_objinit, i_tsw3, lget, lset, lput1, lput2, lkil, ltrim, largs, isL, takev, dropv, nthv, pushO, catv, gd, true_and, and_true, Option.some.injEq, Prod.mk.injEq, exists_eq_left', if_true, if_false, reduceCtorEq, Bool.false_eq_true, lcmp_ge, lcmp_lt, lcmp_le, lcmp_gt, lcmp_eq, true_or, or_true, not_true_eq_false, not_false_eq_true, false_implies, true_implies, List.length_cons, List.length_nil]
  exact loop n 0 (by omega) fun i hi => by omega
