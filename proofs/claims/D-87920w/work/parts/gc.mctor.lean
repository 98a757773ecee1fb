/-! the model's constructors: Num, rows of Nums, chains, polynomials, sums -/
-- needs: gb.cr0
set_option maxRecDepth 100000
set_option linter.unusedVariables false
/-- what a method makes: a new thing at the next address -/
def Mc (P : Prg) (as : List (Option PV)) (m1 m2 : Nat) (X : Stat → Dat → Nat → Prop) (sz : Nat) : Prop := ∀ (E : Ex) (B : Nat × Nat) (S : Stat) (D : Dat), B.1 = m1 ∧ B.2 = m2 →
  (∀ (B' : Nat × Nat) (S' : Stat) (D' : Dat), X S' D' S.2.2 → S'.2.2 = S.2.2 + sz → bE S.2.2 S S' D D' → E (.inl (some (.inr (.inr (some S.2.2))))) B' S' D') → Wp P E 0 as [] B S D
/-- a field gets what a method makes -/
theorem fldC {S : Stat} {D : Dat} {B : Nat × Nat} {p : Nat} {P : Prg} {cc m1 m2 n w sz : Nat} {k : Int} {K : Tm} {ls : List (Option PV)} {st st0 : List PV} {as : List (Option PV)} {X : Stat → Dat → Nat → Prop}
    (hM : Mc P as m1 m2 X sz) (hL : Loc X sz) (hB : m1 ≤ B.1 ∧ m2 ≤ B.2) (hp : p < S.2.2) (o : S.1 p = some (cc, 0)) (hg : gdb st n w = true) (ha : largs (takev st n []) = as) (hd : dropv st n = .inr (.inr (some p)) :: st0)
    (hK : ∀ (B' : Nat × Nat) (S' : Stat) (D' : Dat), (B.1 ≤ B'.1 + m1 ∧ B.2 ≤ B'.2 + m2) → bE p S S' D D' → S'.2.2 = S.2.2 + sz → (∀ i, S'.2.1 p i = if i = k then some S.2.2 else S.2.1 p i) → (∀ i, D' p i = D p i) → X S' D' S.2.2 → K ls st0 B' S' D') :
    i_call (i_putR K cc k) P n w i_none ls st B S D := by
  refine callB m1 m2 (by omega) (gd_of hg) ?_
  rw [ha]
  refine hM _ _ _ _ ⟨rfl, rfl⟩ fun B1 S1 D1 x1 x2 x3 => ?_
  show i_putR K cc k ls (pushO (some (.inr (.inr (some S.2.2)))) (dropv st n)) (B.1 - m1, B.2 - m2) S1 D1
  rw [hd]
  have hne : p ≠ S.2.2 := by omega
  refine ⟨by rw [x3.2.1 p hp]; exact o, hK _ (setR S1 p k (some S.2.2)) D1 ⟨by show B.1 ≤ B.1 - m1 + m1; omega, by show B.2 ≤ B.2 - m2 + m2; omega⟩ ⟨by show S.2.2 ≤ S1.2.2; omega, fun a ha => x3.2.1 a ha, fun a i ha hn => by rw [setR_ne (.inl hn)]; exact x3.2.2.1 a i ha (by omega), fun a i ha hn => x3.2.2.2 a i ha (by omega)⟩ x2 (fun i => ?_) (fun i => x3.2.2.2 p i hp hne) (hL S1 _ D1 D1 S.2.2 (fun a a1 a2 => ⟨rfl, fun i => setR_ne (.inl (by omega)), fun i => rfl⟩) x1)⟩
  by_cases q : i = k
  · rw [if_pos q, q]
    show pmur _ _ _ _ _ _ = _
    simp only [pmur, and_self, if_true]
  · rw [if_neg q, setR_ne (.inr q)]
    exact x3.2.2.1 p i hp hne
/-- a place of an array gets what a method makes -/
theorem fldL {S : Stat} {D : Dat} {B : Nat × Nat} {P : Prg} {t N t2 n2 m1 m2 n w sz a : Nat} {cs : List Nat} {i : Int} {K : Tm} {ls : List (Option PV)} {st st0 : List PV} {as : List (Option PV)} {X : Stat → Dat → Nat → Prop}
    (hM : Mc P as m1 m2 X sz) (hL : Loc X sz) (hB : m1 ≤ B.1 ∧ m2 ≤ B.2) (hp : a < S.2.2) (o : S.1 a = some (t, N)) (hc : t2 ∈ cs) (hk : ∀ (S' : Stat) (D' : Dat), X S' D' S.2.2 → S'.1 S.2.2 = some (t2, n2)) (hi : 0 ≤ i ∧ i < N) (hg : gdb st n w = true) (ha : largs (takev st n []) = as) (hd : dropv st n = .inl i :: .inr (.inr (some a)) :: st0)
    (hK : ∀ (B' : Nat × Nat) (S' : Stat) (D' : Dat), (B.1 ≤ B'.1 + m1 ∧ B.2 ≤ B'.2 + m2) → bE a S S' D D' → S'.2.2 = S.2.2 + sz → (∀ j, S'.2.1 a j = if j = i then some S.2.2 else S.2.1 a j) → (∀ j, D' a j = D a j) → X S' D' S.2.2 → K ls st0 B' S' D') :
    i_call (i_stR K t cs) P n w i_none ls st B S D := by
  refine callB m1 m2 (by omega) (gd_of hg) ?_
  rw [ha]
  refine hM _ _ _ _ ⟨rfl, rfl⟩ fun B1 S1 D1 x1 x2 x3 => ?_
  show i_stR K t cs ls (pushO (some (.inr (.inr (some S.2.2)))) (dropv st n)) (B.1 - m1, B.2 - m2) S1 D1
  rw [hd]
  have hne : a ≠ S.2.2 := by omega
  refine ⟨N, t2, n2, by rw [x3.2.1 a hp]; exact o, hk _ _ x1, hc, hi.1, hi.2, hK _ _ _ ⟨by show B.1 ≤ B.1 - m1 + m1; omega, by show B.2 ≤ B.2 - m2 + m2; omega⟩ ⟨by show S.2.2 ≤ S1.2.2; omega, fun a ha => x3.2.1 a ha, fun a' i ha hn => by rw [setR_ne (.inl hn)]; exact x3.2.2.1 a' i ha (by omega), fun a i ha hn => x3.2.2.2 a i ha (by omega)⟩ x2 (fun j => ?_) (fun j => x3.2.2.2 a j hp hne) (hL S1 _ D1 D1 S.2.2 (fun a' a1 a2 => ⟨rfl, fun i => setR_ne (.inl (by omega)), fun i => rfl⟩) x1)⟩
  by_cases q : j = i
  · rw [if_pos q, q]
    show pmur _ _ _ _ _ _ = _
    simp only [pmur, and_self, if_true]
  · rw [if_neg q, setR_ne (.inr q)]
    exact x3.2.2.1 a j hp hne
def X17n (r : Nat) : Stat → Dat → Nat → Prop := fun S D q => wS 17 S q r ∧ wD 2 1 D q 0
theorem X17n.loc (r : Nat) : Loc (X17n r) 2 := fun S S' D D' q e h =>
  ⟨h.1.sq fun c c1 c2 => ⟨(e c c1 (by omega)).1, (e c c1 (by omega)).2.1⟩, h.2.congr (fun i => (e q (Nat.le_refl _) (by omega)).2.2 i) fun i => (e (q + 1) (by omega) (by omega)).2.2 i⟩
theorem mk_X17 (r : Nat) (hr : r < 60000000) : Mk P_X17_init 17 (fun q => [some (aR q), some (aI r)]) 1 r (X17n r) 2 := fun E B S D q hB h1 h2 h3 h4 K => by
  refine wp_in ?_
  simp only [P_X17_init, i_objinit, i_kil, i_icon, i_lcon, i_null, i_loadI, i_loadL, i_loadR, i_istore, i_lstore, i_astore, i_iinc, i_dup, i_dup2, i_pop, i_iadd, i_isub, i_imul, i_idiv, i_irem, i_ineg, i_iand, i_ior, i_ishl, i_ishr, i_lxor, i_ladd, i_lsub, i_lmul, i_ldiv, i_lrem, i_lneg, i_lshl, i_lcmp, i_i2l, i_l2i, i_i2b, i_i2s, i_ifeq, i_ifne, i_iflt, i_ifge, i_ifgt, i_ifle, i_cmpeq, i_cmpne, i_cmplt, i_cmpge, i_cmpgt, i_cmple, i_acmpeq, i_acmpne, i_ifnull, i_ifnonnull, i_getI, i_getR, i_putI, i_putZ, i_ald, i_ldL, i_ldR, i_ast, i_stL, i_stR, i_alen, i_new, i_iret, i_zret, i_lret, i_aret, i_vret, i_raise, i_throw, i_recv, i_objinit, i_tsw3, lget, lset, lput1, lput2, lkil, ltrim, largs, isL, takev, dropv, nthv, pushO, catv, gd, true_and, and_true, Option.some.injEq, Prod.mk.injEq, exists_eq_left', if_true, if_false, reduceCtorEq, Bool.false_eq_true, lcmp_ge, lcmp_lt, lcmp_le, lcmp_gt, lcmp_eq, true_or, or_true, not_true_eq_false, not_false_eq_true, false_implies, true_implies, List.length_cons, List.length_nil, h1]
  refine ⟨by decide, ?_⟩
  refine fldA (p := q) hr (by omega) (by omega) h1 fun B' S' D' b1 b2 b3 b4 b5 b6 => ?_
  simp only [P_X17_init, i_kil, i_icon, i_lcon, i_null, i_loadI, i_loadL, i_loadR, i_istore, i_lstore, i_astore, i_iinc, i_dup, i_dup2, i_pop, i_iadd, i_isub, i_imul, i_idiv, i_irem, i_ineg, i_iand, i_ior, i_ishl, i_ishr, i_lxor, i_ladd, i_lsub, i_lmul, i_ldiv, i_lrem, i_lneg, i_lshl, i_lcmp, i_i2l, i_l2i, i_i2b, i_i2s, i_ifeq, i_ifne, i_iflt, i_ifge, i_ifgt, i_ifle, i_cmpeq, i_cmpne, i_cmplt, i_cmpge, i_cmpgt, i_cmple, i_acmpeq, i_acmpne, i_ifnull, i_ifnonnull, i_getI, i_getR, i_putI, i_putZ, i_putR, i_ald, i_ldL, i_ldR, i_ast, i_stL, i_stR, i_alen, i_new, i_newa, i_iret, i_zret, i_lret, i_aret, i_vret, i_raise, i_throw, i_recv, i_objinit, i_tsw3, lget, lset, lput1, lput2, lkil, ltrim, largs, isL, takev, dropv, nthv, pushO, catv, gd, true_and, and_true, Option.some.injEq, Prod.mk.injEq, exists_eq_left', if_true, if_false, reduceCtorEq, Bool.false_eq_true, lcmp_ge, lcmp_lt, lcmp_le, lcmp_gt, lcmp_eq, true_or, or_true, not_true_eq_false, not_false_eq_true, false_implies, true_implies, List.length_cons, List.length_nil]
  rw [h2] at b3 b4 b6
  refine K _ _ _ ⟨⟨by rw [b2.2.1 q (by omega)]; exact h1, by rw [b4, if_pos rfl], b6.1⟩, wD_zero (by rw [b5]; exact h4 _) (by rw [b5]; exact h4 _)⟩ b3 b2
def nmX (n r : Nat) : Stat → Dat → Nat → Prop := fun S D q => S.1 q = some (114, n) ∧ ∀ j : Nat, j < n → S.2.1 q j = some (q + 1 + 2 * j) ∧ X17n r S D (q + 1 + 2 * j)
theorem nmX.loc (n r : Nat) : Loc (nmX n r) (1 + 2 * n) := fun S S' D D' q e h => ⟨by rw [(e q (by omega) (by omega)).1]; exact h.1, fun j hj => ⟨by rw [(e q (by omega) (by omega)).2.1]; exact (h.2 j hj).1, X17n.loc r S S' D D' _ (fun c c1 c2 => e c (by omega) (by omega)) (h.2 j hj).2⟩⟩
theorem nmX.nm {n r q : Nat} {S : Stat} {D : Dat} (h : nmX n r S D q) : nmS S q (q + 1) n r := ⟨h.1, fun k hk => ⟨(h.2 k hk).1, (h.2 k hk).2.1⟩⟩
theorem nums_loop {E : Ex} {n r a : Nat} (hr : r < 60000000) (hn : n < 100000) : ∀ (L k : Nat) (B : Nat × Nat) (S : Stat) (D : Dat), k + L = n → 2 * L ≤ B.1 ∧ (3 + r) * L ≤ B.2 → S.1 a = some (114, n) → S.2.2 = a + 1 + 2 * k → (∀ j : Nat, j < k → S.2.1 a j = some (a + 1 + 2 * j) ∧ X17n r S D (a + 1 + 2 * j)) →
    (∀ (B' : Nat × Nat) (S' : Stat) (D' : Dat), bE a S S' D D' → S'.2.2 = a + (1 + 2 * n) → nmX n r S' D' a → E (.inl (some (aR a))) B' S' D') → Wp P_X16_nums E 1 [some (aI (n : Int)), some (aI (r : Int)), some (aR a), some (aI (k : Int))] [] B S D := by
  intro L
  induction L with
  | zero =>
    intro k B S D hk hb k4 hm he K
    have : k = n := by omega
    subst this
    refine wp_in ?_
    simp only [P_X16_nums, i_kil, i_icon, i_lcon, i_null, i_loadI, i_loadL, i_loadR, i_istore, i_lstore, i_astore, i_iinc, i_dup, i_dup2, i_pop, i_iadd, i_isub, i_imul, i_idiv, i_irem, i_ineg, i_iand, i_ior, i_ishl, i_ishr, i_lxor, i_ladd, i_lsub, i_lmul, i_ldiv, i_lrem, i_lneg, i_lshl, i_lcmp, i_i2l, i_l2i, i_i2b, i_i2s, i_ifeq, i_ifne, i_iflt, i_ifge, i_ifgt, i_ifle, i_cmpeq, i_cmpne, i_cmplt, i_cmpge, i_cmpgt, i_cmple, i_acmpeq, i_acmpne, i_ifnull, i_ifnonnull, i_getI, i_getR, i_putI, i_putZ, i_putR, i_ald, i_ldL, i_ldR, i_ast, i_stL, i_stR, i_alen, i_new, i_newa, i_iret, i_zret, i_lret, i_aret, i_vret, i_raise, i_throw, i_recv, i_objinit, i_tsw3, lget, lset, lput1, lput2, lkil, ltrim, largs, isL, takev, dropv, nthv, pushO, catv, gd, true_and, and_true, Option.some.injEq, Prod.mk.injEq, exists_eq_left', if_true, if_false, reduceCtorEq, Bool.false_eq_true, lcmp_ge, lcmp_lt, lcmp_le, lcmp_gt, lcmp_eq, true_or, or_true, not_true_eq_false, not_false_eq_true, false_implies, true_implies, List.length_cons, List.length_nil]
    exact ⟨fun _ => K _ _ _ bE.rfl (by omega) ⟨k4, he⟩, fun q => by omega⟩
  | succ L ih =>
    intro k B S D hk hb k4 hm he K
    rw [show (3 + r) * (L + 1) = (3 + r) * L + (3 + r) from Nat.mul_succ _ _] at hb
    generalize hz : (3 + r) * L = z at *
    refine wp_in ?_
    simp only [P_X16_nums, i_kil, i_icon, i_lcon, i_null, i_loadI, i_loadL, i_loadR, i_istore, i_lstore, i_astore, i_iinc, i_dup, i_dup2, i_pop, i_iadd, i_isub, i_imul, i_idiv, i_irem, i_ineg, i_iand, i_ior, i_ishl, i_ishr, i_lxor, i_ladd, i_lsub, i_lmul, i_ldiv, i_lrem, i_lneg, i_lshl, i_lcmp, i_i2l, i_l2i, i_i2b, i_i2s, i_ifeq, i_ifne, i_iflt, i_ifge, i_ifgt, i_ifle, i_cmpeq, i_cmpne, i_cmplt, i_cmpge, i_cmpgt, i_cmple, i_acmpeq, i_acmpne, i_ifnull, i_ifnonnull, i_getI, i_getR, i_putI, i_putZ, i_putR, i_ald, i_ldL, i_ldR, i_ast, i_stL, i_alen, i_new, i_iret, i_zret, i_lret, i_aret, i_vret, i_raise, i_throw, i_recv, i_objinit, i_tsw3, lget, lset, lput1, lput2, lkil, ltrim, largs, isL, takev, dropv, nthv, pushO, catv, gd, true_and, and_true, Option.some.injEq, Prod.mk.injEq, exists_eq_left', if_true, if_false, reduceCtorEq, Bool.false_eq_true, lcmp_ge, lcmp_lt, lcmp_le, lcmp_gt, lcmp_eq, true_or, or_true, not_true_eq_false, not_false_eq_true, false_implies, true_implies, List.length_cons, List.length_nil, k4]
    refine ⟨fun q => by omega, fun _ => ?_⟩
    refine fldE (i := (k : Int)) (mk_X17 r hr) (X17n.loc r) (by omega) (by omega) k4 (by decide) (by decide) (fun _ _ x => x.1.1) (by omega) (by rfl) (by rfl) (by rfl) fun B10 S10 D10 u b m rr e x => ?_
    rw [hm] at m rr x
    simp only [P_X16_nums, i_kil, i_icon, i_lcon, i_null, i_loadI, i_loadL, i_loadR, i_istore, i_lstore, i_astore, i_iinc, i_dup, i_dup2, i_pop, i_iadd, i_isub, i_imul, i_idiv, i_irem, i_ineg, i_iand, i_ior, i_ishl, i_ishr, i_lxor, i_ladd, i_lsub, i_lmul, i_ldiv, i_lrem, i_lneg, i_lshl, i_lcmp, i_i2l, i_l2i, i_i2b, i_i2s, i_ifeq, i_ifne, i_iflt, i_ifge, i_ifgt, i_ifle, i_cmpeq, i_cmpne, i_cmplt, i_cmpge, i_cmpgt, i_cmple, i_acmpeq, i_acmpne, i_ifnull, i_ifnonnull, i_getI, i_getR, i_putI, i_putZ, i_putR, i_ald, i_ldL, i_ldR, i_ast, i_stL, i_stR, i_alen, i_new, i_newa, i_iret, i_zret, i_lret, i_aret, i_vret, i_raise, i_throw, i_recv, i_objinit, i_tsw3, lget, lset, lput1, lput2, lkil, ltrim, largs, isL, takev, dropv, nthv, pushO, catv, gd, true_and, and_true, Option.some.injEq, Prod.mk.injEq, exists_eq_left', if_true, if_false, reduceCtorEq, Bool.false_eq_true, lcmp_ge, lcmp_lt, lcmp_le, lcmp_gt, lcmp_eq, true_or, or_true, not_true_eq_false, not_false_eq_true, false_implies, true_implies, List.length_cons, List.length_nil]
    repeat (first | refine ⟨in_small (by omega) (by omega), ?_⟩ | (show (_ → _) ∧ (_ → _); first | refine ⟨by omega, fun _ => ?_⟩ | refine ⟨fun _ => ?_, by omega⟩) | refine ⟨by omega, ?_⟩ | refine ⟨⟨_, rfl, by assumption⟩, ?_⟩ | refine ⟨okT_I _, ?_⟩ | refine call0 (gd_of rfl) ?_)
    refine ih (k + 1) B10 S10 D10 (by omega) (by omega) (by rw [b.2.1 _ (by omega)]; exact k4) (by omega) (fun j hj => ?_) fun B' S' D' b' => K B' S' D' (b.tr b')
    by_cases hji : j = k
    · subst hji
      exact ⟨by rw [rr, if_pos rfl], x⟩
    · obtain ⟨x1, x2⟩ := he j (by omega)
      exact ⟨by rw [rr, if_neg (by omega)]; exact x1, (X17n.loc r).go b (by omega) (by omega) x2⟩
theorem mc_nums (n r : Nat) (hr : r < 60000000) (hn : n < 100000) : Mc P_X16_nums [some (aI (n : Int)), some (aI (r : Int))] (1 + 2 * n) (n + (3 + r) * n) (nmX n r) (1 + 2 * n) := fun E B S D hB K => by
  generalize hz : (3 + r) * n = z at *
  refine wp_in ?_
  simp only [P_X16_nums, i_kil, i_icon, i_lcon, i_null, i_loadI, i_loadL, i_loadR, i_istore, i_lstore, i_astore, i_iinc, i_dup, i_dup2, i_pop, i_iadd, i_isub, i_imul, i_idiv, i_irem, i_ineg, i_iand, i_ior, i_ishl, i_ishr, i_lxor, i_ladd, i_lsub, i_lmul, i_ldiv, i_lrem, i_lneg, i_lshl, i_lcmp, i_i2l, i_l2i, i_i2b, i_i2s, i_ifeq, i_ifne, i_iflt, i_ifge, i_ifgt, i_ifle, i_cmpeq, i_cmpne, i_cmplt, i_cmpge, i_cmpgt, i_cmple, i_acmpeq, i_acmpne, i_ifnull, i_ifnonnull, i_getI, i_getR, i_putI, i_putZ, i_putR, i_ald, i_ldL, i_ldR, i_ast, i_stL, i_stR, i_alen, i_new, i_iret, i_zret, i_lret, i_aret, i_vret, i_raise, i_throw, i_recv, i_objinit, i_tsw3, lget, lset, lput1, lput2, lkil, ltrim, largs, isL, takev, dropv, nthv, pushO, catv, gd, true_and, and_true, Option.some.injEq, Prod.mk.injEq, exists_eq_left', if_true, if_false, reduceCtorEq, Bool.false_eq_true, lcmp_ge, lcmp_lt, lcmp_le, lcmp_gt, lcmp_eq, true_or, or_true, not_true_eq_false, not_false_eq_true, false_implies, true_implies, List.length_cons, List.length_nil]
  refine newK (n := n) (by omega) (by omega) fun B0 S0 D0 u0 b0 n0 x0 => ?_
  simp only [P_X16_nums, i_kil, i_icon, i_lcon, i_null, i_loadI, i_loadL, i_loadR, i_istore, i_lstore, i_astore, i_iinc, i_dup, i_dup2, i_pop, i_iadd, i_isub, i_imul, i_idiv, i_irem, i_ineg, i_iand, i_ior, i_ishl, i_ishr, i_lxor, i_ladd, i_lsub, i_lmul, i_ldiv, i_lrem, i_lneg, i_lshl, i_lcmp, i_i2l, i_l2i, i_i2b, i_i2s, i_ifeq, i_ifne, i_iflt, i_ifge, i_ifgt, i_ifle, i_cmpeq, i_cmpne, i_cmplt, i_cmpge, i_cmpgt, i_cmple, i_acmpeq, i_acmpne, i_ifnull, i_ifnonnull, i_getI, i_getR, i_putI, i_putZ, i_putR, i_ald, i_ldL, i_ldR, i_ast, i_stL, i_stR, i_alen, i_new, i_newa, i_iret, i_zret, i_lret, i_aret, i_vret, i_raise, i_throw, i_recv, i_objinit, i_tsw3, lget, lset, lput1, lput2, lkil, ltrim, largs, isL, takev, dropv, nthv, pushO, catv, gd, true_and, and_true, Option.some.injEq, Prod.mk.injEq, exists_eq_left', if_true, if_false, reduceCtorEq, Bool.false_eq_true, lcmp_ge, lcmp_lt, lcmp_le, lcmp_gt, lcmp_eq, true_or, or_true, not_true_eq_false, not_false_eq_true, false_implies, true_implies, List.length_cons, List.length_nil]
  exact nums_loop (a := S.2.2) hr hn n 0 B0 S0 D0 (by omega) (by omega) x0.1 (by omega) (fun j hj => absurd hj (Nat.not_lt_zero _)) fun B' S' D' b1 b2 b3 => K B' S' D' b3 b2 (b0.tr b1)
def rwX (n : Nat) : Stat → Dat → Nat → Prop := fun S D q => S.1 q = some (115, n) ∧ ∀ j : Nat, j < n → S.2.1 q j = some (q + 1 + 141 * j) ∧ nmX 70 26 S D (q + 1 + 141 * j)
theorem rwX.loc (n : Nat) : Loc (rwX n) (1 + 141 * n) := fun S S' D D' q e h => ⟨by rw [(e q (by omega) (by omega)).1]; exact h.1, fun j hj => ⟨by rw [(e q (by omega) (by omega)).2.1]; exact (h.2 j hj).1, nmX.loc 70 26 S S' D D' _ (fun c c1 c2 => e c (by omega) (by omega)) (h.2 j hj).2⟩⟩
theorem rows_loop {E : Ex} {n a : Nat} (hn : n < 100000) : ∀ (L k : Nat) (B : Nat × Nat) (S : Stat) (D : Dat), k + L = n → 141 * L ≤ B.1 ∧ 2100 * L ≤ B.2 → S.1 a = some (115, n) → S.2.2 = a + 1 + 141 * k → (∀ j : Nat, j < k → S.2.1 a j = some (a + 1 + 141 * j) ∧ nmX 70 26 S D (a + 1 + 141 * j)) →
    (∀ (B' : Nat × Nat) (S' : Stat) (D' : Dat), bE a S S' D D' → S'.2.2 = a + (1 + 141 * n) → rwX n S' D' a → E (.inl (some (aR a))) B' S' D') → Wp P_X16_rowsOf E 1 [some (aI (n : Int)), some (aR a), some (aI (k : Int))] [] B S D := by
  intro L
  induction L with
  | zero =>
    intro k B S D hk hb k4 hm he K
    have : k = n := by omega
    subst this
    refine wp_in ?_
    simp only [P_X16_rowsOf, i_kil, i_icon, i_lcon, i_null, i_loadI, i_loadL, i_loadR, i_istore, i_lstore, i_astore, i_iinc, i_dup, i_dup2, i_pop, i_iadd, i_isub, i_imul, i_idiv, i_irem, i_ineg, i_iand, i_ior, i_ishl, i_ishr, i_lxor, i_ladd, i_lsub, i_lmul, i_ldiv, i_lrem, i_lneg, i_lshl, i_lcmp, i_i2l, i_l2i, i_i2b, i_i2s, i_ifeq, i_ifne, i_iflt, i_ifge, i_ifgt, i_ifle, i_cmpeq, i_cmpne, i_cmplt, i_cmpge, i_cmpgt, i_cmple, i_acmpeq, i_acmpne, i_ifnull, i_ifnonnull, i_getI, i_getR, i_putI, i_putZ, i_putR, i_ald, i_ldL, i_ldR, i_ast, i_stL, i_stR, i_alen, i_new, i_newa, i_iret, i_zret, i_lret, i_aret, i_vret, i_raise, i_throw, i_recv, i_objinit, i_tsw3, lget, lset, lput1, lput2, lkil, ltrim, largs, isL, takev, dropv, nthv, pushO, catv, gd, true_and, and_true, Option.some.injEq, Prod.mk.injEq, exists_eq_left', if_true, if_false, reduceCtorEq, Bool.false_eq_true, lcmp_ge, lcmp_lt, lcmp_le, lcmp_gt, lcmp_eq, true_or, or_true, not_true_eq_false, not_false_eq_true, false_implies, true_implies, List.length_cons, List.length_nil]
    exact ⟨fun _ => K _ _ _ bE.rfl (by omega) ⟨k4, he⟩, fun q => by omega⟩
  | succ L ih =>
    intro k B S D hk hb k4 hm he K
    refine wp_in ?_
    simp only [P_X16_rowsOf, i_kil, i_icon, i_lcon, i_null, i_loadI, i_loadL, i_loadR, i_istore, i_lstore, i_astore, i_iinc, i_dup, i_dup2, i_pop, i_iadd, i_isub, i_imul, i_idiv, i_irem, i_ineg, i_iand, i_ior, i_ishl, i_ishr, i_lxor, i_ladd, i_lsub, i_lmul, i_ldiv, i_lrem, i_lneg, i_lshl, i_lcmp, i_i2l, i_l2i, i_i2b, i_i2s, i_ifeq, i_ifne, i_iflt, i_ifge, i_ifgt, i_ifle, i_cmpeq, i_cmpne, i_cmplt, i_cmpge, i_cmpgt, i_cmple, i_acmpeq, i_acmpne, i_ifnull, i_ifnonnull, i_getI, i_getR, i_putI, i_putZ, i_putR, i_ald, i_ldL, i_ldR, i_ast, i_stL, i_alen, i_new, i_iret, i_zret, i_lret, i_aret, i_vret, i_raise, i_throw, i_recv, i_objinit, i_tsw3, lget, lset, lput1, lput2, lkil, ltrim, largs, isL, takev, dropv, nthv, pushO, catv, gd, true_and, and_true, Option.some.injEq, Prod.mk.injEq, exists_eq_left', if_true, if_false, reduceCtorEq, Bool.false_eq_true, lcmp_ge, lcmp_lt, lcmp_le, lcmp_gt, lcmp_eq, true_or, or_true, not_true_eq_false, not_false_eq_true, false_implies, true_implies, List.length_cons, List.length_nil, k4]
    refine ⟨fun q => by omega, fun _ => ?_⟩
    refine fldL (i := (k : Int)) (t2 := 114) (n2 := 70) (mc_nums 70 26 (by decide) (by decide)) (nmX.loc 70 26) (by omega) (by omega) k4 (by decide) (fun _ _ x => x.1) (by omega) (by rfl) (by rfl) (by rfl) fun B10 S10 D10 u b m rr e x => ?_
    rw [hm] at m rr x
    simp only [P_X16_rowsOf, i_kil, i_icon, i_lcon, i_null, i_loadI, i_loadL, i_loadR, i_istore, i_lstore, i_astore, i_iinc, i_dup, i_dup2, i_pop, i_iadd, i_isub, i_imul, i_idiv, i_irem, i_ineg, i_iand, i_ior, i_ishl, i_ishr, i_lxor, i_ladd, i_lsub, i_lmul, i_ldiv, i_lrem, i_lneg, i_lshl, i_lcmp, i_i2l, i_l2i, i_i2b, i_i2s, i_ifeq, i_ifne, i_iflt, i_ifge, i_ifgt, i_ifle, i_cmpeq, i_cmpne, i_cmplt, i_cmpge, i_cmpgt, i_cmple, i_acmpeq, i_acmpne, i_ifnull, i_ifnonnull, i_getI, i_getR, i_putI, i_putZ, i_putR, i_ald, i_ldL, i_ldR, i_ast, i_stL, i_stR, i_alen, i_new, i_newa, i_iret, i_zret, i_lret, i_aret, i_vret, i_raise, i_throw, i_recv, i_objinit, i_tsw3, lget, lset, lput1, lput2, lkil, ltrim, largs, isL, takev, dropv, nthv, pushO, catv, gd, true_and, and_true, Option.some.injEq, Prod.mk.injEq, exists_eq_left', if_true, if_false, reduceCtorEq, Bool.false_eq_true, lcmp_ge, lcmp_lt, lcmp_le, lcmp_gt, lcmp_eq, true_or, or_true, not_true_eq_false, not_false_eq_true, false_implies, true_implies, List.length_cons, List.length_nil]
    repeat (first | refine ⟨in_small (by omega) (by omega), ?_⟩ | (show (_ → _) ∧ (_ → _); first | refine ⟨by omega, fun _ => ?_⟩ | refine ⟨fun _ => ?_, by omega⟩) | refine ⟨by omega, ?_⟩ | refine ⟨⟨_, rfl, by assumption⟩, ?_⟩ | refine ⟨okT_I _, ?_⟩ | refine call0 (gd_of rfl) ?_)
    refine ih (k + 1) B10 S10 D10 (by omega) (by omega) (by rw [b.2.1 _ (by omega)]; exact k4) (by omega) (fun j hj => ?_) fun B' S' D' b' => K B' S' D' (b.tr b')
    by_cases hji : j = k
    · subst hji
      exact ⟨by rw [rr, if_pos rfl], x⟩
    · obtain ⟨x1, x2⟩ := he j (by omega)
      exact ⟨by rw [rr, if_neg (by omega)]; exact x1, (nmX.loc 70 26).go b (by omega) (by omega) x2⟩
theorem mc_rows (n : Nat) (hn : n < 100000) : Mc P_X16_rowsOf [some (aI (n : Int))] (1 + 141 * n) (n + 2100 * n) (rwX n) (1 + 141 * n) := fun E B S D hB K => by
  refine wp_in ?_
  simp only [P_X16_rowsOf, i_kil, i_icon, i_lcon, i_null, i_loadI, i_loadL, i_loadR, i_istore, i_lstore, i_astore, i_iinc, i_dup, i_dup2, i_pop, i_iadd, i_isub, i_imul, i_idiv, i_irem, i_ineg, i_iand, i_ior, i_ishl, i_ishr, i_lxor, i_ladd, i_lsub, i_lmul, i_ldiv, i_lrem, i_lneg, i_lshl, i_lcmp, i_i2l, i_l2i, i_i2b, i_i2s, i_ifeq, i_ifne, i_iflt, i_ifge, i_ifgt, i_ifle, i_cmpeq, i_cmpne, i_cmplt, i_cmpge, i_cmpgt, i_cmple, i_acmpeq, i_acmpne, i_ifnull, i_ifnonnull, i_getI, i_getR, i_putI, i_putZ, i_putR, i_ald, i_ldL, i_ldR, i_ast, i_stL, i_stR, i_alen, i_new, i_iret, i_zret, i_lret, i_aret, i_vret, i_raise, i_throw, i_recv, i_objinit, i_tsw3, lget, lset, lput1, lput2, lkil, ltrim, largs, isL, takev, dropv, nthv, pushO, catv, gd, true_and, and_true, Option.some.injEq, Prod.mk.injEq, exists_eq_left', if_true, if_false, reduceCtorEq, Bool.false_eq_true, lcmp_ge, lcmp_lt, lcmp_le, lcmp_gt, lcmp_eq, true_or, or_true, not_true_eq_false, not_false_eq_true, false_implies, true_implies, List.length_cons, List.length_nil]
  refine newK (n := n) (by omega) (by omega) fun B0 S0 D0 u0 b0 n0 x0 => ?_
  simp only [P_X16_rowsOf, i_kil, i_icon, i_lcon, i_null, i_loadI, i_loadL, i_loadR, i_istore, i_lstore, i_astore, i_iinc, i_dup, i_dup2, i_pop, i_iadd, i_isub, i_imul, i_idiv, i_irem, i_ineg, i_iand, i_ior, i_ishl, i_ishr, i_lxor, i_ladd, i_lsub, i_lmul, i_ldiv, i_lrem, i_lneg, i_lshl, i_lcmp, i_i2l, i_l2i, i_i2b, i_i2s, i_ifeq, i_ifne, i_iflt, i_ifge, i_ifgt, i_ifle, i_cmpeq, i_cmpne, i_cmplt, i_cmpge, i_cmpgt, i_cmple, i_acmpeq, i_acmpne, i_ifnull, i_ifnonnull, i_getI, i_getR, i_putI, i_putZ, i_putR, i_ald, i_ldL, i_ldR, i_ast, i_stL, i_stR, i_alen, i_new, i_newa, i_iret, i_zret, i_lret, i_aret, i_vret, i_raise, i_throw, i_recv, i_objinit, i_tsw3, lget, lset, lput1, lput2, lkil, ltrim, largs, isL, takev, dropv, nthv, pushO, catv, gd, true_and, and_true, Option.some.injEq, Prod.mk.injEq, exists_eq_left', if_true, if_false, reduceCtorEq, Bool.false_eq_true, lcmp_ge, lcmp_lt, lcmp_le, lcmp_gt, lcmp_eq, true_or, or_true, not_true_eq_false, not_false_eq_true, false_implies, true_implies, List.length_cons, List.length_nil]
  exact rows_loop (a := S.2.2) hn n 0 B0 S0 D0 (by omega) (by omega) x0.1 (by omega) (fun j hj => absurd hj (Nat.not_lt_zero _)) fun B' S' D' b1 b2 b3 => K B' S' D' b3 b2 (b0.tr b1)
def chX : Stat → Dat → Nat → Prop := fun S D q => S.1 q = some (115, 12) ∧ ∀ j : Nat, j < 12 → S.2.1 q j = some (q + 1 + 37 * j) ∧ nmX 18 130 S D (q + 1 + 37 * j)
theorem chX.loc : Loc chX 445 := fun S S' D D' q e h => ⟨by rw [(e q (by omega) (by omega)).1]; exact h.1, fun j hj => ⟨by rw [(e q (by omega) (by omega)).2.1]; exact (h.2 j hj).1, nmX.loc 18 130 S S' D D' _ (fun c c1 c2 => e c (by omega) (by omega)) (h.2 j hj).2⟩⟩
theorem chain_loop {E : Ex} {a : Nat} : ∀ (L k : Nat) (B : Nat × Nat) (S : Stat) (D : Dat), k + L = 12 → 37 * L ≤ B.1 ∧ 2412 * L ≤ B.2 → S.1 a = some (115, 12) → S.2.2 = a + 1 + 37 * k → (∀ j : Nat, j < k → S.2.1 a j = some (a + 1 + 37 * j) ∧ nmX 18 130 S D (a + 1 + 37 * j)) →
    (∀ (B' : Nat × Nat) (S' : Stat) (D' : Dat), bE a S S' D D' → S'.2.2 = a + 445 → chX S' D' a → E (.inl (some (aR a))) B' S' D') → Wp P_X16_chainOf E 1 [some (aR a), some (aI (k : Int))] [] B S D := by
  intro L
  induction L with
  | zero =>
    intro k B S D hk hb k4 hm he K
    have : k = 12 := by omega
    subst this
    refine wp_in ?_
    simp only [P_X16_chainOf, i_kil, i_icon, i_lcon, i_null, i_loadI, i_loadL, i_loadR, i_istore, i_lstore, i_astore, i_iinc, i_dup, i_dup2, i_pop, i_iadd, i_isub, i_imul, i_idiv, i_irem, i_ineg, i_iand, i_ior, i_ishl, i_ishr, i_lxor, i_ladd, i_lsub, i_lmul, i_ldiv, i_lrem, i_lneg, i_lshl, i_lcmp, i_i2l, i_l2i, i_i2b, i_i2s, i_ifeq, i_ifne, i_iflt, i_ifge, i_ifgt, i_ifle, i_cmpeq, i_cmpne, i_cmplt, i_cmpge, i_cmpgt, i_cmple, i_acmpeq, i_acmpne, i_ifnull, i_ifnonnull, i_getI, i_getR, i_putI, i_putZ, i_putR, i_ald, i_ldL, i_ldR, i_ast, i_stL, i_stR, i_alen, i_new, i_newa, i_iret, i_zret, i_lret, i_aret, i_vret, i_raise, i_throw, i_recv, i_objinit, i_tsw3, lget, lset, lput1, lput2, lkil, ltrim, largs, isL, takev, dropv, nthv, pushO, catv, gd, true_and, and_true, Option.some.injEq, Prod.mk.injEq, exists_eq_left', if_true, if_false, reduceCtorEq, Bool.false_eq_true, lcmp_ge, lcmp_lt, lcmp_le, lcmp_gt, lcmp_eq, true_or, or_true, not_true_eq_false, not_false_eq_true, false_implies, true_implies, List.length_cons, List.length_nil]
    exact ⟨fun _ => K _ _ _ bE.rfl (by omega) ⟨k4, he⟩, fun q => absurd q (by decide)⟩
  | succ L ih =>
    intro k B S D hk hb k4 hm he K
    refine wp_in ?_
    simp only [P_X16_chainOf, i_kil, i_icon, i_lcon, i_null, i_loadI, i_loadL, i_loadR, i_istore, i_lstore, i_astore, i_iinc, i_dup, i_dup2, i_pop, i_iadd, i_isub, i_imul, i_idiv, i_irem, i_ineg, i_iand, i_ior, i_ishl, i_ishr, i_lxor, i_ladd, i_lsub, i_lmul, i_ldiv, i_lrem, i_lneg, i_lshl, i_lcmp, i_i2l, i_l2i, i_i2b, i_i2s, i_ifeq, i_ifne, i_iflt, i_ifge, i_ifgt, i_ifle, i_cmpeq, i_cmpne, i_cmplt, i_cmpge, i_cmpgt, i_cmple, i_acmpeq, i_acmpne, i_ifnull, i_ifnonnull, i_getI, i_getR, i_putI, i_putZ, i_putR, i_ald, i_ldL, i_ldR, i_ast, i_stL, i_alen, i_new, i_iret, i_zret, i_lret, i_aret, i_vret, i_raise, i_throw, i_recv, i_objinit, i_tsw3, lget, lset, lput1, lput2, lkil, ltrim, largs, isL, takev, dropv, nthv, pushO, catv, gd, true_and, and_true, Option.some.injEq, Prod.mk.injEq, exists_eq_left', if_true, if_false, reduceCtorEq, Bool.false_eq_true, lcmp_ge, lcmp_lt, lcmp_le, lcmp_gt, lcmp_eq, true_or, or_true, not_true_eq_false, not_false_eq_true, false_implies, true_implies, List.length_cons, List.length_nil, k4]
    refine ⟨fun q => by omega, fun _ => ?_⟩
    refine fldL (i := (k : Int)) (t2 := 114) (n2 := 18) (mc_nums 18 130 (by decide) (by decide)) (nmX.loc 18 130) (by omega) (by omega) k4 (by decide) (fun _ _ x => x.1) (by omega) (by rfl) (by rfl) (by rfl) fun B10 S10 D10 u b m rr e x => ?_
    rw [hm] at m rr x
    simp only [P_X16_chainOf, i_kil, i_icon, i_lcon, i_null, i_loadI, i_loadL, i_loadR, i_istore, i_lstore, i_astore, i_iinc, i_dup, i_dup2, i_pop, i_iadd, i_isub, i_imul, i_idiv, i_irem, i_ineg, i_iand, i_ior, i_ishl, i_ishr, i_lxor, i_ladd, i_lsub, i_lmul, i_ldiv, i_lrem, i_lneg, i_lshl, i_lcmp, i_i2l, i_l2i, i_i2b, i_i2s, i_ifeq, i_ifne, i_iflt, i_ifge, i_ifgt, i_ifle, i_cmpeq, i_cmpne, i_cmplt, i_cmpge, i_cmpgt, i_cmple, i_acmpeq, i_acmpne, i_ifnull, i_ifnonnull, i_getI, i_getR, i_putI, i_putZ, i_putR, i_ald, i_ldL, i_ldR, i_ast, i_stL, i_stR, i_alen, i_new, i_newa, i_iret, i_zret, i_lret, i_aret, i_vret, i_raise, i_throw, i_recv, i_objinit, i_tsw3, lget, lset, lput1, lput2, lkil, ltrim, largs, isL, takev, dropv, nthv, pushO, catv, gd, true_and, and_true, Option.some.injEq, Prod.mk.injEq, exists_eq_left', if_true, if_false, reduceCtorEq, Bool.false_eq_true, lcmp_ge, lcmp_lt, lcmp_le, lcmp_gt, lcmp_eq, true_or, or_true, not_true_eq_false, not_false_eq_true, false_implies, true_implies, List.length_cons, List.length_nil]
    repeat (first | refine ⟨in_small (by omega) (by omega), ?_⟩ | (show (_ → _) ∧ (_ → _); first | refine ⟨by omega, fun _ => ?_⟩ | refine ⟨fun _ => ?_, by omega⟩) | refine ⟨by omega, ?_⟩ | refine ⟨⟨_, rfl, by assumption⟩, ?_⟩ | refine ⟨okT_I _, ?_⟩ | refine call0 (gd_of rfl) ?_)
    refine ih (k + 1) B10 S10 D10 (by omega) (by omega) (by rw [b.2.1 _ (by omega)]; exact k4) (by omega) (fun j hj => ?_) fun B' S' D' b' => K B' S' D' (b.tr b')
    by_cases hji : j = k
    · subst hji
      exact ⟨by rw [rr, if_pos rfl], x⟩
    · obtain ⟨x1, x2⟩ := he j (by omega)
      exact ⟨by rw [rr, if_neg (by omega)]; exact x1, (nmX.loc 18 130).go b (by omega) (by omega) x2⟩
theorem mc_chain : Mc P_X16_chainOf [] 445 28956 chX 445 := fun E B S D hB K => by
  refine wp_in ?_
  simp only [P_X16_chainOf, i_kil, i_icon, i_lcon, i_null, i_loadI, i_loadL, i_loadR, i_istore, i_lstore, i_astore, i_iinc, i_dup, i_dup2, i_pop, i_iadd, i_isub, i_imul, i_idiv, i_irem, i_ineg, i_iand, i_ior, i_ishl, i_ishr, i_lxor, i_ladd, i_lsub, i_lmul, i_ldiv, i_lrem, i_lneg, i_lshl, i_lcmp, i_i2l, i_l2i, i_i2b, i_i2s, i_ifeq, i_ifne, i_iflt, i_ifge, i_ifgt, i_ifle, i_cmpeq, i_cmpne, i_cmplt, i_cmpge, i_cmpgt, i_cmple, i_acmpeq, i_acmpne, i_ifnull, i_ifnonnull, i_getI, i_getR, i_putI, i_putZ, i_putR, i_ald, i_ldL, i_ldR, i_ast, i_stL, i_stR, i_alen, i_new, i_iret, i_zret, i_lret, i_aret, i_vret, i_raise, i_throw, i_recv, i_objinit, i_tsw3, lget, lset, lput1, lput2, lkil, ltrim, largs, isL, takev, dropv, nthv, pushO, catv, gd, true_and, and_true, Option.some.injEq, Prod.mk.injEq, exists_eq_left', if_true, if_false, reduceCtorEq, Bool.false_eq_true, lcmp_ge, lcmp_lt, lcmp_le, lcmp_gt, lcmp_eq, true_or, or_true, not_true_eq_false, not_false_eq_true, false_implies, true_implies, List.length_cons, List.length_nil]
  refine newK (n := 12) (by omega) (by omega) fun B0 S0 D0 u0 b0 n0 x0 => ?_
  simp only [P_X16_chainOf, i_kil, i_icon, i_lcon, i_null, i_loadI, i_loadL, i_loadR, i_istore, i_lstore, i_astore, i_iinc, i_dup, i_dup2, i_pop, i_iadd, i_isub, i_imul, i_idiv, i_irem, i_ineg, i_iand, i_ior, i_ishl, i_ishr, i_lxor, i_ladd, i_lsub, i_lmul, i_ldiv, i_lrem, i_lneg, i_lshl, i_lcmp, i_i2l, i_l2i, i_i2b, i_i2s, i_ifeq, i_ifne, i_iflt, i_ifge, i_ifgt, i_ifle, i_cmpeq, i_cmpne, i_cmplt, i_cmpge, i_cmpgt, i_cmple, i_acmpeq, i_acmpne, i_ifnull, i_ifnonnull, i_getI, i_getR, i_putI, i_putZ, i_putR, i_ald, i_ldL, i_ldR, i_ast, i_stL, i_stR, i_alen, i_new, i_newa, i_iret, i_zret, i_lret, i_aret, i_vret, i_raise, i_throw, i_recv, i_objinit, i_tsw3, lget, lset, lput1, lput2, lkil, ltrim, largs, isL, takev, dropv, nthv, pushO, catv, gd, true_and, and_true, Option.some.injEq, Prod.mk.injEq, exists_eq_left', if_true, if_false, reduceCtorEq, Bool.false_eq_true, lcmp_ge, lcmp_lt, lcmp_le, lcmp_gt, lcmp_eq, true_or, or_true, not_true_eq_false, not_false_eq_true, false_implies, true_implies, List.length_cons, List.length_nil]
  exact chain_loop (a := S.2.2) 12 0 B0 S0 D0 (by omega) (by omega) x0.1 (by omega) (fun j hj => absurd hj (Nat.not_lt_zero _)) fun B' S' D' b1 b2 b3 => K B' S' D' b3 b2 (b0.tr b1)
