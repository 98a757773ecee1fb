/-! the component's constructor: its orders, its loops -/
-- needs: g6.ctor3
set_option maxRecDepth 100000
set_option linter.unusedVariables false
theorem newK {S : Stat} {D : Dat} {B : Nat × Nat} {t n : Nat} {K : Tm} {ls : List (Option PV)} {st0 : List PV} (hn : n < 60000000) (hB : 1 ≤ B.1 ∧ n ≤ B.2)
    (hK : ∀ (B' : Nat × Nat) (S' : Stat) (D' : Dat), (B.1 ≤ B'.1 + 1 ∧ B.2 ≤ B'.2 + n) → bE S.2.2 S S' D D' → S'.2.2 = S.2.2 + 1 → X0a t n S' D' S.2.2 → K ls (.inr (.inr (some S.2.2)) :: st0) B' S' D') : i_newa K t ls (.inl (n : Int) :: st0) B S D := by
  refine ⟨B.1 - 1, B.2 - n, n, rfl, hn, Prod.ext (by show B.1 = B.1 - 1 + 1; omega) (by show B.2 = B.2 - n + n; omega), ?_⟩
  exact hK _ _ _ ⟨by show B.1 ≤ B.1 - 1 + 1; omega, by show B.2 ≤ B.2 - n + n; omega⟩ ⟨Nat.le_succ _, fun a ha => if_neg (by omega), fun a i ha _ => if_neg (by omega), fun a i ha _ => if_neg (by omega)⟩ rfl ⟨if_pos rfl, fun i => if_pos rfl, fun i => if_pos rfl⟩
theorem strK {S : Stat} {D : Dat} {B : Nat × Nat} {a t N x c : Nat} {cs : List Nat} {i : Int} {K : Tm} {ls : List (Option PV)} {st0 : List PV} (o : S.1 a = some (t, N)) (ox : S.1 x = some (c, 0)) (hc : c ∈ cs) (hi : 0 ≤ i ∧ i < N)
    (hK : ∀ S' : Stat, bE a S S' D D → S'.2.2 = S.2.2 → (∀ j, S'.2.1 a j = if j = i then some x else S.2.1 a j) → K ls st0 B S' D) : i_stR K t cs ls (.inr (.inr (some x)) :: .inl i :: .inr (.inr (some a)) :: st0) B S D := by
  refine ⟨N, c, 0, o, ox, hc, hi.1, hi.2, hK _ ⟨Nat.le_refl _, fun _ _ => rfl, fun a' i ha hn => setR_ne (.inl hn), fun _ _ _ _ => rfl⟩ rfl fun j => ?_⟩
  by_cases q : j = i
  · rw [if_pos q, q]
    show pmur _ _ _ _ _ _ = _
    simp only [pmur, and_self, if_true]
  · rw [if_neg q, setR_ne (.inr q)]
/-- references of the cells in F alone have changed -/
def bF (F : Nat → Prop) (S S' : Stat) (D D' : Dat) : Prop := S.2.2 ≤ S'.2.2 ∧ (∀ a, a < S.2.2 → S'.1 a = S.1 a) ∧ (∀ a i, a < S.2.2 → ¬ F a → S'.2.1 a i = S.2.1 a i) ∧ ∀ a i, a < S.2.2 → D' a i = D a i
theorem bF.rfl {F : Nat → Prop} {S : Stat} {D : Dat} : bF F S S D D := ⟨Nat.le_refl _, fun _ _ => Eq.refl _, fun _ _ _ _ => Eq.refl _, fun _ _ _ => Eq.refl _⟩
theorem bF.tr {F : Nat → Prop} {S S1 S2 : Stat} {D D1 D2 : Dat} (h : bF F S S1 D D1) (k : bF F S1 S2 D1 D2) : bF F S S2 D D2 :=
  ⟨Nat.le_trans h.1 k.1, fun a ha => by rw [k.2.1 a (Nat.lt_of_lt_of_le ha h.1), h.2.1 a ha], fun a i ha hn => by rw [k.2.2.1 a i (Nat.lt_of_lt_of_le ha h.1) hn, h.2.2.1 a i ha hn], fun a i ha => by rw [k.2.2.2 a i (Nat.lt_of_lt_of_le ha h.1), h.2.2.2 a i ha]⟩
theorem bF.mono {F G : Nat → Prop} {S S' : Stat} {D D' : Dat} (h : bF F S S' D D') (e : ∀ a, F a → G a) : bF G S S' D D' := ⟨h.1, h.2.1, fun a i ha hn => h.2.2.1 a i ha fun q => hn (e a q), h.2.2.2⟩
theorem bE.toF {F : Nat → Prop} {a : Nat} {S S' : Stat} {D D' : Dat} (h : bE a S S' D D') (e : ∀ i, D' a i = D a i) (k : F a) : bF F S S' D D' :=
  ⟨h.1, h.2.1, fun x i hx hn => h.2.2.1 x i hx fun q => hn (q ▸ k), fun x i hx => by
    by_cases q : x = a
    · rw [q]; exact e i
    · exact h.2.2.2 x i hx q⟩
theorem Loc.goF {X : Stat → Dat → Nat → Prop} {sz q : Nat} {F : Nat → Prop} {S S' : Stat} {D D' : Dat} (h : Loc X sz) (b : bF F S S' D D') (hq : q + sz ≤ S.2.2) (hp : ∀ c, q ≤ c → c < q + sz → ¬ F c) (x : X S D q) : X S' D' q :=
  h S S' D D' q (fun c c1 c2 => ⟨b.2.1 c (by omega), fun i => b.2.2.1 c i (by omega) (hp c c1 c2), fun i => b.2.2.2 c i (by omega)⟩) x
theorem bE.trF {p : Nat} {F : Nat → Prop} {S S1 S2 : Stat} {D D1 D2 : Dat} (h : bE p S S1 D D1) (k : bF F S1 S2 D1 D2) (hl : ∀ a, F a → S.2.2 ≤ a) : bE p S S2 D D2 :=
  ⟨Nat.le_trans h.1 k.1, fun x hx => by rw [k.2.1 x (Nat.lt_of_lt_of_le hx h.1), h.2.1 x hx], fun x i hx hn => by rw [k.2.2.1 x i (Nat.lt_of_lt_of_le hx h.1) (fun z => by have := hl x z; omega), h.2.2.1 x i hx hn], fun x i hx hn => by rw [k.2.2.2 x i (Nat.lt_of_lt_of_le hx h.1), h.2.2.2 x i hx hn]⟩
theorem lt_app {S S' : Stat} {D D' : Dat} {p q n : Nat} (b : bE p S S' D D') (h : q < S.2.2) : q < S'.2.2 := Nat.lt_of_lt_of_le h b.1
theorem mkS1 {S : Stat} {p : Nat} {v : Option (Nat × Nat)} (hp : p < S.2.2) (h : S.1 p = v) : ∀ c n, (mkS S c n).1 p = v := fun c n => (if_neg (by omega)).trans h
theorem mkS2 {S : Stat} {p : Nat} {i : Int} {v : Option Nat} (hp : p < S.2.2) (h : S.2.1 p i = v) : ∀ c n, (mkS S c n).2.1 p i = v := fun c n => (if_neg (by omega)).trans h
def XO (T x9 : Nat) : Stat → Dat → Nat → Prop := fun S D x => S.1 x = some (109, 5) ∧ S.2.1 x 0 = some x9 ∧ (∀ k : Nat, 1 ≤ k → k < 5 → S.2.1 x k = some (x + k)) ∧ X9l 10 T S D (x + 1) ∧ X9l 11 T S D (x + 2) ∧ X12l T 1 S D (x + 3) ∧ X12l T 2 S D (x + 4)
theorem XO.loc (T x9 : Nat) : Loc (XO T x9) 5 := fun S S' D D' q e h => by
  obtain ⟨h1, h2, h3, h4, h5, h6, h7⟩ := h
  exact ⟨by rw [(e q (by omega) (by omega)).1]; exact h1, by rw [(e q (by omega) (by omega)).2.1]; exact h2, fun k k1 k2 => by rw [(e q (by omega) (by omega)).2.1]; exact h3 k k1 k2, X9l.loc 10 T S S' D D' _ (fun c c1 c2 => e c (by omega) (by omega)) h4, X9l.loc 11 T S S' D D' _ (fun c c1 c2 => e c (by omega) (by omega)) h5, X12l.loc T 1 S S' D D' _ (fun c c1 c2 => e c (by omega) (by omega)) h6, X12l.loc T 2 S S' D D' _ (fun c c1 c2 => e c (by omega) (by omega)) h7⟩
set_option maxHeartbeats 4000000 in
theorem x0_orders {S : Stat} {D : Dat} {B : Nat × Nat} {p T x9 : Nat} {K : Tm} (hB : 5 ≤ B.1 ∧ 11 ≤ B.2) (hp : p < S.2.2) (o : S.1 p = some (0, 0)) (f3 : S.2.1 p 3 = some T) (f16 : S.2.1 p 16 = some x9) (h9 : S.1 x9 = some (9, 0)) (h9l : x9 < S.2.2)
    (hK : ∀ (B' : Nat × Nat) (S' : Stat) (D' : Dat), (B.1 ≤ B'.1 + 5 ∧ B.2 ≤ B'.2 + 11) → bE p S S' D D' → S'.2.2 = S.2.2 + 5 → (∀ i, S'.2.1 p i = if i = 17 then some S.2.2 else S.2.1 p i) → (∀ i, D' p i = D p i) → XO T x9 S' D' S.2.2 → K [some (aR p)] [] B' S' D') :
    (i_newa (K := (i_dup (K := (i_icon (K := (i_loadR (K := (i_getR (K := (i_stR (K := (i_dup (K := (i_icon (K := (i_new (K := (i_dup (K := (i_loadR (K := (i_getR (K := (i_recv (i_call (K := (i_stR (K := (i_dup (K := (i_icon (K := (i_new (K := (i_dup (K := (i_loadR (K := (i_getR (K := (i_recv (i_call (K := (i_stR (K := (i_dup (K := (i_icon (K := (i_new (K := (i_dup (K := (i_loadR (K := (i_getR (K := (i_icon (K := (i_recv (i_call (K := (i_stR (K := (i_dup (K := (i_icon (K := (i_new (K := (i_dup (K := (i_loadR (K := (i_getR (K := (i_icon (K := (i_recv (i_call (K := (i_stR (K := (i_putR K 0 17)) 109 [12])) P_X12_init 3 3 i_none) 12 2)) (2))) 0 3)) 0)))) 12 2)) (4))))) 109 [12])) P_X12_init 3 3 i_none) 12 2)) (1))) 0 3)) 0)))) 12 2)) (3))))) 109 [11])) P_X11_init 2 2 i_none) 11 1)) 0 3)) 0)))) 11 1)) (2))))) 109 [10])) P_X10_init 2 2 i_none) 10 1)) 0 3)) 0)))) 10 1)) (1))))) 109 [9])) 0 16)) 0)) (0))))) 109) [some (aR p)] [.inl 5, .inr (.inr (some p))] B S D := by
  generalize hx : S.2.2 = x at *
  refine newK (n := 5) (by decide) (by omega) fun B0 S0 D0 u0 b0 n0 x0 => ?_
  rw [hx] at b0 n0 x0 ⊢
  have hpx : p ≠ x := Nat.ne_of_lt hp
  have o0 : S0.1 p = some (0, 0) := by rw [b0.2.1 p (by omega)]; exact o
  have t0 : S0.2.1 p 3 = some T := by rw [b0.2.2.1 p _ (by omega) hpx]; exact f3
  have e0 : S0.2.1 p 16 = some x9 := by rw [b0.2.2.1 p _ (by omega) hpx]; exact f16
  simp only [i_kil, i_icon, i_lcon, i_null, i_loadI, i_loadL, i_loadR, i_istore, i_lstore, i_astore, i_iinc, i_dup, i_dup2, i_pop, i_iadd, i_isub, i_imul, i_idiv, i_irem, i_ineg, i_iand, i_ior, i_ishl, i_ishr, i_lxor, i_ladd, i_lsub, i_lmul, i_ldiv, i_lrem, i_lneg, i_lshl, i_lcmp, i_i2l, i_l2i, i_i2b, i_i2s, i_ifeq, i_ifne, i_iflt, i_ifge, i_ifgt, i_ifle, i_cmpeq, i_cmpne, i_cmplt, i_cmpge, i_cmpgt, i_cmple, i_acmpeq, i_acmpne, i_ifnull, i_ifnonnull, i_getI, i_getR, i_putI, i_putZ, i_ald, i_ldL, i_ldR, i_ast, i_stL, i_alen, i_new, i_iret, i_zret, i_lret, i_aret, i_vret, i_raise, i_throw, i_recv, i_objinit, i_tsw3, lget, lset, lput1, lput2, lkil, ltrim, largs, isL, takev, dropv, nthv, pushO, catv, gd, true_and, and_true, Option.some.injEq, Prod.mk.injEq, exists_eq_left', if_true, if_false, reduceCtorEq, Bool.false_eq_true, lcmp_ge, lcmp_lt, lcmp_le, lcmp_gt, lcmp_eq, true_or, or_true, not_true_eq_false, not_false_eq_true, false_implies, true_implies, List.length_cons, List.length_nil, o0, e0]
  refine strK x0.1 (by rw [b0.2.1 x9 (by omega)]; exact h9) (by decide) (by decide) fun S1 b1 n1 r1 => ?_
  have a1 : S1.1 x = some (109, 5) := by rw [b1.2.1 x (by omega)]; exact x0.1
  have g1 : bE x S S1 D D0 := b0.tr b1
  have o1 : S1.1 p = some (0, 0) := by rw [g1.2.1 p (by omega)]; exact o
  have t1 : S1.2.1 p 3 = some T := by rw [g1.2.2.1 p _ (by omega) hpx]; exact f3
  have m1 := mkS1 (show p < S1.2.2 by omega) o1
  have k1 := mkS2 (show p < S1.2.2 by omega) t1
  simp only [i_kil, i_icon, i_lcon, i_null, i_loadI, i_loadL, i_loadR, i_istore, i_lstore, i_astore, i_iinc, i_dup, i_dup2, i_pop, i_iadd, i_isub, i_imul, i_idiv, i_irem, i_ineg, i_iand, i_ior, i_ishl, i_ishr, i_lxor, i_ladd, i_lsub, i_lmul, i_ldiv, i_lrem, i_lneg, i_lshl, i_lcmp, i_i2l, i_l2i, i_i2b, i_i2s, i_ifeq, i_ifne, i_iflt, i_ifge, i_ifgt, i_ifle, i_cmpeq, i_cmpne, i_cmplt, i_cmpge, i_cmpgt, i_cmple, i_acmpeq, i_acmpne, i_ifnull, i_ifnonnull, i_getI, i_getR, i_putI, i_putZ, i_ald, i_ldL, i_ldR, i_ast, i_stL, i_alen, i_new, i_iret, i_zret, i_lret, i_aret, i_vret, i_raise, i_throw, i_recv, i_objinit, i_tsw3, lget, lset, lput1, lput2, lkil, ltrim, largs, isL, takev, dropv, nthv, pushO, catv, gd, true_and, and_true, Option.some.injEq, Prod.mk.injEq, exists_eq_left', if_true, if_false, reduceCtorEq, Bool.false_eq_true, lcmp_ge, lcmp_lt, lcmp_le, lcmp_gt, lcmp_eq, true_or, or_true, not_true_eq_false, not_false_eq_true, false_implies, true_implies, List.length_cons, List.length_nil, m1, k1]
  refine fldE (i := 1) (x10_at (c := 10) (T := T) (by decide)) (X9l.loc 10 T) (by omega) (by omega) a1 (by decide) (by decide) (fun _ _ x => x.1) (by decide) (by rfl) (by rfl) (by rfl) fun B2 S2 D2 u2 b2 n2 r2 d2 x2 => ?_
  rw [show S1.2.2 = x + 1 by omega] at n2 r2 x2
  have a2 : S2.1 x = some (109, 5) := by rw [b2.2.1 x (by omega)]; exact a1
  have g2 : bE x S S2 D D2 := g1.tr b2
  have o2 : S2.1 p = some (0, 0) := by rw [g2.2.1 p (by omega)]; exact o
  have t2 : S2.2.1 p 3 = some T := by rw [g2.2.2.1 p _ (by omega) hpx]; exact f3
  have m2 := mkS1 (show p < S2.2.2 by omega) o2
  have k2 := mkS2 (show p < S2.2.2 by omega) t2
  simp only [i_kil, i_icon, i_lcon, i_null, i_loadI, i_loadL, i_loadR, i_istore, i_lstore, i_astore, i_iinc, i_dup, i_dup2, i_pop, i_iadd, i_isub, i_imul, i_idiv, i_irem, i_ineg, i_iand, i_ior, i_ishl, i_ishr, i_lxor, i_ladd, i_lsub, i_lmul, i_ldiv, i_lrem, i_lneg, i_lshl, i_lcmp, i_i2l, i_l2i, i_i2b, i_i2s, i_ifeq, i_ifne, i_iflt, i_ifge, i_ifgt, i_ifle, i_cmpeq, i_cmpne, i_cmplt, i_cmpge, i_cmpgt, i_cmple, i_acmpeq, i_acmpne, i_ifnull, i_ifnonnull, i_getI, i_getR, i_putI, i_putZ, i_ald, i_ldL, i_ldR, i_ast, i_stL, i_alen, i_new, i_iret, i_zret, i_lret, i_aret, i_vret, i_raise, i_throw, i_recv, i_objinit, i_tsw3, lget, lset, lput1, lput2, lkil, ltrim, largs, isL, takev, dropv, nthv, pushO, catv, gd, true_and, and_true, Option.some.injEq, Prod.mk.injEq, exists_eq_left', if_true, if_false, reduceCtorEq, Bool.false_eq_true, lcmp_ge, lcmp_lt, lcmp_le, lcmp_gt, lcmp_eq, true_or, or_true, not_true_eq_false, not_false_eq_true, false_implies, true_implies, List.length_cons, List.length_nil, m2, k2]
  refine fldE (i := 2) (x11_at (c := 11) (T := T) (by decide)) (X9l.loc 11 T) (by omega) (by omega) a2 (by decide) (by decide) (fun _ _ x => x.1) (by decide) (by rfl) (by rfl) (by rfl) fun B3 S3 D3 u3 b3 n3 r3 d3 x3 => ?_
  rw [show S2.2.2 = x + 2 by omega] at n3 r3 x3
  have a3 : S3.1 x = some (109, 5) := by rw [b3.2.1 x (by omega)]; exact a2
  have g3 : bE x S S3 D D3 := g2.tr b3
  have o3 : S3.1 p = some (0, 0) := by rw [g3.2.1 p (by omega)]; exact o
  have t3 : S3.2.1 p 3 = some T := by rw [g3.2.2.1 p _ (by omega) hpx]; exact f3
  have m3 := mkS1 (show p < S3.2.2 by omega) o3
  have k3 := mkS2 (show p < S3.2.2 by omega) t3
  simp only [i_kil, i_icon, i_lcon, i_null, i_loadI, i_loadL, i_loadR, i_istore, i_lstore, i_astore, i_iinc, i_dup, i_dup2, i_pop, i_iadd, i_isub, i_imul, i_idiv, i_irem, i_ineg, i_iand, i_ior, i_ishl, i_ishr, i_lxor, i_ladd, i_lsub, i_lmul, i_ldiv, i_lrem, i_lneg, i_lshl, i_lcmp, i_i2l, i_l2i, i_i2b, i_i2s, i_ifeq, i_ifne, i_iflt, i_ifge, i_ifgt, i_ifle, i_cmpeq, i_cmpne, i_cmplt, i_cmpge, i_cmpgt, i_cmple, i_acmpeq, i_acmpne, i_ifnull, i_ifnonnull, i_getI, i_getR, i_putI, i_putZ, i_ald, i_ldL, i_ldR, i_ast, i_stL, i_alen, i_new, i_iret, i_zret, i_lret, i_aret, i_vret, i_raise, i_throw, i_recv, i_objinit, i_tsw3, lget, lset, lput1, lput2, lkil, ltrim, largs, isL, takev, dropv, nthv, pushO, catv, gd, true_and, and_true, Option.some.injEq, Prod.mk.injEq, exists_eq_left', if_true, if_false, reduceCtorEq, Bool.false_eq_true, lcmp_ge, lcmp_lt, lcmp_le, lcmp_gt, lcmp_eq, true_or, or_true, not_true_eq_false, not_false_eq_true, false_implies, true_implies, List.length_cons, List.length_nil, m3, k3]
  refine fldE (i := 3) (mk_X12 T 1) (X12l.loc T 1) (by omega) (by omega) a3 (by decide) (by decide) (fun _ _ x => x.1) (by decide) (by rfl) (by rfl) (by rfl) fun B4 S4 D4 u4 b4 n4 r4 d4 x4 => ?_
  rw [show S3.2.2 = x + 3 by omega] at n4 r4 x4
  have a4 : S4.1 x = some (109, 5) := by rw [b4.2.1 x (by omega)]; exact a3
  have g4 : bE x S S4 D D4 := g3.tr b4
  have o4 : S4.1 p = some (0, 0) := by rw [g4.2.1 p (by omega)]; exact o
  have t4 : S4.2.1 p 3 = some T := by rw [g4.2.2.1 p _ (by omega) hpx]; exact f3
  have m4 := mkS1 (show p < S4.2.2 by omega) o4
  have k4 := mkS2 (show p < S4.2.2 by omega) t4
  simp only [i_kil, i_icon, i_lcon, i_null, i_loadI, i_loadL, i_loadR, i_istore, i_lstore, i_astore, i_iinc, i_dup, i_dup2, i_pop, i_iadd, i_isub, i_imul, i_idiv, i_irem, i_ineg, i_iand, i_ior, i_ishl, i_ishr, i_lxor, i_ladd, i_lsub, i_lmul, i_ldiv, i_lrem, i_lneg, i_lshl, i_lcmp, i_i2l, i_l2i, i_i2b, i_i2s, i_ifeq, i_ifne, i_iflt, i_ifge, i_ifgt, i_ifle, i_cmpeq, i_cmpne, i_cmplt, i_cmpge, i_cmpgt, i_cmple, i_acmpeq, i_acmpne, i_ifnull, i_ifnonnull, i_getI, i_getR, i_putI, i_putZ, i_ald, i_ldL, i_ldR, i_ast, i_stL, i_alen, i_new, i_iret, i_zret, i_lret, i_aret, i_vret, i_raise, i_throw, i_recv, i_objinit, i_tsw3, lget, lset, lput1, lput2, lkil, ltrim, largs, isL, takev, dropv, nthv, pushO, catv, gd, true_and, and_true, Option.some.injEq, Prod.mk.injEq, exists_eq_left', if_true, if_false, reduceCtorEq, Bool.false_eq_true, lcmp_ge, lcmp_lt, lcmp_le, lcmp_gt, lcmp_eq, true_or, or_true, not_true_eq_false, not_false_eq_true, false_implies, true_implies, List.length_cons, List.length_nil, m4, k4]
  refine fldE (i := 4) (mk_X12 T 2) (X12l.loc T 2) (by omega) (by omega) a4 (by decide) (by decide) (fun _ _ x => x.1) (by decide) (by rfl) (by rfl) (by rfl) fun B5 S5 D5 u5 b5 n5 r5 d5 x5 => ?_
  rw [show S4.2.2 = x + 4 by omega] at n5 r5 x5
  have a5 : S5.1 x = some (109, 5) := by rw [b5.2.1 x (by omega)]; exact a4
  have g5 : bE x S S5 D D5 := g4.tr b5
  have o5 : S5.1 p = some (0, 0) := by rw [g5.2.1 p (by omega)]; exact o
  refine fldR (p := p) (D := D5) (by omega) o5 fun S6 b6 n6 r6 => ?_
  refine hK _ _ _ (by omega) ((show bE p S S5 D D5 from ⟨g5.1, g5.2.1, fun a i ha _ => g5.2.2.1 a i ha (by omega), fun a i ha _ => g5.2.2.2 a i ha (by omega)⟩).tr b6) (by omega) (fun i => (r6 i).trans (by rw [g5.2.2.1 p i (by omega) hpx])) (fun i => g5.2.2.2 p i (by omega) hpx) ?_
  have y5 := (X12l.loc T 2).go b6 (by omega) (by omega) x5
  have y4 := (X12l.loc T 1).go (b5.tr (bE.tr (p := x) bE.rfl (bE.rfl))) (by omega) (by omega) x4
  have y4' := (X12l.loc T 1).go b6 (by omega) (by omega) y4
  have y3 := (X9l.loc 11 T).go b6 (by omega) (by omega) ((X9l.loc 11 T).go (b4.tr b5) (by omega) (by omega) x3)
  have y2 := (X9l.loc 10 T).go b6 (by omega) (by omega) ((X9l.loc 10 T).go (b3.tr (b4.tr b5)) (by omega) (by omega) x2)
  have rx : ∀ i, S6.2.1 x i = S5.2.1 x i := fun i => b6.2.2.1 x i (by omega) (Ne.symm hpx)
  refine ⟨by rw [b6.2.1 x (by omega)]; exact a5, by rw [rx, r5, r4, r3, r2, r1]; rfl, fun k k1 k2 => ?_, y2, y3, y4', y5⟩
  rw [rx, r5, r4, r3, r2]
  have : k = 1 ∨ k = 2 ∨ k = 3 ∨ k = 4 := by omega
  rcases this with e | e | e | e <;> subst e <;> rfl
theorem x0_l1 {E : Ex} {q : Nat} : ∀ (L k : Nat) (B : Nat × Nat) (S : Stat) (D : Dat), k + L = 8 → 1 ≤ k → 1 * L ≤ B.1 ∧ 7 * L ≤ B.2 → S.1 q = some (0, 0) → S.2.1 q 0 = some (q + 1) → S.1 (q + 1) = some (111, 8) → S.2.2 = q + 727 + 1 * k → (∀ j : Nat, 1 ≤ j → j < k → S.2.1 (q + 1) j = some (q + 727 + j) ∧ X14f j S D (q + 727 + j)) →
    (∀ (B' : Nat × Nat) (S' : Stat) (D' : Dat), (B.1 ≤ B'.1 + 1 * L ∧ B.2 ≤ B'.2 + 7 * L) → bF (fun a => a = q + 1) S S' D D' → S'.2.2 = q + 735 → (∀ j : Nat, 1 ≤ j → j < 8 → S'.2.1 (q + 1) j = some (q + 727 + j) ∧ X14f j S' D' (q + 727 + j)) → Wp P_X0_init E 2 [some (aR q), some (aI 0)] [] B' S' D') → Wp P_X0_init E 1 [some (aR q), some (aI (k : Int))] [] B S D := by
  intro L
  induction L with
  | zero =>
    intro k B S D hk hk1 hb kq r4 k4 hn he K
    have : k = 8 := by omega
    subst this
    refine wp_in ?_
    simp only [P_X0_init, i_kil, i_icon, i_lcon, i_null, i_loadI, i_loadL, i_loadR, i_istore, i_lstore, i_astore, i_iinc, i_dup, i_dup2, i_pop, i_iadd, i_isub, i_imul, i_idiv, i_irem, i_ineg, i_iand, i_ior, i_ishl, i_ishr, i_lxor, i_ladd, i_lsub, i_lmul, i_ldiv, i_lrem, i_lneg, i_lshl, i_lcmp, i_i2l, i_l2i, i_i2b, i_i2s, i_ifeq, i_ifne, i_iflt, i_ifge, i_ifgt, i_ifle, i_cmpeq, i_cmpne, i_cmplt, i_cmpge, i_cmpgt, i_cmple, i_acmpeq, i_acmpne, i_ifnull, i_ifnonnull, i_getI, i_getR, i_putI, i_putZ, i_putR, i_ald, i_ldL, i_ldR, i_ast, i_stL, i_stR, i_alen, i_new, i_newa, i_iret, i_zret, i_lret, i_aret, i_vret, i_raise, i_throw, i_recv, i_objinit, i_tsw3, lget, lset, lput1, lput2, lkil, ltrim, largs, isL, takev, dropv, nthv, pushO, catv, gd, true_and, and_true, Option.some.injEq, Prod.mk.injEq, exists_eq_left', if_true, if_false, reduceCtorEq, Bool.false_eq_true, lcmp_ge, lcmp_lt, lcmp_le, lcmp_gt, lcmp_eq, true_or, or_true, not_true_eq_false, not_false_eq_true, false_implies, true_implies, List.length_cons, List.length_nil]
    exact ⟨fun _ => K _ _ _ (by omega) bF.rfl (by omega) he, fun q => absurd q (by decide)⟩
  | succ L ih =>
    intro k B S D hk hk1 hb kq r4 k4 hn he K
    refine wp_in ?_
    have ng : inI (-(k : Int)) := in_small (by omega) (by omega)
    simp only [P_X0_init, i_kil, i_icon, i_lcon, i_null, i_loadI, i_loadL, i_loadR, i_istore, i_lstore, i_astore, i_iinc, i_dup, i_dup2, i_pop, i_iadd, i_isub, i_imul, i_idiv, i_irem, i_ineg, i_iand, i_ior, i_ishl, i_ishr, i_lxor, i_ladd, i_lsub, i_lmul, i_ldiv, i_lrem, i_lneg, i_lshl, i_lcmp, i_i2l, i_l2i, i_i2b, i_i2s, i_ifeq, i_ifne, i_iflt, i_ifge, i_ifgt, i_ifle, i_cmpeq, i_cmpne, i_cmplt, i_cmpge, i_cmpgt, i_cmple, i_acmpeq, i_acmpne, i_ifnull, i_ifnonnull, i_getI, i_getR, i_putI, i_putZ, i_putR, i_ald, i_ldL, i_ldR, i_ast, i_stL, i_alen, i_new, i_iret, i_zret, i_lret, i_aret, i_vret, i_raise, i_throw, i_recv, i_objinit, i_tsw3, lget, lset, lput1, lput2, lkil, ltrim, largs, isL, takev, dropv, nthv, pushO, catv, gd, true_and, and_true, Option.some.injEq, Prod.mk.injEq, exists_eq_left', if_true, if_false, reduceCtorEq, Bool.false_eq_true, lcmp_ge, lcmp_lt, lcmp_le, lcmp_gt, lcmp_eq, true_or, or_true, not_true_eq_false, not_false_eq_true, false_implies, true_implies, List.length_cons, List.length_nil, kq, r4, k4, ng]
    refine ⟨fun q => by omega, fun _ => ?_⟩
    refine fldE (i := (k : Int)) (mk_X14 k) (X14f.loc k) (by omega) (by omega) k4 (by decide) (by simp only [List.mem_cons, true_or]) (fun _ _ x => x.1) (by omega) (by rfl) (by rfl) (by rfl) fun B10 S10 D10 u b m r e x => ?_
    rw [show S.2.2 = q + 727 + k by omega] at m r x
    simp only [P_X0_init, i_kil, i_icon, i_lcon, i_null, i_loadI, i_loadL, i_loadR, i_istore, i_lstore, i_astore, i_iinc, i_dup, i_dup2, i_pop, i_iadd, i_isub, i_imul, i_idiv, i_irem, i_ineg, i_iand, i_ior, i_ishl, i_ishr, i_lxor, i_ladd, i_lsub, i_lmul, i_ldiv, i_lrem, i_lneg, i_lshl, i_lcmp, i_i2l, i_l2i, i_i2b, i_i2s, i_ifeq, i_ifne, i_iflt, i_ifge, i_ifgt, i_ifle, i_cmpeq, i_cmpne, i_cmplt, i_cmpge, i_cmpgt, i_cmple, i_acmpeq, i_acmpne, i_ifnull, i_ifnonnull, i_getI, i_getR, i_putI, i_putZ, i_putR, i_ald, i_ldL, i_ldR, i_ast, i_stL, i_stR, i_alen, i_new, i_newa, i_iret, i_zret, i_lret, i_aret, i_vret, i_raise, i_throw, i_recv, i_objinit, i_tsw3, lget, lset, lput1, lput2, lkil, ltrim, largs, isL, takev, dropv, nthv, pushO, catv, gd, true_and, and_true, Option.some.injEq, Prod.mk.injEq, exists_eq_left', if_true, if_false, reduceCtorEq, Bool.false_eq_true, lcmp_ge, lcmp_lt, lcmp_le, lcmp_gt, lcmp_eq, true_or, or_true, not_true_eq_false, not_false_eq_true, false_implies, true_implies, List.length_cons, List.length_nil]
    repeat (first | refine ⟨in_small (by omega) (by omega), ?_⟩ | (show (_ → _) ∧ (_ → _); first | refine ⟨by omega, fun _ => ?_⟩ | refine ⟨fun _ => ?_, by omega⟩) | refine ⟨by omega, ?_⟩ | refine ⟨⟨_, rfl, by assumption⟩, ?_⟩ | refine ⟨okT_I _, ?_⟩ | refine call0 (gd_of rfl) ?_)
    have b' : bF (fun a => a = q + 1) S S10 D D10 := b.toF e rfl
    refine ih (k + 1) B10 S10 D10 (by omega) (by omega) (by omega) (by rw [b.2.1 _ (by omega)]; exact kq) (by rw [b.2.2.1 _ _ (by omega) (by omega)]; exact r4) (by rw [b.2.1 _ (by omega)]; exact k4) (by omega) (fun j j1 hj => ?_) fun B' S' D' u' b2 => K B' S' D' (by omega) (b'.tr b2)
    by_cases hji : j = k
    · subst hji
      exact ⟨by rw [r, if_pos rfl], x⟩
    · obtain ⟨x1, x2⟩ := he j j1 (by omega)
      exact ⟨by rw [r, if_neg (by omega)]; exact x1, (X14f.loc j).go b (by omega) (by omega) x2⟩
theorem x0_l2 {E : Ex} {q : Nat} : ∀ (L k : Nat) (B : Nat × Nat) (S : Stat) (D : Dat), k + L = 16 → 0 ≤ k → 1 * L ≤ B.1 ∧ 3 * L ≤ B.2 → S.1 q = some (0, 0) → S.2.1 q 15 = some (q + 698) → S.1 (q + 698) = some (108, 16) → S.2.2 = q + 735 + 1 * k → (∀ j : Nat, j < k → S.2.1 (q + 698) j = some (q + 735 + j) ∧ X15s S D (q + 735 + j)) →
    (∀ (B' : Nat × Nat) (S' : Stat) (D' : Dat), (B.1 ≤ B'.1 + 1 * L ∧ B.2 ≤ B'.2 + 3 * L) → bF (fun a => a = q + 698) S S' D D' → S'.2.2 = q + 751 → (∀ j : Nat, j < 16 → S'.2.1 (q + 698) j = some (q + 735 + j) ∧ X15s S' D' (q + 735 + j)) → Wp P_X0_init E 3 [some (aR q), some (aI 0)] [] B' S' D') → Wp P_X0_init E 2 [some (aR q), some (aI (k : Int))] [] B S D := by
  intro L
  induction L with
  | zero =>
    intro k B S D hk hk1 hb kq r4 k4 hn he K
    have : k = 16 := by omega
    subst this
    refine wp_in ?_
    simp only [P_X0_init, i_kil, i_icon, i_lcon, i_null, i_loadI, i_loadL, i_loadR, i_istore, i_lstore, i_astore, i_iinc, i_dup, i_dup2, i_pop, i_iadd, i_isub, i_imul, i_idiv, i_irem, i_ineg, i_iand, i_ior, i_ishl, i_ishr, i_lxor, i_ladd, i_lsub, i_lmul, i_ldiv, i_lrem, i_lneg, i_lshl, i_lcmp, i_i2l, i_l2i, i_i2b, i_i2s, i_ifeq, i_ifne, i_iflt, i_ifge, i_ifgt, i_ifle, i_cmpeq, i_cmpne, i_cmplt, i_cmpge, i_cmpgt, i_cmple, i_acmpeq, i_acmpne, i_ifnull, i_ifnonnull, i_getI, i_getR, i_putI, i_putZ, i_putR, i_ald, i_ldL, i_ldR, i_ast, i_stL, i_stR, i_alen, i_new, i_newa, i_iret, i_zret, i_lret, i_aret, i_vret, i_raise, i_throw, i_recv, i_objinit, i_tsw3, lget, lset, lput1, lput2, lkil, ltrim, largs, isL, takev, dropv, nthv, pushO, catv, gd, true_and, and_true, Option.some.injEq, Prod.mk.injEq, exists_eq_left', if_true, if_false, reduceCtorEq, Bool.false_eq_true, lcmp_ge, lcmp_lt, lcmp_le, lcmp_gt, lcmp_eq, true_or, or_true, not_true_eq_false, not_false_eq_true, false_implies, true_implies, List.length_cons, List.length_nil]
    exact ⟨fun _ => K _ _ _ (by omega) bF.rfl (by omega) he, fun q => absurd q (by decide)⟩
  | succ L ih =>
    intro k B S D hk hk1 hb kq r4 k4 hn he K
    refine wp_in ?_
    simp only [P_X0_init, i_kil, i_icon, i_lcon, i_null, i_loadI, i_loadL, i_loadR, i_istore, i_lstore, i_astore, i_iinc, i_dup, i_dup2, i_pop, i_iadd, i_isub, i_imul, i_idiv, i_irem, i_ineg, i_iand, i_ior, i_ishl, i_ishr, i_lxor, i_ladd, i_lsub, i_lmul, i_ldiv, i_lrem, i_lneg, i_lshl, i_lcmp, i_i2l, i_l2i, i_i2b, i_i2s, i_ifeq, i_ifne, i_iflt, i_ifge, i_ifgt, i_ifle, i_cmpeq, i_cmpne, i_cmplt, i_cmpge, i_cmpgt, i_cmple, i_acmpeq, i_acmpne, i_ifnull, i_ifnonnull, i_getI, i_getR, i_putI, i_putZ, i_putR, i_ald, i_ldL, i_ldR, i_ast, i_stL, i_alen, i_new, i_iret, i_zret, i_lret, i_aret, i_vret, i_raise, i_throw, i_recv, i_objinit, i_tsw3, lget, lset, lput1, lput2, lkil, ltrim, largs, isL, takev, dropv, nthv, pushO, catv, gd, true_and, and_true, Option.some.injEq, Prod.mk.injEq, exists_eq_left', if_true, if_false, reduceCtorEq, Bool.false_eq_true, lcmp_ge, lcmp_lt, lcmp_le, lcmp_gt, lcmp_eq, true_or, or_true, not_true_eq_false, not_false_eq_true, false_implies, true_implies, List.length_cons, List.length_nil, kq, r4, k4]
    refine ⟨fun q => by omega, fun _ => ?_⟩
    refine fldE (i := (k : Int)) mk_X15 X15s.loc (by omega) (by omega) k4 (by decide) (by simp only [List.mem_cons, true_or]) (fun _ _ x => x.1) (by omega) (by rfl) (by rfl) (by rfl) fun B10 S10 D10 u b m r e x => ?_
    rw [show S.2.2 = q + 735 + k by omega] at m r x
    simp only [P_X0_init, i_kil, i_icon, i_lcon, i_null, i_loadI, i_loadL, i_loadR, i_istore, i_lstore, i_astore, i_iinc, i_dup, i_dup2, i_pop, i_iadd, i_isub, i_imul, i_idiv, i_irem, i_ineg, i_iand, i_ior, i_ishl, i_ishr, i_lxor, i_ladd, i_lsub, i_lmul, i_ldiv, i_lrem, i_lneg, i_lshl, i_lcmp, i_i2l, i_l2i, i_i2b, i_i2s, i_ifeq, i_ifne, i_iflt, i_ifge, i_ifgt, i_ifle, i_cmpeq, i_cmpne, i_cmplt, i_cmpge, i_cmpgt, i_cmple, i_acmpeq, i_acmpne, i_ifnull, i_ifnonnull, i_getI, i_getR, i_putI, i_putZ, i_putR, i_ald, i_ldL, i_ldR, i_ast, i_stL, i_stR, i_alen, i_new, i_newa, i_iret, i_zret, i_lret, i_aret, i_vret, i_raise, i_throw, i_recv, i_objinit, i_tsw3, lget, lset, lput1, lput2, lkil, ltrim, largs, isL, takev, dropv, nthv, pushO, catv, gd, true_and, and_true, Option.some.injEq, Prod.mk.injEq, exists_eq_left', if_true, if_false, reduceCtorEq, Bool.false_eq_true, lcmp_ge, lcmp_lt, lcmp_le, lcmp_gt, lcmp_eq, true_or, or_true, not_true_eq_false, not_false_eq_true, false_implies, true_implies, List.length_cons, List.length_nil]
    repeat (first | refine ⟨in_small (by omega) (by omega), ?_⟩ | (show (_ → _) ∧ (_ → _); first | refine ⟨by omega, fun _ => ?_⟩ | refine ⟨fun _ => ?_, by omega⟩) | refine ⟨by omega, ?_⟩ | refine ⟨⟨_, rfl, by assumption⟩, ?_⟩ | refine ⟨okT_I _, ?_⟩ | refine call0 (gd_of rfl) ?_)
    have b' : bF (fun a => a = q + 698) S S10 D D10 := b.toF e rfl
    refine ih (k + 1) B10 S10 D10 (by omega) (by omega) (by omega) (by rw [b.2.1 _ (by omega)]; exact kq) (by rw [b.2.2.1 _ _ (by omega) (by omega)]; exact r4) (by rw [b.2.1 _ (by omega)]; exact k4) (by omega) (fun j hj => ?_) fun B' S' D' u' b2 => K B' S' D' (by omega) (b'.tr b2)
    by_cases hji : j = k
    · subst hji
      exact ⟨by rw [r, if_pos rfl], x⟩
    · obtain ⟨x1, x2⟩ := he j (by omega)
      exact ⟨by rw [r, if_neg (by omega)]; exact x1, X15s.loc.go b (by omega) (by omega) x2⟩
theorem x0_l4 {E : Ex} {q : Nat} : ∀ (L k : Nat) (B : Nat × Nat) (S : Stat) (D : Dat), k + L = 8 → 0 ≤ k → 4 * L ≤ B.1 ∧ 49 * L ≤ B.2 → S.1 q = some (0, 0) → S.2.1 q 32 = some (q + 718) → S.1 (q + 718) = some (110, 8) → S.2.2 = q + 787 + 4 * k → (∀ j : Nat, j < k → S.2.1 (q + 718) j = some (q + 787 + 4 * j) ∧ X13r S D (q + 787 + 4 * j)) →
    (∀ (B' : Nat × Nat) (S' : Stat) (D' : Dat), (B.1 ≤ B'.1 + 4 * L ∧ B.2 ≤ B'.2 + 49 * L) → bF (fun a => a = q + 718) S S' D D' → S'.2.2 = q + 819 → (∀ j : Nat, j < 8 → S'.2.1 (q + 718) j = some (q + 787 + 4 * j) ∧ X13r S' D' (q + 787 + 4 * j)) → E (.inl none) B' S' D') → Wp P_X0_init E 4 [some (aR q), some (aI (k : Int))] [] B S D := by
  intro L
  induction L with
  | zero =>
    intro k B S D hk hk1 hb kq r4 k4 hn he K
    have : k = 8 := by omega
    subst this
    refine wp_in ?_
    simp only [P_X0_init, i_kil, i_icon, i_lcon, i_null, i_loadI, i_loadL, i_loadR, i_istore, i_lstore, i_astore, i_iinc, i_dup, i_dup2, i_pop, i_iadd, i_isub, i_imul, i_idiv, i_irem, i_ineg, i_iand, i_ior, i_ishl, i_ishr, i_lxor, i_ladd, i_lsub, i_lmul, i_ldiv, i_lrem, i_lneg, i_lshl, i_lcmp, i_i2l, i_l2i, i_i2b, i_i2s, i_ifeq, i_ifne, i_iflt, i_ifge, i_ifgt, i_ifle, i_cmpeq, i_cmpne, i_cmplt, i_cmpge, i_cmpgt, i_cmple, i_acmpeq, i_acmpne, i_ifnull, i_ifnonnull, i_getI, i_getR, i_putI, i_putZ, i_putR, i_ald, i_ldL, i_ldR, i_ast, i_stL, i_stR, i_alen, i_new, i_newa, i_iret, i_zret, i_lret, i_aret, i_vret, i_raise, i_throw, i_recv, i_objinit, i_tsw3, lget, lset, lput1, lput2, lkil, ltrim, largs, isL, takev, dropv, nthv, pushO, catv, gd, true_and, and_true, Option.some.injEq, Prod.mk.injEq, exists_eq_left', if_true, if_false, reduceCtorEq, Bool.false_eq_true, lcmp_ge, lcmp_lt, lcmp_le, lcmp_gt, lcmp_eq, true_or, or_true, not_true_eq_false, not_false_eq_true, false_implies, true_implies, List.length_cons, List.length_nil]
    exact ⟨fun _ => K _ _ _ (by omega) bF.rfl (by omega) he, fun q => absurd q (by decide)⟩
  | succ L ih =>
    intro k B S D hk hk1 hb kq r4 k4 hn he K
    refine wp_in ?_
    simp only [P_X0_init, i_kil, i_icon, i_lcon, i_null, i_loadI, i_loadL, i_loadR, i_istore, i_lstore, i_astore, i_iinc, i_dup, i_dup2, i_pop, i_iadd, i_isub, i_imul, i_idiv, i_irem, i_ineg, i_iand, i_ior, i_ishl, i_ishr, i_lxor, i_ladd, i_lsub, i_lmul, i_ldiv, i_lrem, i_lneg, i_lshl, i_lcmp, i_i2l, i_l2i, i_i2b, i_i2s, i_ifeq, i_ifne, i_iflt, i_ifge, i_ifgt, i_ifle, i_cmpeq, i_cmpne, i_cmplt, i_cmpge, i_cmpgt, i_cmple, i_acmpeq, i_acmpne, i_ifnull, i_ifnonnull, i_getI, i_getR, i_putI, i_putZ, i_putR, i_ald, i_ldL, i_ldR, i_ast, i_stL, i_alen, i_new, i_iret, i_zret, i_lret, i_aret, i_vret, i_raise, i_throw, i_recv, i_objinit, i_tsw3, lget, lset, lput1, lput2, lkil, ltrim, largs, isL, takev, dropv, nthv, pushO, catv, gd, true_and, and_true, Option.some.injEq, Prod.mk.injEq, exists_eq_left', if_true, if_false, reduceCtorEq, Bool.false_eq_true, lcmp_ge, lcmp_lt, lcmp_le, lcmp_gt, lcmp_eq, true_or, or_true, not_true_eq_false, not_false_eq_true, false_implies, true_implies, List.length_cons, List.length_nil, kq, r4, k4]
    refine ⟨fun q => by omega, fun _ => ?_⟩
    refine fldE (i := (k : Int)) mk_X13 X13r.loc (by omega) (by omega) k4 (by decide) (by simp only [List.mem_cons, true_or]) (fun _ _ x => x.1) (by omega) (by rfl) (by rfl) (by rfl) fun B10 S10 D10 u b m r e x => ?_
    rw [show S.2.2 = q + 787 + 4 * k by omega] at m r x
    simp only [P_X0_init, i_kil, i_icon, i_lcon, i_null, i_loadI, i_loadL, i_loadR, i_istore, i_lstore, i_astore, i_iinc, i_dup, i_dup2, i_pop, i_iadd, i_isub, i_imul, i_idiv, i_irem, i_ineg, i_iand, i_ior, i_ishl, i_ishr, i_lxor, i_ladd, i_lsub, i_lmul, i_ldiv, i_lrem, i_lneg, i_lshl, i_lcmp, i_i2l, i_l2i, i_i2b, i_i2s, i_ifeq, i_ifne, i_iflt, i_ifge, i_ifgt, i_ifle, i_cmpeq, i_cmpne, i_cmplt, i_cmpge, i_cmpgt, i_cmple, i_acmpeq, i_acmpne, i_ifnull, i_ifnonnull, i_getI, i_getR, i_putI, i_putZ, i_putR, i_ald, i_ldL, i_ldR, i_ast, i_stL, i_stR, i_alen, i_new, i_newa, i_iret, i_zret, i_lret, i_aret, i_vret, i_raise, i_throw, i_recv, i_objinit, i_tsw3, lget, lset, lput1, lput2, lkil, ltrim, largs, isL, takev, dropv, nthv, pushO, catv, gd, true_and, and_true, Option.some.injEq, Prod.mk.injEq, exists_eq_left', if_true, if_false, reduceCtorEq, Bool.false_eq_true, lcmp_ge, lcmp_lt, lcmp_le, lcmp_gt, lcmp_eq, true_or, or_true, not_true_eq_false, not_false_eq_true, false_implies, true_implies, List.length_cons, List.length_nil]
    repeat (first | refine ⟨in_small (by omega) (by omega), ?_⟩ | (show (_ → _) ∧ (_ → _); first | refine ⟨by omega, fun _ => ?_⟩ | refine ⟨fun _ => ?_, by omega⟩) | refine ⟨by omega, ?_⟩ | refine ⟨⟨_, rfl, by assumption⟩, ?_⟩ | refine ⟨okT_I _, ?_⟩ | refine call0 (gd_of rfl) ?_)
    have b' : bF (fun a => a = q + 718) S S10 D D10 := b.toF e rfl
    refine ih (k + 1) B10 S10 D10 (by omega) (by omega) (by omega) (by rw [b.2.1 _ (by omega)]; exact kq) (by rw [b.2.2.1 _ _ (by omega) (by omega)]; exact r4) (by rw [b.2.1 _ (by omega)]; exact k4) (by omega) (fun j hj => ?_) fun B' S' D' u' b2 => K B' S' D' (by omega) (b'.tr b2)
    by_cases hji : j = k
    · subst hji
      exact ⟨by rw [r, if_pos rfl], x⟩
    · obtain ⟨x1, x2⟩ := he j (by omega)
      exact ⟨by rw [r, if_neg (by omega)]; exact x1, X13r.loc.go b (by omega) (by omega) x2⟩
