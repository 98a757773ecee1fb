/-! the constructor of Chain -/
-- needs: g5.ctor2
set_option maxRecDepth 100000
set_option linter.unusedVariables false
def X0m (t2 t1 n k : Nat) : Stat → Dat → Nat → Prop := fun S D q => S.1 q = some (t2, n) ∧ ∀ r : Nat, r < n → S.2.1 q r = some (q + 1 + r) ∧ S.1 (q + 1 + r) = some (t1, k)
theorem X0m.loc (t2 t1 n k : Nat) : Loc (X0m t2 t1 n k) (1 + n) := fun S S' D D' q e h => ⟨by rw [(e q (by omega) (by omega)).1]; exact h.1, fun r hr => ⟨by rw [(e q (by omega) (by omega)).2.1]; exact (h.2 r hr).1, by rw [(e _ (by omega) (by omega)).1]; exact (h.2 r hr).2⟩⟩
theorem fldM {S : Stat} {D : Dat} {B : Nat × Nat} {p cc t2 t1 n k : Nat} {f : Int} {K : Tm} {ls : List (Option PV)} {st0 : List PV} (hn : n < 1000000) (hk : k < 1000000) (hB : 1 + n ≤ B.1 ∧ n + n * k ≤ B.2) (hp : p < S.2.2) (o : S.1 p = some (cc, 0))
    (hK : ∀ (B' : Nat × Nat) (S' : Stat) (D' : Dat), (B.1 ≤ B'.1 + (1 + n) ∧ B.2 ≤ B'.2 + (n + n * k)) → bE p S S' D D' → S'.2.2 = S.2.2 + (1 + n) → (∀ i, S'.2.1 p i = if i = f then some S.2.2 else S.2.1 p i) → (∀ i, D' p i = D p i) → X0m t2 t1 n k S' D' S.2.2 → K ls st0 B' S' D') :
    i_multi t2 t1 (i_putR K cc f) ls (.inl (k : Int) :: .inl (n : Int) :: .inr (.inr (some p)) :: st0) B S D := by
  generalize hnk : n * k = nk at hB hK
  refine ⟨B.1 - (1 + n), B.2 - (n + nk), n, k, rfl, rfl, hn, hk, Prod.ext (by show B.1 = B.1 - (1 + n) + (1 + n); omega) (by show B.2 = B.2 - (n + nk) + (n + n * k); omega), ?_⟩
  have e1 : ∀ a, a < S.2.2 → (mkM S t2 t1 n k).1 a = S.1 a := fun a ha => by
    show (if a = S.2.2 then _ else if S.2.2 < a ∧ a ≤ S.2.2 + n then _ else S.1 a) = _
    rw [if_neg (by omega), if_neg (by omega)]
  have e2 : ∀ a i, a < S.2.2 → (mkM S t2 t1 n k).2.1 a i = S.2.1 a i := fun a i ha => by
    show (if a = S.2.2 then _ else if S.2.2 < a ∧ a ≤ S.2.2 + n then _ else S.2.1 a i) = _
    rw [if_neg (by omega), if_neg (by omega)]
  have e3 : ∀ a i, a < S.2.2 → mkMD S D n a i = D a i := fun a i ha => by
    show (if S.2.2 ≤ a ∧ a ≤ S.2.2 + n then _ else D a i) = _
    rw [if_neg (by omega)]
  refine ⟨by rw [e1 p hp]; exact o, hK _ (setR (mkM S t2 t1 n k) p f (some S.2.2)) _ ⟨by show B.1 ≤ B.1 - (1 + n) + (1 + n); omega, by show B.2 ≤ B.2 - (n + nk) + (n + nk); omega⟩ ⟨by show S.2.2 ≤ S.2.2 + 1 + n; omega, fun a ha => e1 a ha, fun a i ha hn => by rw [setR_ne (.inl hn)]; exact e2 a i ha, fun a i ha hn => e3 a i ha⟩ (by show S.2.2 + 1 + n = S.2.2 + (1 + n); omega) (fun i => ?_) (fun i => e3 p i hp) ⟨?_, fun r hr => ⟨?_, ?_⟩⟩⟩
  · by_cases q : i = f
    · rw [if_pos q, q]
      show pmur _ _ _ _ _ _ = _
      simp only [pmur, and_self, if_true]
    · rw [if_neg q, setR_ne (.inr q)]
      exact e2 p i hp
  · exact if_pos rfl
  · rw [setR_ne (.inl (by omega))]
    show (if S.2.2 = S.2.2 then (if (0 : Int) ≤ (r : Int) ∧ (r : Int) < n then some (S.2.2 + 1 + (r : Int).toNat) else none) else _) = _
    rw [if_pos rfl, if_pos ⟨by omega, by omega⟩, show ((r : Int)).toNat = r by omega]
  · show (if S.2.2 + 1 + r = S.2.2 then _ else if S.2.2 < S.2.2 + 1 + r ∧ S.2.2 + 1 + r ≤ S.2.2 + n then some (t1, k) else _) = _
    rw [if_neg (by omega), if_pos (by omega)]
/-- of what stood, the references of the cells lo .. hi alone have changed -/
def bR (lo hi : Nat) (S S' : Stat) (D D' : Dat) : Prop := S.2.2 ≤ S'.2.2 ∧ (∀ a, a < S.2.2 → S'.1 a = S.1 a) ∧ (∀ a i, a < S.2.2 → (a < lo ∨ hi < a) → S'.2.1 a i = S.2.1 a i) ∧ ∀ a i, a < S.2.2 → D' a i = D a i
theorem bR.rfl {lo hi : Nat} {S : Stat} {D : Dat} : bR lo hi S S D D := ⟨Nat.le_refl _, fun _ _ => Eq.refl _, fun _ _ _ _ => Eq.refl _, fun _ _ _ => Eq.refl _⟩
theorem bR.tr {lo hi : Nat} {S S1 S2 : Stat} {D D1 D2 : Dat} (h : bR lo hi S S1 D D1) (k : bR lo hi S1 S2 D1 D2) : bR lo hi S S2 D D2 :=
  ⟨Nat.le_trans h.1 k.1, fun a ha => by rw [k.2.1 a (Nat.lt_of_lt_of_le ha h.1), h.2.1 a ha], fun a i ha hn => by rw [k.2.2.1 a i (Nat.lt_of_lt_of_le ha h.1) hn, h.2.2.1 a i ha hn], fun a i ha => by rw [k.2.2.2 a i (Nat.lt_of_lt_of_le ha h.1), h.2.2.2 a i ha]⟩
theorem bEbR {a lo hi : Nat} {S S' : Stat} {D D' : Dat} (h : bE a S S' D D') (e : ∀ i, D' a i = D a i) (h1 : lo ≤ a) (h2 : a ≤ hi) : bR lo hi S S' D D' :=
  ⟨h.1, h.2.1, fun x i hx hn => h.2.2.1 x i hx (by omega), fun x i hx => by
    by_cases q : x = a
    · rw [q]; exact e i
    · exact h.2.2.2 x i hx q⟩
theorem Loc.goR {X : Stat → Dat → Nat → Prop} {sz lo hi q : Nat} {S S' : Stat} {D D' : Dat} (h : Loc X sz) (b : bR lo hi S S' D D') (hq : q + sz ≤ S.2.2) (hp : hi < q ∨ q + sz ≤ lo) (x : X S D q) : X S' D' q :=
  h S S' D D' q (fun c c1 c2 => ⟨b.2.1 c (by omega), fun i => b.2.2.1 c i (by omega) (by omega), fun i => b.2.2.2 c i (by omega)⟩) x
theorem bE.trR {p lo hi : Nat} {S S1 S2 : Stat} {D D1 D2 : Dat} (h : bE p S S1 D D1) (k : bR lo hi S1 S2 D1 D2) (hl : S.2.2 ≤ lo) : bE p S S2 D D2 :=
  ⟨Nat.le_trans h.1 k.1, fun x hx => by rw [k.2.1 x (Nat.lt_of_lt_of_le hx h.1), h.2.1 x hx], fun x i hx hn => by rw [k.2.2.1 x i (Nat.lt_of_lt_of_le hx h.1) (by omega), h.2.2.1 x i hx hn], fun x i hx hn => by rw [k.2.2.2 x i (Nat.lt_of_lt_of_le hx h.1), h.2.2.2 x i hx hn]⟩
def x8B (S : Stat) (q : Nat) : Prop := S.1 q = some (8, 0) ∧ S.2.1 q 1 = some (q + 1) ∧ S.2.1 q 3 = some (q + 13) ∧ S.1 (q + 1) = some (106, 10) ∧ (∀ r : Nat, r < 10 → S.2.1 (q + 1) r = some (q + 2 + r) ∧ S.1 (q + 2 + r) = some (105, 9)) ∧ S.1 (q + 13) = some (105, 9)
theorem x8B.go {S S' : Stat} {D D' : Dat} {q : Nat} (h : x8B S q) (b : bR (q + 2) (q + 13) S S' D D') (hn : q + 22 ≤ S.2.2) : x8B S' q := by
  obtain ⟨h1, h2, h3, h4, h5, h6⟩ := h
  exact ⟨by rw [b.2.1 _ (by omega)]; exact h1, by rw [b.2.2.1 _ _ (by omega) (by omega)]; exact h2, by rw [b.2.2.1 _ _ (by omega) (by omega)]; exact h3, by rw [b.2.1 _ (by omega)]; exact h4, fun r hr => ⟨by rw [b.2.2.1 _ _ (by omega) (by omega)]; exact (h5 r hr).1, by rw [b.2.1 _ (by omega)]; exact (h5 r hr).2⟩, by rw [b.2.1 _ (by omega)]; exact h6⟩
def x8E (S : Stat) (D : Dat) (q n : Nat) : Prop := ∀ r k : Nat, r < 10 → k < 9 → 9 * r + k < n → S.2.1 (q + 2 + r) k = some (q + 22 + 2 * (9 * r + k)) ∧ X3w 160 S D (q + 22 + 2 * (9 * r + k))
theorem x8_row {E : Ex} {q r : Nat} (hr : r < 10) : ∀ (L k : Nat) (B : Nat × Nat) (S : Stat) (D : Dat), k + L = 9 → 2 * L ≤ B.1 ∧ 163 * L ≤ B.2 → x8B S q → S.2.2 = q + 22 + 2 * (9 * r + k) → x8E S D q (9 * r + k) →
    (∀ (B' : Nat × Nat) (S' : Stat) (D' : Dat), (B.1 ≤ B'.1 + 2 * L ∧ B.2 ≤ B'.2 + 163 * L) → bR (q + 2) (q + 13) S S' D D' → S'.2.2 = q + 22 + 2 * (9 * r + 9) → x8E S' D' q (9 * r + 9) → Wp P_X8_init E 1 [some (aR q), none, some (aI ((r : Int) + 1))] [] B' S' D') → Wp P_X8_init E 2 [some (aR q), none, some (aI (r : Int)), some (aI (k : Int))] [] B S D := by
  intro L
  induction L with
  | zero =>
    intro k B S D hk hB hb hn he K
    have : k = 9 := by omega
    subst this
    refine wp_in ?_
    simp only [P_X8_init, i_kil, i_icon, i_lcon, i_null, i_loadI, i_loadL, i_loadR, i_istore, i_lstore, i_astore, i_iinc, i_dup, i_dup2, i_pop, i_iadd, i_isub, i_imul, i_idiv, i_irem, i_ineg, i_iand, i_ior, i_ishl, i_ishr, i_lxor, i_ladd, i_lsub, i_lmul, i_ldiv, i_lrem, i_lneg, i_lshl, i_lcmp, i_i2l, i_l2i, i_i2b, i_i2s, i_ifeq, i_ifne, i_iflt, i_ifge, i_ifgt, i_ifle, i_cmpeq, i_cmpne, i_cmplt, i_cmpge, i_cmpgt, i_cmple, i_acmpeq, i_acmpne, i_ifnull, i_ifnonnull, i_getI, i_getR, i_putI, i_putZ, i_putR, i_ald, i_ldL, i_ldR, i_ast, i_stL, i_stR, i_alen, i_new, i_newa, i_iret, i_zret, i_lret, i_aret, i_vret, i_raise, i_throw, i_recv, i_objinit, i_tsw3, lget, lset, lput1, lput2, lkil, ltrim, largs, isL, takev, dropv, nthv, pushO, catv, gd, true_and, and_true, Option.some.injEq, Prod.mk.injEq, exists_eq_left', if_true, if_false, reduceCtorEq, Bool.false_eq_true, lcmp_ge, lcmp_lt, lcmp_le, lcmp_gt, lcmp_eq, true_or, or_true, not_true_eq_false, not_false_eq_true, false_implies, true_implies, List.length_cons, List.length_nil]
    refine ⟨fun _ => ?_, fun q => absurd q (by decide)⟩
    repeat (first | refine ⟨in_small (by omega) (by omega), ?_⟩ | (show (_ → _) ∧ (_ → _); first | refine ⟨by omega, fun _ => ?_⟩ | refine ⟨fun _ => ?_, by omega⟩) | refine ⟨by omega, ?_⟩ | refine ⟨⟨_, rfl, by assumption⟩, ?_⟩ | refine ⟨okT_I _, ?_⟩ | refine call0 (gd_of rfl) ?_)
    exact K _ _ _ (by omega) bR.rfl hn he
  | succ L ih =>
    intro k B S D hk hB hb hn he K
    obtain ⟨h1, h2, h3, h4, h5, h6⟩ := id hb
    obtain ⟨h7, h8⟩ := h5 r hr
    refine wp_in ?_
    simp only [P_X8_init, i_kil, i_icon, i_lcon, i_null, i_loadI, i_loadL, i_loadR, i_istore, i_lstore, i_astore, i_iinc, i_dup, i_dup2, i_pop, i_iadd, i_isub, i_imul, i_idiv, i_irem, i_ineg, i_iand, i_ior, i_ishl, i_ishr, i_lxor, i_ladd, i_lsub, i_lmul, i_ldiv, i_lrem, i_lneg, i_lshl, i_lcmp, i_i2l, i_l2i, i_i2b, i_i2s, i_ifeq, i_ifne, i_iflt, i_ifge, i_ifgt, i_ifle, i_cmpeq, i_cmpne, i_cmplt, i_cmpge, i_cmpgt, i_cmple, i_acmpeq, i_acmpne, i_ifnull, i_ifnonnull, i_getI, i_getR, i_putI, i_putZ, i_putR, i_ald, i_ldL, i_ldR, i_ast, i_stL, i_alen, i_iret, i_zret, i_lret, i_aret, i_vret, i_raise, i_throw, i_recv, i_objinit, i_tsw3, lget, lset, lput1, lput2, lkil, ltrim, largs, isL, takev, dropv, nthv, pushO, catv, gd, true_and, and_true, Option.some.injEq, Prod.mk.injEq, exists_eq_left', if_true, if_false, reduceCtorEq, Bool.false_eq_true, lcmp_ge, lcmp_lt, lcmp_le, lcmp_gt, lcmp_eq, true_or, or_true, not_true_eq_false, not_false_eq_true, false_implies, true_implies, List.length_cons, List.length_nil, h1, h2, h4]
    refine ⟨fun q => by omega, fun _ => ?_⟩
    refine ⟨by omega, by omega, ?_⟩
    rw [h7]
    simp only [P_X8_init, i_kil, i_icon, i_lcon, i_null, i_loadI, i_loadL, i_loadR, i_istore, i_lstore, i_astore, i_iinc, i_dup, i_dup2, i_pop, i_iadd, i_isub, i_imul, i_idiv, i_irem, i_ineg, i_iand, i_ior, i_ishl, i_ishr, i_lxor, i_ladd, i_lsub, i_lmul, i_ldiv, i_lrem, i_lneg, i_lshl, i_lcmp, i_i2l, i_l2i, i_i2b, i_i2s, i_ifeq, i_ifne, i_iflt, i_ifge, i_ifgt, i_ifle, i_cmpeq, i_cmpne, i_cmplt, i_cmpge, i_cmpgt, i_cmple, i_acmpeq, i_acmpne, i_ifnull, i_ifnonnull, i_getI, i_getR, i_putI, i_putZ, i_putR, i_ald, i_ldL, i_ldR, i_ast, i_stL, i_alen, i_new, i_iret, i_zret, i_lret, i_aret, i_vret, i_raise, i_throw, i_recv, i_objinit, i_tsw3, lget, lset, lput1, lput2, lkil, ltrim, largs, isL, takev, dropv, nthv, pushO, catv, gd, true_and, and_true, Option.some.injEq, Prod.mk.injEq, exists_eq_left', if_true, if_false, reduceCtorEq, Bool.false_eq_true, lcmp_ge, lcmp_lt, lcmp_le, lcmp_gt, lcmp_eq, true_or, or_true, not_true_eq_false, not_false_eq_true, false_implies, true_implies, List.length_cons, List.length_nil]
    refine fldE (i := (k : Int)) (mk_X3 160 (by decide)) (X3w.loc 160) (by omega) (by omega) h8 (by decide) (by simp only [List.mem_cons, true_or]) (fun _ _ x => x.1.1) (by omega) (by rfl) (by rfl) (by rfl) fun B1 S1 D1 u b m rr e x => ?_
    rw [hn] at m rr x
    simp only [P_X8_init, i_kil, i_icon, i_lcon, i_null, i_loadI, i_loadL, i_loadR, i_istore, i_lstore, i_astore, i_iinc, i_dup, i_dup2, i_pop, i_iadd, i_isub, i_imul, i_idiv, i_irem, i_ineg, i_iand, i_ior, i_ishl, i_ishr, i_lxor, i_ladd, i_lsub, i_lmul, i_ldiv, i_lrem, i_lneg, i_lshl, i_lcmp, i_i2l, i_l2i, i_i2b, i_i2s, i_ifeq, i_ifne, i_iflt, i_ifge, i_ifgt, i_ifle, i_cmpeq, i_cmpne, i_cmplt, i_cmpge, i_cmpgt, i_cmple, i_acmpeq, i_acmpne, i_ifnull, i_ifnonnull, i_getI, i_getR, i_putI, i_putZ, i_putR, i_ald, i_ldL, i_ldR, i_ast, i_stL, i_stR, i_alen, i_new, i_newa, i_iret, i_zret, i_lret, i_aret, i_vret, i_raise, i_throw, i_recv, i_objinit, i_tsw3, lget, lset, lput1, lput2, lkil, ltrim, largs, isL, takev, dropv, nthv, pushO, catv, gd, true_and, and_true, Option.some.injEq, Prod.mk.injEq, exists_eq_left', if_true, if_false, reduceCtorEq, Bool.false_eq_true, lcmp_ge, lcmp_lt, lcmp_le, lcmp_gt, lcmp_eq, true_or, or_true, not_true_eq_false, not_false_eq_true, false_implies, true_implies, List.length_cons, List.length_nil]
    repeat (first | refine ⟨in_small (by omega) (by omega), ?_⟩ | (show (_ → _) ∧ (_ → _); first | refine ⟨by omega, fun _ => ?_⟩ | refine ⟨fun _ => ?_, by omega⟩) | refine ⟨by omega, ?_⟩ | refine ⟨⟨_, rfl, by assumption⟩, ?_⟩ | refine ⟨okT_I _, ?_⟩ | refine call0 (gd_of rfl) ?_)
    have b' := bEbR (lo := q + 2) (hi := q + 13) b e (by omega) (by omega)
    refine ih (k + 1) B1 S1 D1 (by omega) (by omega) (hb.go b' (by omega)) (by omega) (fun r' k' hr' hk' hlt => ?_) fun B2 S2 D2 u2 b2 => K B2 S2 D2 (by omega) (b'.tr b2)
    by_cases z : 9 * r' + k' = 9 * r + k
    · have z1 : r' = r := by omega
      have z2 : k' = k := by omega
      subst z1; subst z2
      exact ⟨by rw [rr, if_pos rfl], x⟩
    · obtain ⟨x1, x2⟩ := he r' k' hr' hk' (by omega)
      refine ⟨?_, (X3w.loc 160).go b (by omega) (by omega) x2⟩
      by_cases y : r' = r
      · subst y
        rw [rr, if_neg (by omega)]; exact x1
      · rw [b.2.2.1 _ _ (by omega) (by omega)]; exact x1
theorem x8_rows {E : Ex} {q : Nat} : ∀ (L r : Nat) (B : Nat × Nat) (S : Stat) (D : Dat), r + L = 10 → 18 * L ≤ B.1 ∧ 1467 * L ≤ B.2 → x8B S q → S.2.2 = q + 22 + 18 * r → x8E S D q (9 * r) →
    (∀ (B' : Nat × Nat) (S' : Stat) (D' : Dat), (B.1 ≤ B'.1 + 18 * L ∧ B.2 ≤ B'.2 + 1467 * L) → bR (q + 2) (q + 13) S S' D D' → S'.2.2 = q + 202 → x8E S' D' q 90 → Wp P_X8_init E 3 [some (aR q), none, some (aI 0)] [] B' S' D') → Wp P_X8_init E 1 [some (aR q), none, some (aI (r : Int))] [] B S D := by
  intro L
  induction L with
  | zero =>
    intro r B S D hr hB hb hn he K
    have : r = 10 := by omega
    subst this
    refine wp_in ?_
    simp only [P_X8_init, i_kil, i_icon, i_lcon, i_null, i_loadI, i_loadL, i_loadR, i_istore, i_lstore, i_astore, i_iinc, i_dup, i_dup2, i_pop, i_iadd, i_isub, i_imul, i_idiv, i_irem, i_ineg, i_iand, i_ior, i_ishl, i_ishr, i_lxor, i_ladd, i_lsub, i_lmul, i_ldiv, i_lrem, i_lneg, i_lshl, i_lcmp, i_i2l, i_l2i, i_i2b, i_i2s, i_ifeq, i_ifne, i_iflt, i_ifge, i_ifgt, i_ifle, i_cmpeq, i_cmpne, i_cmplt, i_cmpge, i_cmpgt, i_cmple, i_acmpeq, i_acmpne, i_ifnull, i_ifnonnull, i_getI, i_getR, i_putI, i_putZ, i_putR, i_ald, i_ldL, i_ldR, i_ast, i_stL, i_stR, i_alen, i_new, i_newa, i_iret, i_zret, i_lret, i_aret, i_vret, i_raise, i_throw, i_recv, i_objinit, i_tsw3, lget, lset, lput1, lput2, lkil, ltrim, largs, isL, takev, dropv, nthv, pushO, catv, gd, true_and, and_true, Option.some.injEq, Prod.mk.injEq, exists_eq_left', if_true, if_false, reduceCtorEq, Bool.false_eq_true, lcmp_ge, lcmp_lt, lcmp_le, lcmp_gt, lcmp_eq, true_or, or_true, not_true_eq_false, not_false_eq_true, false_implies, true_implies, List.length_cons, List.length_nil]
    refine ⟨fun _ => ?_, fun q => absurd q (by decide)⟩
    exact K _ _ _ (by omega) bR.rfl hn he
  | succ L ih =>
    intro r B S D hr hB hb hn he K
    refine wp_in ?_
    simp only [P_X8_init, i_kil, i_icon, i_lcon, i_null, i_loadI, i_loadL, i_loadR, i_istore, i_lstore, i_astore, i_iinc, i_dup, i_dup2, i_pop, i_iadd, i_isub, i_imul, i_idiv, i_irem, i_ineg, i_iand, i_ior, i_ishl, i_ishr, i_lxor, i_ladd, i_lsub, i_lmul, i_ldiv, i_lrem, i_lneg, i_lshl, i_lcmp, i_i2l, i_l2i, i_i2b, i_i2s, i_ifeq, i_ifne, i_iflt, i_ifge, i_ifgt, i_ifle, i_cmpeq, i_cmpne, i_cmplt, i_cmpge, i_cmpgt, i_cmple, i_acmpeq, i_acmpne, i_ifnull, i_ifnonnull, i_getI, i_getR, i_putI, i_putZ, i_putR, i_ald, i_ldL, i_ldR, i_ast, i_stL, i_stR, i_alen, i_new, i_newa, i_iret, i_zret, i_lret, i_aret, i_vret, i_raise, i_throw, i_recv, i_objinit, i_tsw3, lget, lset, lput1, lput2, lkil, ltrim, largs, isL, takev, dropv, nthv, pushO, catv, gd, true_and, and_true, Option.some.injEq, Prod.mk.injEq, exists_eq_left', if_true, if_false, reduceCtorEq, Bool.false_eq_true, lcmp_ge, lcmp_lt, lcmp_le, lcmp_gt, lcmp_eq, true_or, or_true, not_true_eq_false, not_false_eq_true, false_implies, true_implies, List.length_cons, List.length_nil]
    refine ⟨fun q => by omega, fun _ => ?_⟩
    refine x8_row (by omega) 9 0 B S D (by omega) (by omega) hb (by omega) (fun r' k' a b c => he r' k' a b (by omega)) fun B1 S1 D1 u b m e => ?_
    exact ih (r + 1) B1 S1 D1 (by omega) (by omega) (hb.go b (by omega)) (by omega) (fun r' k' a b c => e r' k' a b (by omega)) fun B2 S2 D2 u2 b2 => K B2 S2 D2 (by omega) (b.tr b2)
theorem x8_last {E : Ex} {q : Nat} : ∀ (L k : Nat) (B : Nat × Nat) (S : Stat) (D : Dat), k + L = 9 → 2 * L ≤ B.1 ∧ 163 * L ≤ B.2 → x8B S q → S.2.2 = q + 202 + 2 * k → x8E S D q 90 → (∀ j : Nat, j < k → S.2.1 (q + 13) j = some (q + 202 + 2 * j) ∧ X3w 160 S D (q + 202 + 2 * j)) →
    (∀ (B' : Nat × Nat) (S' : Stat) (D' : Dat), bR (q + 2) (q + 13) S S' D D' → S'.2.2 = q + 220 → x8E S' D' q 90 → (∀ j : Nat, j < 9 → S'.2.1 (q + 13) j = some (q + 202 + 2 * j) ∧ X3w 160 S' D' (q + 202 + 2 * j)) → E (.inl none) B' S' D') → Wp P_X8_init E 3 [some (aR q), none, some (aI (k : Int))] [] B S D := by
  intro L
  induction L with
  | zero =>
    intro k B S D hk hB hb hn he hl K
    have : k = 9 := by omega
    subst this
    refine wp_in ?_
    simp only [P_X8_init, i_kil, i_icon, i_lcon, i_null, i_loadI, i_loadL, i_loadR, i_istore, i_lstore, i_astore, i_iinc, i_dup, i_dup2, i_pop, i_iadd, i_isub, i_imul, i_idiv, i_irem, i_ineg, i_iand, i_ior, i_ishl, i_ishr, i_lxor, i_ladd, i_lsub, i_lmul, i_ldiv, i_lrem, i_lneg, i_lshl, i_lcmp, i_i2l, i_l2i, i_i2b, i_i2s, i_ifeq, i_ifne, i_iflt, i_ifge, i_ifgt, i_ifle, i_cmpeq, i_cmpne, i_cmplt, i_cmpge, i_cmpgt, i_cmple, i_acmpeq, i_acmpne, i_ifnull, i_ifnonnull, i_getI, i_getR, i_putI, i_putZ, i_putR, i_ald, i_ldL, i_ldR, i_ast, i_stL, i_stR, i_alen, i_new, i_newa, i_iret, i_zret, i_lret, i_aret, i_vret, i_raise, i_throw, i_recv, i_objinit, i_tsw3, lget, lset, lput1, lput2, lkil, ltrim, largs, isL, takev, dropv, nthv, pushO, catv, gd, true_and, and_true, Option.some.injEq, Prod.mk.injEq, exists_eq_left', if_true, if_false, reduceCtorEq, Bool.false_eq_true, lcmp_ge, lcmp_lt, lcmp_le, lcmp_gt, lcmp_eq, true_or, or_true, not_true_eq_false, not_false_eq_true, false_implies, true_implies, List.length_cons, List.length_nil]
    exact ⟨fun _ => K _ _ _ bR.rfl hn he hl, fun q => absurd q (by decide)⟩
  | succ L ih =>
    intro k B S D hk hB hb hn he hl K
    obtain ⟨h1, h2, h3, h4, h5, h6⟩ := id hb
    refine wp_in ?_
    simp only [P_X8_init, i_kil, i_icon, i_lcon, i_null, i_loadI, i_loadL, i_loadR, i_istore, i_lstore, i_astore, i_iinc, i_dup, i_dup2, i_pop, i_iadd, i_isub, i_imul, i_idiv, i_irem, i_ineg, i_iand, i_ior, i_ishl, i_ishr, i_lxor, i_ladd, i_lsub, i_lmul, i_ldiv, i_lrem, i_lneg, i_lshl, i_lcmp, i_i2l, i_l2i, i_i2b, i_i2s, i_ifeq, i_ifne, i_iflt, i_ifge, i_ifgt, i_ifle, i_cmpeq, i_cmpne, i_cmplt, i_cmpge, i_cmpgt, i_cmple, i_acmpeq, i_acmpne, i_ifnull, i_ifnonnull, i_getI, i_getR, i_putI, i_putZ, i_putR, i_ald, i_ldL, i_ldR, i_ast, i_stL, i_alen, i_new, i_iret, i_zret, i_lret, i_aret, i_vret, i_raise, i_throw, i_recv, i_objinit, i_tsw3, lget, lset, lput1, lput2, lkil, ltrim, largs, isL, takev, dropv, nthv, pushO, catv, gd, true_and, and_true, Option.some.injEq, Prod.mk.injEq, exists_eq_left', if_true, if_false, reduceCtorEq, Bool.false_eq_true, lcmp_ge, lcmp_lt, lcmp_le, lcmp_gt, lcmp_eq, true_or, or_true, not_true_eq_false, not_false_eq_true, false_implies, true_implies, List.length_cons, List.length_nil, h1, h3, h6]
    refine ⟨fun q => by omega, fun _ => ?_⟩
    refine fldE (i := (k : Int)) (mk_X3 160 (by decide)) (X3w.loc 160) (by omega) (by omega) h6 (by decide) (by simp only [List.mem_cons, true_or]) (fun _ _ x => x.1.1) (by omega) (by rfl) (by rfl) (by rfl) fun B1 S1 D1 u b m rr e x => ?_
    rw [hn] at m rr x
    simp only [P_X8_init, i_kil, i_icon, i_lcon, i_null, i_loadI, i_loadL, i_loadR, i_istore, i_lstore, i_astore, i_iinc, i_dup, i_dup2, i_pop, i_iadd, i_isub, i_imul, i_idiv, i_irem, i_ineg, i_iand, i_ior, i_ishl, i_ishr, i_lxor, i_ladd, i_lsub, i_lmul, i_ldiv, i_lrem, i_lneg, i_lshl, i_lcmp, i_i2l, i_l2i, i_i2b, i_i2s, i_ifeq, i_ifne, i_iflt, i_ifge, i_ifgt, i_ifle, i_cmpeq, i_cmpne, i_cmplt, i_cmpge, i_cmpgt, i_cmple, i_acmpeq, i_acmpne, i_ifnull, i_ifnonnull, i_getI, i_getR, i_putI, i_putZ, i_putR, i_ald, i_ldL, i_ldR, i_ast, i_stL, i_stR, i_alen, i_new, i_newa, i_iret, i_zret, i_lret, i_aret, i_vret, i_raise, i_throw, i_recv, i_objinit, i_tsw3, lget, lset, lput1, lput2, lkil, ltrim, largs, isL, takev, dropv, nthv, pushO, catv, gd, true_and, and_true, Option.some.injEq, Prod.mk.injEq, exists_eq_left', if_true, if_false, reduceCtorEq, Bool.false_eq_true, lcmp_ge, lcmp_lt, lcmp_le, lcmp_gt, lcmp_eq, true_or, or_true, not_true_eq_false, not_false_eq_true, false_implies, true_implies, List.length_cons, List.length_nil]
    repeat (first | refine ⟨in_small (by omega) (by omega), ?_⟩ | (show (_ → _) ∧ (_ → _); first | refine ⟨by omega, fun _ => ?_⟩ | refine ⟨fun _ => ?_, by omega⟩) | refine ⟨by omega, ?_⟩ | refine ⟨⟨_, rfl, by assumption⟩, ?_⟩ | refine ⟨okT_I _, ?_⟩ | refine call0 (gd_of rfl) ?_)
    have b' := bEbR (lo := q + 2) (hi := q + 13) b e (by omega) (by omega)
    refine ih (k + 1) B1 S1 D1 (by omega) (by omega) (hb.go b' (by omega)) (by omega) (fun r' k' hr' hk' hlt => ?_) (fun j hj => ?_) fun B2 S2 D2 b2 => K B2 S2 D2 (b'.tr b2)
    · obtain ⟨x1, x2⟩ := he r' k' hr' hk' hlt
      exact ⟨by rw [b.2.2.1 _ _ (by omega) (by omega)]; exact x1, (X3w.loc 160).go b (by omega) (by omega) x2⟩
    · by_cases hji : j = k
      · subst hji
        exact ⟨by rw [rr, if_pos rfl], x⟩
      · obtain ⟨x1, x2⟩ := hl j (by omega)
        exact ⟨by rw [rr, if_neg (by omega)]; exact x1, (X3w.loc 160).go b (by omega) (by omega) x2⟩
def X8c (o : Nat) : Stat → Dat → Nat → Prop := fun S D b => S.1 b = some (8, 0) ∧ S.2.1 b 0 = some o ∧ S.2.1 b 1 = some (b + 1) ∧ S.1 (b + 1) = some (106, 10) ∧ (∀ r : Nat, r < 10 → S.2.1 (b + 1) r = some (b + 2 + r) ∧ S.1 (b + 2 + r) = some (105, 9)) ∧ x8E S D b 90 ∧
  S.2.1 b 2 = some (b + 12) ∧ S.1 (b + 12) = some (100, 10) ∧ S.2.1 b 3 = some (b + 13) ∧ S.1 (b + 13) = some (105, 9) ∧ (∀ k : Nat, k < 9 → S.2.1 (b + 13) k = some (b + 202 + 2 * k) ∧ X3w 160 S D (b + 202 + 2 * k)) ∧
  S.2.1 b 4 = some (b + 14) ∧ X3w 160 S D (b + 14) ∧ S.2.1 b 5 = some (b + 16) ∧ X3w 160 S D (b + 16) ∧ S.2.1 b 6 = some (b + 18) ∧ X3w 160 S D (b + 18) ∧ S.2.1 b 7 = some (b + 20) ∧ X3w 160 S D (b + 20)
theorem X8c.loc (o : Nat) : Loc (X8c o) 220 := fun S S' D D' b e h => by
  obtain ⟨h1, h2, h3, h4, h5, h6, h7, h8, h9, h10, h11, h12, h13, h14, h15, h16, h17, h18, h19⟩ := h
  have w : ∀ x, b ≤ x → x + 2 ≤ b + 220 → X3w 160 S D x → X3w 160 S' D' x := fun x x1 x2 hx => X3w.loc 160 S S' D D' x (fun c c1 c2 => e c (by omega) (by omega)) hx
  refine ⟨by rw [(e b (by omega) (by omega)).1]; exact h1, by rw [(e b (by omega) (by omega)).2.1]; exact h2, by rw [(e b (by omega) (by omega)).2.1]; exact h3, by rw [(e _ (by omega) (by omega)).1]; exact h4, fun r hr => ⟨by rw [(e _ (by omega) (by omega)).2.1]; exact (h5 r hr).1, by rw [(e _ (by omega) (by omega)).1]; exact (h5 r hr).2⟩, fun r k hr hk hlt => ⟨by rw [(e _ (by omega) (by omega)).2.1]; exact (h6 r k hr hk hlt).1, w _ (by omega) (by omega) (h6 r k hr hk hlt).2⟩,
    by rw [(e b (by omega) (by omega)).2.1]; exact h7, by rw [(e _ (by omega) (by omega)).1]; exact h8, by rw [(e b (by omega) (by omega)).2.1]; exact h9, by rw [(e _ (by omega) (by omega)).1]; exact h10, fun k hk => ⟨by rw [(e _ (by omega) (by omega)).2.1]; exact (h11 k hk).1, w _ (by omega) (by omega) (h11 k hk).2⟩, by rw [(e b (by omega) (by omega)).2.1]; exact h12, w _ (by omega) (by omega) h13, by rw [(e b (by omega) (by omega)).2.1]; exact h14, w _ (by omega) (by omega) h15, by rw [(e b (by omega) (by omega)).2.1]; exact h16, w _ (by omega) (by omega) h17, by rw [(e b (by omega) (by omega)).2.1]; exact h18, w _ (by omega) (by omega) h19⟩
theorem X8c.ch {o b : Nat} {S : Stat} {D : Dat} (h : X8c o S D b) (hr : rS S o) (hp : b + 219 < o ∨ o + 10 < b) : chS S b o := by
  obtain ⟨h1, h2, h3, h4, h5, h6, h7, h8, h9, h10, h11, h12, h13, h14, h15, h16, h17, h18, h19⟩ := h
  exact ⟨hr, h1, h2, h3, h4, h5, fun r k hr hk => ⟨(h6 r k hr hk (by omega)).1, (h6 r k hr hk (by omega)).2.1⟩, h7, h8, h9, h10, fun k hk => ⟨(h11 k hk).1, (h11 k hk).2.1⟩, h12, h13.1, h14, h15.1, h16, h17.1, h18, h19.1, hp⟩
set_option maxHeartbeats 4000000 in
theorem mk_X8 (o : Nat) : Mk P_X8_init 8 (fun q => [some (aR q), some (aR o)]) 219 16908 (X8c o) 220 := fun E B S D q hB h1 h2 h3 h4 K => by
  refine wp_in ?_
  simp only [P_X8_init, i_objinit, i_kil, i_icon, i_lcon, i_null, i_loadI, i_loadL, i_loadR, i_istore, i_lstore, i_astore, i_iinc, i_dup, i_dup2, i_pop, i_iadd, i_isub, i_imul, i_idiv, i_irem, i_ineg, i_iand, i_ior, i_ishl, i_ishr, i_lxor, i_ladd, i_lsub, i_lmul, i_ldiv, i_lrem, i_lneg, i_lshl, i_lcmp, i_i2l, i_l2i, i_i2b, i_i2s, i_ifeq, i_ifne, i_iflt, i_ifge, i_ifgt, i_ifle, i_cmpeq, i_cmpne, i_cmplt, i_cmpge, i_cmpgt, i_cmple, i_acmpeq, i_acmpne, i_ifnull, i_ifnonnull, i_getI, i_getR, i_putI, i_putZ, i_ald, i_ldL, i_ldR, i_ast, i_stL, i_stR, i_alen, i_iret, i_zret, i_lret, i_aret, i_vret, i_raise, i_throw, i_recv, i_objinit, i_tsw3, lget, lset, lput1, lput2, lkil, ltrim, largs, isL, takev, dropv, nthv, pushO, catv, gd, true_and, and_true, Option.some.injEq, Prod.mk.injEq, exists_eq_left', if_true, if_false, reduceCtorEq, Bool.false_eq_true, lcmp_ge, lcmp_lt, lcmp_le, lcmp_gt, lcmp_eq, true_or, or_true, not_true_eq_false, not_false_eq_true, false_implies, true_implies, List.length_cons, List.length_nil, h1]
  refine ⟨by decide, ?_⟩
  have u0 : 219 ≤ B.1 ∧ 16908 ≤ B.2 := ⟨Nat.le_of_eq hB.1.symm, Nat.le_of_eq hB.2.symm⟩
  try simp only [P_X8_init, i_kil, i_icon, i_lcon, i_null, i_loadI, i_loadL, i_loadR, i_istore, i_lstore, i_astore, i_iinc, i_dup, i_dup2, i_pop, i_iadd, i_isub, i_imul, i_idiv, i_irem, i_ineg, i_iand, i_ior, i_ishl, i_ishr, i_lxor, i_ladd, i_lsub, i_lmul, i_ldiv, i_lrem, i_lneg, i_lshl, i_lcmp, i_i2l, i_l2i, i_i2b, i_i2s, i_ifeq, i_ifne, i_iflt, i_ifge, i_ifgt, i_ifle, i_cmpeq, i_cmpne, i_cmplt, i_cmpge, i_cmpgt, i_cmple, i_acmpeq, i_acmpne, i_ifnull, i_ifnonnull, i_getI, i_getR, i_putI, i_putZ, i_ald, i_ldL, i_ldR, i_ast, i_stL, i_stR, i_alen, i_new, i_iret, i_zret, i_lret, i_aret, i_vret, i_raise, i_throw, i_recv, i_objinit, i_tsw3, lget, lset, lput1, lput2, lkil, ltrim, largs, isL, takev, dropv, nthv, pushO, catv, gd, true_and, and_true, Option.some.injEq, Prod.mk.injEq, exists_eq_left', if_true, if_false, reduceCtorEq, Bool.false_eq_true, lcmp_ge, lcmp_lt, lcmp_le, lcmp_gt, lcmp_eq, true_or, or_true, not_true_eq_false, not_false_eq_true, false_implies, true_implies, List.length_cons, List.length_nil, h1]
  refine fldM (p := q) (n := 10) (k := 9) (by decide) (by decide) ⟨Nat.le_trans (by decide) u0.1, Nat.le_trans (by decide) u0.2⟩ (by rw [h2]; exact Nat.lt_add_of_pos_right (by decide)) h1 fun B1 S1 D1 u1 b1 n1 r1 d1 x1 => ?_
  rw [h2] at n1 r1 x1
  replace u1 : 208 ≤ B1.1 ∧ 16808 ≤ B1.2 := ⟨ubB u0.1 u1.1 (by decide), ubB u0.2 u1.2 (by decide)⟩
  clear u0
  replace n1 : S1.2.2 = q + 12 := n1
  have o1 : S1.1 q = some (8, 0) := by rw [b1.2.1 q (by rw [h2]; exact Nat.lt_add_of_pos_right (by decide))]; exact h1
  simp only [P_X8_init, i_kil, i_icon, i_lcon, i_null, i_loadI, i_loadL, i_loadR, i_istore, i_lstore, i_astore, i_iinc, i_dup, i_dup2, i_pop, i_iadd, i_isub, i_imul, i_idiv, i_irem, i_ineg, i_iand, i_ior, i_ishl, i_ishr, i_lxor, i_ladd, i_lsub, i_lmul, i_ldiv, i_lrem, i_lneg, i_lshl, i_lcmp, i_i2l, i_l2i, i_i2b, i_i2s, i_ifeq, i_ifne, i_iflt, i_ifge, i_ifgt, i_ifle, i_cmpeq, i_cmpne, i_cmplt, i_cmpge, i_cmpgt, i_cmple, i_acmpeq, i_acmpne, i_ifnull, i_ifnonnull, i_getI, i_getR, i_putI, i_putZ, i_ald, i_ldL, i_ldR, i_ast, i_stL, i_stR, i_alen, i_new, i_iret, i_zret, i_lret, i_aret, i_vret, i_raise, i_throw, i_recv, i_objinit, i_tsw3, lget, lset, lput1, lput2, lkil, ltrim, largs, isL, takev, dropv, nthv, pushO, catv, gd, true_and, and_true, Option.some.injEq, Prod.mk.injEq, exists_eq_left', if_true, if_false, reduceCtorEq, Bool.false_eq_true, lcmp_ge, lcmp_lt, lcmp_le, lcmp_gt, lcmp_eq, true_or, or_true, not_true_eq_false, not_false_eq_true, false_implies, true_implies, List.length_cons, List.length_nil, o1]
  refine fldA (p := q) (n := 10) (by decide) ⟨Nat.le_trans (by decide) u1.1, Nat.le_trans (by decide) u1.2⟩ (by rw [n1]; exact Nat.lt_add_of_pos_right (by decide)) o1 fun B2 S2 D2 u2 b2 n2 r2 d2 x2 => ?_
  rw [n1] at n2 r2 x2
  replace u2 : 207 ≤ B2.1 ∧ 16798 ≤ B2.2 := ⟨ubB u1.1 u2.1 (by decide), ubB u1.2 u2.2 (by decide)⟩
  clear u1
  replace n2 : S2.2.2 = q + 13   := n2
  have o2 : S2.1 q = some (8, 0) := by rw [b2.2.1 q (by rw [n1]; exact Nat.lt_add_of_pos_right (by decide))]; exact o1
  simp only [P_X8_init, i_kil, i_icon, i_lcon, i_null, i_loadI, i_loadL, i_loadR, i_istore, i_lstore, i_astore, i_iinc, i_dup, i_dup2, i_pop, i_iadd, i_isub, i_imul, i_idiv, i_irem, i_ineg, i_iand, i_ior, i_ishl, i_ishr, i_lxor, i_ladd, i_lsub, i_lmul, i_ldiv, i_lrem, i_lneg, i_lshl, i_lcmp, i_i2l, i_l2i, i_i2b, i_i2s, i_ifeq, i_ifne, i_iflt, i_ifge, i_ifgt, i_ifle, i_cmpeq, i_cmpne, i_cmplt, i_cmpge, i_cmpgt, i_cmple, i_acmpeq, i_acmpne, i_ifnull, i_ifnonnull, i_getI, i_getR, i_putI, i_putZ, i_ald, i_ldL, i_ldR, i_ast, i_stL, i_stR, i_alen, i_new, i_iret, i_zret, i_lret, i_aret, i_vret, i_raise, i_throw, i_recv, i_objinit, i_tsw3, lget, lset, lput1, lput2, lkil, ltrim, largs, isL, takev, dropv, nthv, pushO, catv, gd, true_and, and_true, Option.some.injEq, Prod.mk.injEq, exists_eq_left', if_true, if_false, reduceCtorEq, Bool.false_eq_true, lcmp_ge, lcmp_lt, lcmp_le, lcmp_gt, lcmp_eq, true_or, or_true, not_true_eq_false, not_false_eq_true, false_implies, true_implies, List.length_cons, List.length_nil, o2]
  refine fldA (p := q) (n := 9) (by decide) ⟨Nat.le_trans (by decide) u2.1, Nat.le_trans (by decide) u2.2⟩ (by rw [n2]; exact Nat.lt_add_of_pos_right (by decide)) o2 fun B3 S3 D3 u3 b3 n3 r3 d3 x3 => ?_
  rw [n2] at n3 r3 x3
  replace u3 : 206 ≤ B3.1 ∧ 16789 ≤ B3.2 := ⟨ubB u2.1 u3.1 (by decide), ubB u2.2 u3.2 (by decide)⟩
  clear u2
  replace n3 : S3.2.2 = q + 14   := n3
  have o3 : S3.1 q = some (8, 0) := by rw [b3.2.1 q (by rw [n2]; exact Nat.lt_add_of_pos_right (by decide))]; exact o2
  simp only [P_X8_init, i_kil, i_icon, i_lcon, i_null, i_loadI, i_loadL, i_loadR, i_istore, i_lstore, i_astore, i_iinc, i_dup, i_dup2, i_pop, i_iadd, i_isub, i_imul, i_idiv, i_irem, i_ineg, i_iand, i_ior, i_ishl, i_ishr, i_lxor, i_ladd, i_lsub, i_lmul, i_ldiv, i_lrem, i_lneg, i_lshl, i_lcmp, i_i2l, i_l2i, i_i2b, i_i2s, i_ifeq, i_ifne, i_iflt, i_ifge, i_ifgt, i_ifle, i_cmpeq, i_cmpne, i_cmplt, i_cmpge, i_cmpgt, i_cmple, i_acmpeq, i_acmpne, i_ifnull, i_ifnonnull, i_getI, i_getR, i_putI, i_putZ, i_ald, i_ldL, i_ldR, i_ast, i_stL, i_stR, i_alen, i_new, i_iret, i_zret, i_lret, i_aret, i_vret, i_raise, i_throw, i_recv, i_objinit, i_tsw3, lget, lset, lput1, lput2, lkil, ltrim, largs, isL, takev, dropv, nthv, pushO, catv, gd, true_and, and_true, Option.some.injEq, Prod.mk.injEq, exists_eq_left', if_true, if_false, reduceCtorEq, Bool.false_eq_true, lcmp_ge, lcmp_lt, lcmp_le, lcmp_gt, lcmp_eq, true_or, or_true, not_true_eq_false, not_false_eq_true, false_implies, true_implies, List.length_cons, List.length_nil, o3]
  refine fld (p := q) (mk_X3 160 (by decide)) (X3w.loc 160) ⟨Nat.le_trans (by decide) u3.1, Nat.le_trans (by decide) u3.2⟩ (by rw [n3]; exact Nat.lt_add_of_pos_right (by decide)) o3 (by decide) (by rfl) (by rfl) (by rfl) fun B4 S4 D4 u4 b4 n4 r4 d4 x4 => ?_
  rw [n3] at n4 r4 x4
  replace u4 : 204 ≤ B4.1 ∧ 16626 ≤ B4.2 := ⟨ubB u3.1 u4.1 (by decide), ubB u3.2 u4.2 (by decide)⟩
  clear u3
  replace n4 : S4.2.2 = q + 16   := n4
  have o4 : S4.1 q = some (8, 0) := by rw [b4.2.1 q (by rw [n3]; exact Nat.lt_add_of_pos_right (by decide))]; exact o3
  simp only [P_X8_init, i_kil, i_icon, i_lcon, i_null, i_loadI, i_loadL, i_loadR, i_istore, i_lstore, i_astore, i_iinc, i_dup, i_dup2, i_pop, i_iadd, i_isub, i_imul, i_idiv, i_irem, i_ineg, i_iand, i_ior, i_ishl, i_ishr, i_lxor, i_ladd, i_lsub, i_lmul, i_ldiv, i_lrem, i_lneg, i_lshl, i_lcmp, i_i2l, i_l2i, i_i2b, i_i2s, i_ifeq, i_ifne, i_iflt, i_ifge, i_ifgt, i_ifle, i_cmpeq, i_cmpne, i_cmplt, i_cmpge, i_cmpgt, i_cmple, i_acmpeq, i_acmpne, i_ifnull, i_ifnonnull, i_getI, i_getR, i_putI, i_putZ, i_ald, i_ldL, i_ldR, i_ast, i_stL, i_stR, i_alen, i_new, i_iret, i_zret, i_lret, i_aret, i_vret, i_raise, i_throw, i_recv, i_objinit, i_tsw3, lget, lset, lput1, lput2, lkil, ltrim, largs, isL, takev, dropv, nthv, pushO, catv, gd, true_and, and_true, Option.some.injEq, Prod.mk.injEq, exists_eq_left', if_true, if_false, reduceCtorEq, Bool.false_eq_true, lcmp_ge, lcmp_lt, lcmp_le, lcmp_gt, lcmp_eq, true_or, or_true, not_true_eq_false, not_false_eq_true, false_implies, true_implies, List.length_cons, List.length_nil, o4]
  refine fld (p := q) (mk_X3 160 (by decide)) (X3w.loc 160) ⟨Nat.le_trans (by decide) u4.1, Nat.le_trans (by decide) u4.2⟩ (by rw [n4]; exact Nat.lt_add_of_pos_right (by decide)) o4 (by decide) (by rfl) (by rfl) (by rfl) fun B5 S5 D5 u5 b5 n5 r5 d5 x5 => ?_
  rw [n4] at n5 r5 x5
  replace u5 : 202 ≤ B5.1 ∧ 16463 ≤ B5.2 := ⟨ubB u4.1 u5.1 (by decide), ubB u4.2 u5.2 (by decide)⟩
  clear u4
  replace n5 : S5.2.2 = q + 18   := n5
  have o5 : S5.1 q = some (8, 0) := by rw [b5.2.1 q (by rw [n4]; exact Nat.lt_add_of_pos_right (by decide))]; exact o4
  simp only [P_X8_init, i_kil, i_icon, i_lcon, i_null, i_loadI, i_loadL, i_loadR, i_istore, i_lstore, i_astore, i_iinc, i_dup, i_dup2, i_pop, i_iadd, i_isub, i_imul, i_idiv, i_irem, i_ineg, i_iand, i_ior, i_ishl, i_ishr, i_lxor, i_ladd, i_lsub, i_lmul, i_ldiv, i_lrem, i_lneg, i_lshl, i_lcmp, i_i2l, i_l2i, i_i2b, i_i2s, i_ifeq, i_ifne, i_iflt, i_ifge, i_ifgt, i_ifle, i_cmpeq, i_cmpne, i_cmplt, i_cmpge, i_cmpgt, i_cmple, i_acmpeq, i_acmpne, i_ifnull, i_ifnonnull, i_getI, i_getR, i_putI, i_putZ, i_ald, i_ldL, i_ldR, i_ast, i_stL, i_stR, i_alen, i_new, i_iret, i_zret, i_lret, i_aret, i_vret, i_raise, i_throw, i_recv, i_objinit, i_tsw3, lget, lset, lput1, lput2, lkil, ltrim, largs, isL, takev, dropv, nthv, pushO, catv, gd, true_and, and_true, Option.some.injEq, Prod.mk.injEq, exists_eq_left', if_true, if_false, reduceCtorEq, Bool.false_eq_true, lcmp_ge, lcmp_lt, lcmp_le, lcmp_gt, lcmp_eq, true_or, or_true, not_true_eq_false, not_false_eq_true, false_implies, true_implies, List.length_cons, List.length_nil, o5]
  refine fld (p := q) (mk_X3 160 (by decide)) (X3w.loc 160) ⟨Nat.le_trans (by decide) u5.1, Nat.le_trans (by decide) u5.2⟩ (by rw [n5]; exact Nat.lt_add_of_pos_right (by decide)) o5 (by decide) (by rfl) (by rfl) (by rfl) fun B6 S6 D6 u6 b6 n6 r6 d6 x6 => ?_
  rw [n5] at n6 r6 x6
  replace u6 : 200 ≤ B6.1 ∧ 16300 ≤ B6.2 := ⟨ubB u5.1 u6.1 (by decide), ubB u5.2 u6.2 (by decide)⟩
  clear u5
  replace n6 : S6.2.2 = q + 20   := n6
  have o6 : S6.1 q = some (8, 0) := by rw [b6.2.1 q (by rw [n5]; exact Nat.lt_add_of_pos_right (by decide))]; exact o5
  simp only [P_X8_init, i_kil, i_icon, i_lcon, i_null, i_loadI, i_loadL, i_loadR, i_istore, i_lstore, i_astore, i_iinc, i_dup, i_dup2, i_pop, i_iadd, i_isub, i_imul, i_idiv, i_irem, i_ineg, i_iand, i_ior, i_ishl, i_ishr, i_lxor, i_ladd, i_lsub, i_lmul, i_ldiv, i_lrem, i_lneg, i_lshl, i_lcmp, i_i2l, i_l2i, i_i2b, i_i2s, i_ifeq, i_ifne, i_iflt, i_ifge, i_ifgt, i_ifle, i_cmpeq, i_cmpne, i_cmplt, i_cmpge, i_cmpgt, i_cmple, i_acmpeq, i_acmpne, i_ifnull, i_ifnonnull, i_getI, i_getR, i_putI, i_putZ, i_ald, i_ldL, i_ldR, i_ast, i_stL, i_stR, i_alen, i_new, i_iret, i_zret, i_lret, i_aret, i_vret, i_raise, i_throw, i_recv, i_objinit, i_tsw3, lget, lset, lput1, lput2, lkil, ltrim, largs, isL, takev, dropv, nthv, pushO, catv, gd, true_and, and_true, Option.some.injEq, Prod.mk.injEq, exists_eq_left', if_true, if_false, reduceCtorEq, Bool.false_eq_true, lcmp_ge, lcmp_lt, lcmp_le, lcmp_gt, lcmp_eq, true_or, or_true, not_true_eq_false, not_false_eq_true, false_implies, true_implies, List.length_cons, List.length_nil, o6]
  refine fld (p := q) (mk_X3 160 (by decide)) (X3w.loc 160) ⟨Nat.le_trans (by decide) u6.1, Nat.le_trans (by decide) u6.2⟩ (by rw [n6]; exact Nat.lt_add_of_pos_right (by decide)) o6 (by decide) (by rfl) (by rfl) (by rfl) fun B7 S7 D7 u7 b7 n7 r7 d7 x7 => ?_
  rw [n6] at n7 r7 x7
  replace u7 : 198 ≤ B7.1 ∧ 16137 ≤ B7.2 := ⟨ubB u6.1 u7.1 (by decide), ubB u6.2 u7.2 (by decide)⟩
  clear u6
  replace n7 : S7.2.2 = q + 22   := n7
  have o7 : S7.1 q = some (8, 0) := by rw [b7.2.1 q (by rw [n6]; exact Nat.lt_add_of_pos_right (by decide))]; exact o6
  simp only [P_X8_init, i_kil, i_icon, i_lcon, i_null, i_loadI, i_loadL, i_loadR, i_istore, i_lstore, i_astore, i_iinc, i_dup, i_dup2, i_pop, i_iadd, i_isub, i_imul, i_idiv, i_irem, i_ineg, i_iand, i_ior, i_ishl, i_ishr, i_lxor, i_ladd, i_lsub, i_lmul, i_ldiv, i_lrem, i_lneg, i_lshl, i_lcmp, i_i2l, i_l2i, i_i2b, i_i2s, i_ifeq, i_ifne, i_iflt, i_ifge, i_ifgt, i_ifle, i_cmpeq, i_cmpne, i_cmplt, i_cmpge, i_cmpgt, i_cmple, i_acmpeq, i_acmpne, i_ifnull, i_ifnonnull, i_getI, i_getR, i_putI, i_putZ, i_ald, i_ldL, i_ldR, i_ast, i_stL, i_stR, i_alen, i_new, i_iret, i_zret, i_lret, i_aret, i_vret, i_raise, i_throw, i_recv, i_objinit, i_tsw3, lget, lset, lput1, lput2, lkil, ltrim, largs, isL, takev, dropv, nthv, pushO, catv, gd, true_and, and_true, Option.some.injEq, Prod.mk.injEq, exists_eq_left', if_true, if_false, reduceCtorEq, Bool.false_eq_true, lcmp_ge, lcmp_lt, lcmp_le, lcmp_gt, lcmp_eq, true_or, or_true, not_true_eq_false, not_false_eq_true, false_implies, true_implies, List.length_cons, List.length_nil, o7]
  refine fldR (p := q) (D := D7) (by rw [n7]; exact Nat.lt_add_of_pos_right (by decide)) o7 fun S8 b8 n8 r8 => ?_
  rw [n7] at n8
  have o8 : S8.1 q = some (8, 0) := by rw [b8.2.1 q (by rw [n7]; exact Nat.lt_add_of_pos_right (by decide))]; exact o7
  have g8 : bE q S8 S8 D7 D7 := bE.rfl
  have g7 : bE q S7 S8 D7 D7 := b8.tr g8
  have g6 : bE q S6 S8 D6 D7 := b7.tr g7
  have g5 : bE q S5 S8 D5 D7 := b6.tr g6
  have g4 : bE q S4 S8 D4 D7 := b5.tr g5
  have g3 : bE q S3 S8 D3 D7 := b4.tr g4
  have g2 : bE q S2 S8 D2 D7 := b3.tr g3
  have g1 : bE q S1 S8 D1 D7 := b2.tr g2
  have g0 : bE q S S8 D D7 := b1.tr g1
  have y1 := (X0m.loc 106 105 10 9).go g1 (Nat.le_of_eq n1.symm) (Or.inl (Nat.lt_add_of_pos_right (by decide))) x1
  have y2 := (X0a.loc 100 10).go g2 (Nat.le_of_eq n2.symm) (Or.inl (Nat.lt_add_of_pos_right (by decide))) x2
  have y3 := (X0a.loc 105 9).go g3 (Nat.le_of_eq n3.symm) (Or.inl (Nat.lt_add_of_pos_right (by decide))) x3
  have y4 := (X3w.loc 160).go g4 (Nat.le_of_eq n4.symm) (Or.inl (Nat.lt_add_of_pos_right (by decide))) x4
  have y5 := (X3w.loc 160).go g5 (Nat.le_of_eq n5.symm) (Or.inl (Nat.lt_add_of_pos_right (by decide))) x5
  have y6 := (X3w.loc 160).go g6 (Nat.le_of_eq n6.symm) (Or.inl (Nat.lt_add_of_pos_right (by decide))) x6
  have y7 := (X3w.loc 160).go g7 (Nat.le_of_eq n7.symm) (Or.inl (Nat.lt_add_of_pos_right (by decide))) x7
  have k1 : S8.2.1 q 1 = some (q + 1) := by simp only [r8, r7, r6, r5, r4, r3, r2, r1]; rfl
  have k3 : S8.2.1 q 3 = some (q + 13) := by simp only [r8, r7, r6, r5, r4, r3, r2, r1]; rfl
  have hb8 : x8B S8 q := ⟨o8, k1, k3, y1.1, y1.2, y3.1⟩
  simp only [P_X8_init, i_kil, i_icon, i_lcon, i_null, i_loadI, i_loadL, i_loadR, i_istore, i_lstore, i_astore, i_iinc, i_dup, i_dup2, i_pop, i_iadd, i_isub, i_imul, i_idiv, i_irem, i_ineg, i_iand, i_ior, i_ishl, i_ishr, i_lxor, i_ladd, i_lsub, i_lmul, i_ldiv, i_lrem, i_lneg, i_lshl, i_lcmp, i_i2l, i_l2i, i_i2b, i_i2s, i_ifeq, i_ifne, i_iflt, i_ifge, i_ifgt, i_ifle, i_cmpeq, i_cmpne, i_cmplt, i_cmpge, i_cmpgt, i_cmple, i_acmpeq, i_acmpne, i_ifnull, i_ifnonnull, i_getI, i_getR, i_putI, i_putZ, i_putR, i_ald, i_ldL, i_ldR, i_ast, i_stL, i_stR, i_alen, i_new, i_newa, i_iret, i_zret, i_lret, i_aret, i_vret, i_raise, i_throw, i_recv, i_objinit, i_tsw3, lget, lset, lput1, lput2, lkil, ltrim, largs, isL, takev, dropv, nthv, pushO, catv, gd, true_and, and_true, Option.some.injEq, Prod.mk.injEq, exists_eq_left', if_true, if_false, reduceCtorEq, Bool.false_eq_true, lcmp_ge, lcmp_lt, lcmp_le, lcmp_gt, lcmp_eq, true_or, or_true, not_true_eq_false, not_false_eq_true, false_implies, true_implies, List.length_cons, List.length_nil]
  refine x8_rows 10 0 _ S8 D7 rfl ⟨Nat.le_trans (by decide) u7.1, Nat.le_trans (by decide) u7.2⟩ hb8 n8 (fun r k _ _ hlt => absurd hlt (Nat.not_lt_zero _)) fun B8 S8 D8 v8 c8 m8 e8 => ?_
  have v8 : 18 ≤ B8.1 ∧ 1467 ≤ B8.2 := ⟨ubB u7.1 v8.1 (by decide), ubB u7.2 v8.2 (by decide)⟩
  refine x8_last 9 0 _ S8 D8 rfl v8 (hb8.go c8 (Nat.le_of_eq n8.symm)) m8 e8 (fun j hj => absurd hj (Nat.not_lt_zero _)) fun B9 S9 D9 c9 m9 e9 l9 => ?_
  have c := c8.tr c9
  have z4 := (X3w.loc 160).goR c (by rw [n8]; exact Nat.add_le_add_left (n := 16) (m := 22) (by decide) q) (Or.inl (Nat.add_lt_add_left (by decide) q)) y4
  have z5 := (X3w.loc 160).goR c (by rw [n8]; exact Nat.add_le_add_left (n := 18) (m := 22) (by decide) q) (Or.inl (Nat.add_lt_add_left (by decide) q)) y5
  have z6 := (X3w.loc 160).goR c (by rw [n8]; exact Nat.add_le_add_left (n := 20) (m := 22) (by decide) q) (Or.inl (Nat.add_lt_add_left (by decide) q)) y6
  have z7 := (X3w.loc 160).goR c (by rw [n8]; exact Nat.add_le_add_left (n := 22) (m := 22) (by decide) q) (Or.inl (Nat.add_lt_add_left (by decide) q)) y7
  have hb9 := hb8.go c (Nat.le_of_eq n8.symm)
  refine K _ S9 D9 ⟨hb9.1, (by rw [c.2.2.1 q _ (by rw [n8]; exact Nat.lt_add_of_pos_right (by decide)) (Or.inl (Nat.lt_add_of_pos_right (by decide)))]; simp only [r8, r7, r6, r5, r4, r3, r2, r1]; rfl), hb9.2.1, hb9.2.2.2.1, hb9.2.2.2.2.1, e9, (by rw [c.2.2.1 q _ (by rw [n8]; exact Nat.lt_add_of_pos_right (by decide)) (Or.inl (Nat.lt_add_of_pos_right (by decide)))]; simp only [r8, r7, r6, r5, r4, r3, r2, r1]; rfl), (by rw [c.2.1 _ (by rw [n8]; exact Nat.add_lt_add_left (by decide) q)]; exact y2.1), hb9.2.2.1, hb9.2.2.2.2.2, l9, (by rw [c.2.2.1 q _ (by rw [n8]; exact Nat.lt_add_of_pos_right (by decide)) (Or.inl (Nat.lt_add_of_pos_right (by decide)))]; simp only [r8, r7, r6, r5, r4, r3, r2, r1]; rfl), z4, (by rw [c.2.2.1 q _ (by rw [n8]; exact Nat.lt_add_of_pos_right (by decide)) (Or.inl (Nat.lt_add_of_pos_right (by decide)))]; simp only [r8, r7, r6, r5, r4, r3, r2, r1]; rfl), z5, (by rw [c.2.2.1 q _ (by rw [n8]; exact Nat.lt_add_of_pos_right (by decide)) (Or.inl (Nat.lt_add_of_pos_right (by decide)))]; simp only [r8, r7, r6, r5, r4, r3, r2, r1]; rfl), z6, (by rw [c.2.2.1 q _ (by rw [n8]; exact Nat.lt_add_of_pos_right (by decide)) (Or.inl (Nat.lt_add_of_pos_right (by decide)))]; simp only [r8, r7, r6, r5, r4, r3, r2, r1]; rfl), z7⟩ m9 (g0.trR c (by rw [h2]; exact Nat.add_le_add_left (by decide) q))
