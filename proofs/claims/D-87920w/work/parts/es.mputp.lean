/-! the model's text: putPoly, putWord, putEnd -/
-- needs: ep.mclo2 er.mput eq1.orel
set_option maxRecDepth 100000
set_option linter.unusedVariables false
theorem str_all : ∀ k : Fin 10, ∀ i : Fin ((strTx.getD k []).length), 0 ≤ (strTx.getD k []).getD i 0 ∧ (strTx.getD k []).getD i 0 < 128 := by decide
theorem str_len : ∀ k : Fin 10, (strTx.getD k []).length ≤ 7 := by decide
theorem take_snoc {W : List Int} {i : Nat} (h : i < W.length) : W.take (i + 1) = W.take i ++ [W.getD i 0] := by
  rw [List.take_succ_eq_append_getElem h, List.getD_eq_getElem?_getD, List.getElem?_eq_getElem h]
  rfl
theorem okT_Z {x : Int} (h : x = 0 ∨ x = 1) : okT 103 x := ⟨fun q => by omega, fun q => by omega, fun _ => h⟩
section MPW
variable {E : Ex} {B : Nat × Nat} {S : Stat} {D : Dat} {M : Nat} {L : List Int}
theorem sp_X16_putWord {Z : Nat → Nat} {k : Nat} (hS : mxtS S M) (hk : k < 10) (h : txD 38 D M (M + 4225) L) (hL : L.length + 7 ≤ 20000)
    (K : ∀ D', txO 38 D D' M (M + 4225) → txD 38 D' M (M + 4225) (L ++ strTx.getD k []) → E (.inl none) B S D') : Wp (P_X16_putWord Z) E 0 [some (aR M), some (aR (Z k))] [] B S D := by
  have o := hS.1
  have hl := str_len ⟨k, hk⟩
  have hl : (strTx.getD k []).length ≤ 7 := hl
  have ha := str_all ⟨k, hk⟩
  have hst : strTx.length = 10 := by decide
  have loop : ∀ (m i : Nat) (D1 : Dat), i + m = (strTx.getD k []).length → txO 38 D D1 M (M + 4225) → txD 38 D1 M (M + 4225) (L ++ (strTx.getD k []).take i) → Wp (P_X16_putWord Z) E 1 [some (aR M), some (aR (Z k)), some (aI (i : Int))] [] B S D1 := by
    intro m
    induction m with
    | zero =>
      intro i D1 hi f1 t1
      refine wp_in ?_
      simp only [P_X16_putWord, i_slen, i_schr, i_kil, i_icon, i_lcon, i_null, i_loadI, i_loadL, i_loadR, i_istore, i_lstore, i_astore, i_iinc, i_dup, i_dup2, i_pop, i_iadd, i_isub, i_imul, i_idiv, i_irem, i_ineg, i_iand, i_ior, i_ishl, i_ishr, i_lxor, i_ladd, i_lsub, i_lmul, i_ldiv, i_lrem, i_lneg, i_lshl, i_lcmp, i_i2l, i_l2i, i_i2b, i_i2s, i_ifeq, i_ifne, i_iflt, i_ifge, i_ifgt, i_ifle, i_cmpeq, i_cmpne, i_cmplt, i_cmpge, i_cmpgt, i_cmple, i_acmpeq, i_acmpne, i_ifnull, i_ifnonnull, i_getI, i_getR, i_putI, i_putZ, i_putR, i_ald, i_ldL, i_ldR, i_ast, i_stL, i_stR, i_alen, i_new, i_newa, i_iret, i_zret, i_lret, i_aret, i_vret, i_raise, i_throw, i_recv, i_objinit, i_tsw3, lget, lset, lput1, lput2, lkil, ltrim, largs, isL, takev, dropv, nthv, pushO, catv, gd, true_and, and_true, Option.some.injEq, Prod.mk.injEq, exists_eq_left', if_true, if_false, reduceCtorEq, Bool.false_eq_true, lcmp_ge, lcmp_lt, lcmp_le, lcmp_gt, lcmp_eq, true_or, or_true, not_true_eq_false, not_false_eq_true, false_implies, true_implies, List.length_cons, List.length_nil]
      refine ⟨by decide, k, by omega, rfl, fun _ => K D1 f1 ?_, fun q => by omega⟩
      rw [show i = (strTx.getD k []).length by omega, List.take_length] at t1
      exact t1
    | succ m ih =>
      intro i D1 hi f1 t1
      have hlt : i < (strTx.getD k []).length := by omega
      have hc := ha ⟨i, hlt⟩
      have hc : 0 ≤ (strTx.getD k []).getD i 0 ∧ (strTx.getD k []).getD i 0 < 128 := hc
      refine wp_in ?_
      simp only [P_X16_putWord, i_slen, i_schr, i_kil, i_icon, i_lcon, i_null, i_loadI, i_loadL, i_loadR, i_istore, i_lstore, i_astore, i_iinc, i_dup, i_dup2, i_pop, i_iadd, i_isub, i_imul, i_idiv, i_irem, i_ineg, i_iand, i_ior, i_ishl, i_ishr, i_lxor, i_ladd, i_lsub, i_lmul, i_ldiv, i_lrem, i_lneg, i_lshl, i_lcmp, i_i2l, i_l2i, i_i2b, i_i2s, i_ifeq, i_ifne, i_iflt, i_ifge, i_ifgt, i_ifle, i_cmpeq, i_cmpne, i_cmplt, i_cmpge, i_cmpgt, i_cmple, i_acmpeq, i_acmpne, i_ifnull, i_ifnonnull, i_getI, i_getR, i_putI, i_putZ, i_putR, i_ald, i_ldL, i_ldR, i_ast, i_stL, i_stR, i_alen, i_new, i_newa, i_iret, i_zret, i_lret, i_aret, i_vret, i_raise, i_throw, i_recv, i_objinit, i_tsw3, lget, lset, lput1, lput2, lkil, ltrim, largs, isL, takev, dropv, nthv, pushO, catv, gd, true_and, and_true, Option.some.injEq, Prod.mk.injEq, exists_eq_left', if_true, if_false, reduceCtorEq, Bool.false_eq_true, lcmp_ge, lcmp_lt, lcmp_le, lcmp_gt, lcmp_eq, true_or, or_true, not_true_eq_false, not_false_eq_true, false_implies, true_implies, List.length_cons, List.length_nil, o]
      refine ⟨by decide, k, by omega, rfl, fun q => by omega, fun _ => ?_⟩
      refine ⟨by decide, k, by omega, rfl, by omega, by omega, ?_⟩
      repeat (first | refine ⟨in_small (by omega) (by omega), ?_⟩ | (show (_ → _) ∧ (_ → _); first | refine ⟨by omega, fun _ => ?_⟩ | refine ⟨fun _ => ?_, by omega⟩) | refine ⟨by omega, ?_⟩ | refine ⟨⟨_, rfl, by assumption⟩, ?_⟩ | refine ⟨okT_I _, ?_⟩ | refine call0 (gd_of rfl) ?_)
      rw [show ((i : Nat) : Int).toNat = i by omega]
      refine sp_X16_put hS t1 (by rw [List.length_append, List.length_take]; omega) hc.1 hc.2 fun D2 f2 t2 => ?_
      simp only [P_X16_putWord, i_kil, i_icon, i_lcon, i_null, i_loadI, i_loadL, i_loadR, i_istore, i_lstore, i_astore, i_iinc, i_dup, i_dup2, i_pop, i_iadd, i_isub, i_imul, i_idiv, i_irem, i_ineg, i_iand, i_ior, i_ishl, i_ishr, i_lxor, i_ladd, i_lsub, i_lmul, i_ldiv, i_lrem, i_lneg, i_lshl, i_lcmp, i_i2l, i_l2i, i_i2b, i_i2s, i_ifeq, i_ifne, i_iflt, i_ifge, i_ifgt, i_ifle, i_cmpeq, i_cmpne, i_cmplt, i_cmpge, i_cmpgt, i_cmple, i_acmpeq, i_acmpne, i_ifnull, i_ifnonnull, i_getI, i_getR, i_putI, i_putZ, i_putR, i_ald, i_ldL, i_ldR, i_ast, i_stL, i_stR, i_alen, i_new, i_newa, i_iret, i_zret, i_lret, i_aret, i_vret, i_raise, i_throw, i_recv, i_objinit, i_tsw3, lget, lset, lput1, lput2, lkil, ltrim, largs, isL, takev, dropv, nthv, pushO, catv, gd, true_and, and_true, Option.some.injEq, Prod.mk.injEq, exists_eq_left', if_true, if_false, reduceCtorEq, Bool.false_eq_true, lcmp_ge, lcmp_lt, lcmp_le, lcmp_gt, lcmp_eq, true_or, or_true, not_true_eq_false, not_false_eq_true, false_implies, true_implies, List.length_cons, List.length_nil]
      repeat (first | refine ⟨in_small (by omega) (by omega), ?_⟩ | (show (_ → _) ∧ (_ → _); first | refine ⟨by omega, fun _ => ?_⟩ | refine ⟨fun _ => ?_, by omega⟩) | refine ⟨by omega, ?_⟩ | refine ⟨⟨_, rfl, by assumption⟩, ?_⟩ | refine ⟨okT_I _, ?_⟩ | refine call0 (gd_of rfl) ?_)
      refine ih (i + 1) D2 (by omega) (f1.trans f2) ?_
      rw [take_snoc hlt, ← List.append_assoc]
      exact t2
  refine wp_in ?_
  simp only [P_X16_putWord, i_kil, i_icon, i_lcon, i_null, i_loadI, i_loadL, i_loadR, i_istore, i_lstore, i_astore, i_iinc, i_dup, i_dup2, i_pop, i_iadd, i_isub, i_imul, i_idiv, i_irem, i_ineg, i_iand, i_ior, i_ishl, i_ishr, i_lxor, i_ladd, i_lsub, i_lmul, i_ldiv, i_lrem, i_lneg, i_lshl, i_lcmp, i_i2l, i_l2i, i_i2b, i_i2s, i_ifeq, i_ifne, i_iflt, i_ifge, i_ifgt, i_ifle, i_cmpeq, i_cmpne, i_cmplt, i_cmpge, i_cmpgt, i_cmple, i_acmpeq, i_acmpne, i_ifnull, i_ifnonnull, i_getI, i_getR, i_putI, i_putZ, i_putR, i_ald, i_ldL, i_ldR, i_ast, i_stL, i_stR, i_alen, i_new, i_newa, i_iret, i_zret, i_lret, i_aret, i_vret, i_raise, i_throw, i_recv, i_objinit, i_tsw3, lget, lset, lput1, lput2, lkil, ltrim, largs, isL, takev, dropv, nthv, pushO, catv, gd, true_and, and_true, Option.some.injEq, Prod.mk.injEq, exists_eq_left', if_true, if_false, reduceCtorEq, Bool.false_eq_true, lcmp_ge, lcmp_lt, lcmp_le, lcmp_gt, lcmp_eq, true_or, or_true, not_true_eq_false, not_false_eq_true, false_implies, true_implies, List.length_cons, List.length_nil]
  refine loop (strTx.getD k []).length 0 D (by omega) (txO.refl _ _ _ _) ?_
  rw [List.take_zero, List.append_nil]
  exact h
/-- what putPoly changes -/
def tpO (D D' : Dat) (M : Nat) : Prop := ∀ c i, (c ≠ M ∨ i ≠ 38) → c ≠ M + 4225 → c ≠ M + 4226 → D' c i = D c i
theorem sp_X16_putPoly {p c g n : Nat} {x z : Int} {φ : Nat → Rat} {e : Nat → Nat} (hS : mxtS S M) (s3 : S.2.1 M 39 = some (M + 4226)) (s4 : S.1 (M + 4226) = some (103, 60)) (hp : mpS S p) (lp : M + 4227 ≤ p) (hφ : mpD D p φ n e) (ho : ordOK c g) (hx : x = (c : Int) - 9) (hz : z = g ∨ c ≠ 12) (h : txD 38 D M (M + 4225) [])
    (K : ∀ D' l, tpO D D' M → ldsT c g φ l → l.length = pcnt φ 455 → txD 38 D' M (M + 4225) (pyT φ l) → (pyT φ l).length ≤ 20000 → E (.inl none) B S D') : Wp P_X16_putPoly E 0 [some (aR M), some (aR p), some (aI x), some (aI z)] [] B S D := by
  have o := hS.1
  have hcn := hφ.cnt
  obtain ⟨hn60, hn, hte, hasc, hall, hphi⟩ := id hφ
  obtain ⟨w1, w2, w3, w4, w5, w6, w7⟩ := id hp
  have fin : ∀ D1 l, tpO D D1 M → ldsT c g φ l → l.length = pcnt φ 455 → txD 38 D1 M (M + 4225) (pyT φ l) → (pyT φ l).length ≤ 20000 → Wp P_X16_putPoly E 6 [] [] B S D1 := fun D1 l a1 a2 a3 a4 a5 => by
    refine wp_in ?_
    simp only [P_X16_putPoly, i_kil, i_icon, i_lcon, i_null, i_loadI, i_loadL, i_loadR, i_istore, i_lstore, i_astore, i_iinc, i_dup, i_dup2, i_pop, i_iadd, i_isub, i_imul, i_idiv, i_irem, i_ineg, i_iand, i_ior, i_ishl, i_ishr, i_lxor, i_ladd, i_lsub, i_lmul, i_ldiv, i_lrem, i_lneg, i_lshl, i_lcmp, i_i2l, i_l2i, i_i2b, i_i2s, i_ifeq, i_ifne, i_iflt, i_ifge, i_ifgt, i_ifle, i_cmpeq, i_cmpne, i_cmplt, i_cmpge, i_cmpgt, i_cmple, i_acmpeq, i_acmpne, i_ifnull, i_ifnonnull, i_getI, i_getR, i_putI, i_putZ, i_putR, i_ald, i_ldL, i_ldR, i_ast, i_stL, i_stR, i_alen, i_new, i_newa, i_iret, i_zret, i_lret, i_aret, i_vret, i_raise, i_throw, i_recv, i_objinit, i_tsw3, lget, lset, lput1, lput2, lkil, ltrim, largs, isL, takev, dropv, nthv, pushO, catv, gd, true_and, and_true, Option.some.injEq, Prod.mk.injEq, exists_eq_left', if_true, if_false, reduceCtorEq, Bool.false_eq_true, lcmp_ge, lcmp_lt, lcmp_le, lcmp_gt, lcmp_eq, true_or, or_true, not_true_eq_false, not_false_eq_true, false_implies, true_implies, List.length_cons, List.length_nil]
    exact K D1 l a1 a2 a3 a4 a5
  have inn : ∀ (l : List Nat) (D1 : Dat) (m k : Nat) (b : Int), tpO D D1 M → (∀ k : Nat, k < n → D1 (M + 4226) k = if remT φ l (e k) = 0 then 1 else 0) → (∃ k, k < n ∧ remT φ l (e k) ≠ 0) → k + m = n →
      (b = -1 ∧ (∀ j, j < k → remT φ l (e j) = 0) ∨ ∃ y : Nat, b = y ∧ y < n ∧ remT φ l (e y) ≠ 0 ∧ ∀ j, j < k → remT φ l (e j) ≠ 0 → j ≠ y → 0 < rankI c g (e y) (e j)) →
      (∀ y : Nat, y < n → isLead c g (remT φ l) (e y) → Wp P_X16_putPoly E 3 [some (aR M), some (aR p), some (aI x), some (aI z), some (aI (l.length : Int)), some (aI (y : Int)), some (aI (n : Int))] [] B S D1) →
      Wp P_X16_putPoly E 3 [some (aR M), some (aR p), some (aI x), some (aI z), some (aI (l.length : Int)), some (aI b), some (aI (k : Int))] [] B S D1 := by
    intro l D1 m
    induction m with
    | zero =>
      intro k b f1 hp1 hex hk hb KK
      have : k = n := by omega
      subst this
      rcases hb with ⟨-, h2⟩ | ⟨y, h1, h2, h3, h4⟩
      · obtain ⟨j, j1, j2⟩ := hex
        exact absurd (h2 j j1) j2
      · subst h1
        refine KK y h2 ⟨(hte y h2).1, h3, fun u hu hu0 hne => ?_⟩
        have hu1 : φ u ≠ 0 := fun q => hu0 (remT_out q)
        obtain ⟨j, j1, j2⟩ : ∃ j, j < k ∧ e j = u := Classical.byContradiction fun c => hu1 (hall u hu fun j hj q => c ⟨j, hj, q⟩)
        subst j2
        exact h4 j j1 hu0 (fun q => hne (by rw [q]))
    | succ m ih =>
      intro k b f1 hp1 hex hk hb KK
      have e1 : D1 p 0 = n := by rw [f1 _ _ (Or.inl (by omega)) (by omega) (by omega)]; exact hn
      have e2 : D1 (M + 4226) k = if remT φ l (e k) = 0 then 1 else 0 := hp1 k (by omega)
      have five : ∀ b' : Int, (b' = -1 ∧ (∀ j, j < k + 1 → remT φ l (e j) = 0) ∨ ∃ y : Nat, b' = y ∧ y < n ∧ remT φ l (e y) ≠ 0 ∧ ∀ j, j < k + 1 → remT φ l (e j) ≠ 0 → j ≠ y → 0 < rankI c g (e y) (e j)) → Wp P_X16_putPoly E 5 [some (aR M), some (aR p), some (aI x), some (aI z), some (aI (l.length : Int)), some (aI b'), some (aI (k : Int))] [] B S D1 := fun b' hb' => by
        refine wp_in ?_
        simp only [P_X16_putPoly, i_kil, i_icon, i_lcon, i_null, i_loadI, i_loadL, i_loadR, i_istore, i_lstore, i_astore, i_iinc, i_dup, i_dup2, i_pop, i_iadd, i_isub, i_imul, i_idiv, i_irem, i_ineg, i_iand, i_ior, i_ishl, i_ishr, i_lxor, i_ladd, i_lsub, i_lmul, i_ldiv, i_lrem, i_lneg, i_lshl, i_lcmp, i_i2l, i_l2i, i_i2b, i_i2s, i_ifeq, i_ifne, i_iflt, i_ifge, i_ifgt, i_ifle, i_cmpeq, i_cmpne, i_cmplt, i_cmpge, i_cmpgt, i_cmple, i_acmpeq, i_acmpne, i_ifnull, i_ifnonnull, i_getI, i_getR, i_putI, i_putZ, i_putR, i_ald, i_ldL, i_ldR, i_ast, i_stL, i_stR, i_alen, i_new, i_newa, i_iret, i_zret, i_lret, i_aret, i_vret, i_raise, i_throw, i_recv, i_objinit, i_tsw3, lget, lset, lput1, lput2, lkil, ltrim, largs, isL, takev, dropv, nthv, pushO, catv, gd, true_and, and_true, Option.some.injEq, Prod.mk.injEq, exists_eq_left', if_true, if_false, reduceCtorEq, Bool.false_eq_true, lcmp_ge, lcmp_lt, lcmp_le, lcmp_gt, lcmp_eq, true_or, or_true, not_true_eq_false, not_false_eq_true, false_implies, true_implies, List.length_cons, List.length_nil]
        repeat (first | refine ⟨in_small (by omega) (by omega), ?_⟩ | (show (_ → _) ∧ (_ → _); first | refine ⟨by omega, fun _ => ?_⟩ | refine ⟨fun _ => ?_, by omega⟩) | refine ⟨by omega, ?_⟩ | refine ⟨⟨_, rfl, by assumption⟩, ?_⟩ | refine ⟨okT_I _, ?_⟩ | refine call0 (gd_of rfl) ?_)
        exact ih (k + 1) b' f1 hp1 hex (by omega) hb' KK
      have four : remT φ l (e k) ≠ 0 → (∀ j, j < k → remT φ l (e j) ≠ 0 → 0 < rankI c g (e k) (e j)) → Wp P_X16_putPoly E 4 [some (aR M), some (aR p), some (aI x), some (aI z), some (aI (l.length : Int)), none, some (aI (k : Int))] [] B S D1 := fun h1 h2 => by
        refine wp_in ?_
        simp only [P_X16_putPoly, i_kil, i_icon, i_lcon, i_null, i_loadI, i_loadL, i_loadR, i_istore, i_lstore, i_astore, i_iinc, i_dup, i_dup2, i_pop, i_iadd, i_isub, i_imul, i_idiv, i_irem, i_ineg, i_iand, i_ior, i_ishl, i_ishr, i_lxor, i_ladd, i_lsub, i_lmul, i_ldiv, i_lrem, i_lneg, i_lshl, i_lcmp, i_i2l, i_l2i, i_i2b, i_i2s, i_ifeq, i_ifne, i_iflt, i_ifge, i_ifgt, i_ifle, i_cmpeq, i_cmpne, i_cmplt, i_cmpge, i_cmpgt, i_cmple, i_acmpeq, i_acmpne, i_ifnull, i_ifnonnull, i_getI, i_getR, i_putI, i_putZ, i_putR, i_ald, i_ldL, i_ldR, i_ast, i_stL, i_stR, i_alen, i_new, i_newa, i_iret, i_zret, i_lret, i_aret, i_vret, i_raise, i_throw, i_recv, i_objinit, i_tsw3, lget, lset, lput1, lput2, lkil, ltrim, largs, isL, takev, dropv, nthv, pushO, catv, gd, true_and, and_true, Option.some.injEq, Prod.mk.injEq, exists_eq_left', if_true, if_false, reduceCtorEq, Bool.false_eq_true, lcmp_ge, lcmp_lt, lcmp_le, lcmp_gt, lcmp_eq, true_or, or_true, not_true_eq_false, not_false_eq_true, false_implies, true_implies, List.length_cons, List.length_nil]
        exact five k (Or.inr ⟨k, rfl, by omega, h1, fun j hj hj0 hne => h2 j (by omega) hj0⟩)
      refine wp_in ?_
      simp only [P_X16_putPoly, i_kil, i_icon, i_lcon, i_null, i_loadI, i_loadL, i_loadR, i_istore, i_lstore, i_astore, i_iinc, i_dup, i_dup2, i_pop, i_iadd, i_isub, i_imul, i_idiv, i_irem, i_ineg, i_iand, i_ior, i_ishl, i_ishr, i_lxor, i_ladd, i_lsub, i_lmul, i_ldiv, i_lrem, i_lneg, i_lshl, i_lcmp, i_i2l, i_l2i, i_i2b, i_i2s, i_ifeq, i_ifne, i_iflt, i_ifge, i_ifgt, i_ifle, i_cmpeq, i_cmpne, i_cmplt, i_cmpge, i_cmpgt, i_cmple, i_acmpeq, i_acmpne, i_ifnull, i_ifnonnull, i_getI, i_getR, i_putI, i_putZ, i_putR, i_ald, i_ldL, i_ldR, i_ast, i_stL, i_stR, i_alen, i_new, i_newa, i_iret, i_zret, i_lret, i_aret, i_vret, i_raise, i_throw, i_recv, i_objinit, i_tsw3, lget, lset, lput1, lput2, lkil, ltrim, largs, isL, takev, dropv, nthv, pushO, catv, gd, true_and, and_true, Option.some.injEq, Prod.mk.injEq, exists_eq_left', if_true, if_false, reduceCtorEq, Bool.false_eq_true, lcmp_ge, lcmp_lt, lcmp_le, lcmp_gt, lcmp_eq, true_or, or_true, not_true_eq_false, not_false_eq_true, false_implies, true_implies, List.length_cons, List.length_nil, w1, e1, o, s3, s4, w2, w3]
      refine ⟨fun q => by omega, fun _ => ?_⟩
      repeat (first | refine ⟨in_small (by omega) (by omega), ?_⟩ | (show (_ → _) ∧ (_ → _); first | refine ⟨by omega, fun _ => ?_⟩ | refine ⟨fun _ => ?_, by omega⟩) | refine ⟨by omega, ?_⟩ | refine ⟨⟨_, rfl, by assumption⟩, ?_⟩ | refine ⟨okT_I _, ?_⟩ | refine call0 (gd_of rfl) ?_)
      rw [e2]
      refine ⟨fun q => ?_, fun q => ?_⟩
      · have hr : remT φ l (e k) = 0 := Decidable.byContradiction fun c => q (if_neg c)
        refine five b ?_
        rcases hb with ⟨h1, h2⟩ | ⟨y, h1, h2, h3, h4⟩
        · exact Or.inl ⟨h1, fun j hj => by
            by_cases hjk : j = k
            · rw [hjk]; exact hr
            · exact h2 j (by omega)⟩
        · exact Or.inr ⟨y, h1, h2, h3, fun j hj hj0 hne => by
            by_cases hjk : j = k
            · rw [hjk] at hj0; exact absurd hr hj0
            · exact h4 j (by omega) hj0 hne⟩
      · have hr : remT φ l (e k) ≠ 0 := fun c => by rw [if_pos c] at q; exact absurd q (by decide)
        refine ⟨fun q2 => ?_, fun q2 => ?_⟩
        · rcases hb with ⟨h1, h2⟩ | ⟨y, h1, h2, h3, h4⟩
          · exact four hr fun j hj hj0 => absurd (h2 j hj) hj0
          · omega
        · rcases hb with ⟨h1, h2⟩ | ⟨y, h1, h2, h3, h4⟩
          · omega
          · subst h1
            have e3 : D1 (p + 1) k = tcode (e k) := by rw [f1 _ _ (Or.inl (by omega)) (by omega) (by omega)]; exact (hte k (by omega)).2.1
            have e4 : D1 (p + 1) y = tcode (e y) := by rw [f1 _ _ (Or.inl (by omega)) (by omega) (by omega)]; exact (hte y h2).2.1
            repeat (first | refine ⟨in_small (by omega) (by omega), ?_⟩ | (show (_ → _) ∧ (_ → _); first | refine ⟨by omega, fun _ => ?_⟩ | refine ⟨fun _ => ?_, by omega⟩) | refine ⟨by omega, ?_⟩ | refine ⟨⟨_, rfl, by assumption⟩, ?_⟩ | refine ⟨okT_I _, ?_⟩ | refine call0 (gd_of rfl) ?_)
            rw [e3, e4]
            refine compare_at ho (hte k (by omega)).1 (hte y h2).1 rfl rfl hx hz fun v v1 v2 => ?_
            simp only [P_X16_putPoly, i_kil, i_icon, i_lcon, i_null, i_loadI, i_loadL, i_loadR, i_istore, i_lstore, i_astore, i_iinc, i_dup, i_dup2, i_pop, i_iadd, i_isub, i_imul, i_idiv, i_irem, i_ineg, i_iand, i_ior, i_ishl, i_ishr, i_lxor, i_ladd, i_lsub, i_lmul, i_ldiv, i_lrem, i_lneg, i_lshl, i_lcmp, i_i2l, i_l2i, i_i2b, i_i2s, i_ifeq, i_ifne, i_iflt, i_ifge, i_ifgt, i_ifle, i_cmpeq, i_cmpne, i_cmplt, i_cmpge, i_cmpgt, i_cmple, i_acmpeq, i_acmpne, i_ifnull, i_ifnonnull, i_getI, i_getR, i_putI, i_putZ, i_putR, i_ald, i_ldL, i_ldR, i_ast, i_stL, i_stR, i_alen, i_new, i_newa, i_iret, i_zret, i_lret, i_aret, i_vret, i_raise, i_throw, i_recv, i_objinit, i_tsw3, lget, lset, lput1, lput2, lkil, ltrim, largs, isL, takev, dropv, nthv, pushO, catv, gd, true_and, and_true, Option.some.injEq, Prod.mk.injEq, exists_eq_left', if_true, if_false, reduceCtorEq, Bool.false_eq_true, lcmp_ge, lcmp_lt, lcmp_le, lcmp_gt, lcmp_eq, true_or, or_true, not_true_eq_false, not_false_eq_true, false_implies, true_implies, List.length_cons, List.length_nil]
            have hky : k ≠ y ∨ k = y := by omega
            refine ⟨fun q3 => ?_, fun q3 => ?_⟩
            · refine five y (Or.inr ⟨y, rfl, h2, h3, fun j hj hj0 hne => ?_⟩)
              by_cases hjk : j = k
              · subst hjk
                have a1 := rank_anti ho (e j) (e y)
                have a2 : rankI c g (e j) (e y) ≠ 0 := rank_ne ho (hte j (by omega)).1 (hte y h2).1 fun q => by
                  rcases Nat.lt_or_gt_of_ne hne with w | w
                  · have := hasc j y w h2; omega
                  · have := hasc y j w (by omega); omega
                omega
              · exact h4 j (by omega) hj0 hne
            · refine four hr fun j hj hj0 => ?_
              by_cases hjy : j = y
              · rw [hjy]; omega
              · exact rank_trans ho (by omega) (h4 j hj hj0 hjy)
  have inj : ∀ j y, j < n → y < n → e j = e y → j = y := fun j y hj hy q => by
    rcases Nat.lt_trichotomy j y with w | w | w
    · have := hasc j y w hy; omega
    · exact w
    · have := hasc y j w hj; omega
  have ex : ∀ l, ldsT c g φ l → l.length < n → ∃ k, k < n ∧ remT φ l (e k) ≠ 0 := fun l h1 h2 => by
    have h3 := h1.cnt
    have h4 : pcnt (remT φ l) 455 ≠ 0 := by omega
    refine Classical.byContradiction fun q => h4 ((pcnt_z0 455).mpr fun u hu => ?_)
    refine Classical.byContradiction fun q2 => ?_
    have hu1 : φ u ≠ 0 := fun q => q2 (remT_out q)
    obtain ⟨j, j1, j2⟩ : ∃ j, j < n ∧ e j = u := Classical.byContradiction fun c => hu1 (hall u hu fun j hj q => c ⟨j, hj, q⟩)
    exact q ⟨j, j1, by rw [j2]; exact q2⟩
  have main : ∀ (m : Nat) (l : List Nat) (D1 : Dat), l.length + m = n → tpO D D1 M → ldsT c g φ l → (∀ k : Nat, k < n → D1 (M + 4226) k = if remT φ l (e k) = 0 then 1 else 0) → txD 38 D1 M (M + 4225) (lsT φ l true) → (lsT φ l true = [] ↔ l = []) → (lsT φ l true).length ≤ 300 * l.length → Wp P_X16_putPoly E 2 [some (aR M), some (aR p), some (aI x), some (aI z), some (aI (l.length : Int))] [] B S D1 := by
    intro m
    induction m with
    | zero =>
      intro l D1 hl f1 g1 g2 t1 g3 g4
      have e1 : D1 p 0 = n := by rw [f1 _ _ (Or.inl (by omega)) (by omega) (by omega)]; exact hn
      refine wp_in ?_
      simp only [P_X16_putPoly, i_kil, i_icon, i_lcon, i_null, i_loadI, i_loadL, i_loadR, i_istore, i_lstore, i_astore, i_iinc, i_dup, i_dup2, i_pop, i_iadd, i_isub, i_imul, i_idiv, i_irem, i_ineg, i_iand, i_ior, i_ishl, i_ishr, i_lxor, i_ladd, i_lsub, i_lmul, i_ldiv, i_lrem, i_lneg, i_lshl, i_lcmp, i_i2l, i_l2i, i_i2b, i_i2s, i_ifeq, i_ifne, i_iflt, i_ifge, i_ifgt, i_ifle, i_cmpeq, i_cmpne, i_cmplt, i_cmpge, i_cmpgt, i_cmple, i_acmpeq, i_acmpne, i_ifnull, i_ifnonnull, i_getI, i_getR, i_putI, i_putZ, i_putR, i_ald, i_ldL, i_ldR, i_ast, i_stL, i_stR, i_alen, i_new, i_newa, i_iret, i_zret, i_lret, i_aret, i_vret, i_raise, i_throw, i_recv, i_objinit, i_tsw3, lget, lset, lput1, lput2, lkil, ltrim, largs, isL, takev, dropv, nthv, pushO, catv, gd, true_and, and_true, Option.some.injEq, Prod.mk.injEq, exists_eq_left', if_true, if_false, reduceCtorEq, Bool.false_eq_true, lcmp_ge, lcmp_lt, lcmp_le, lcmp_gt, lcmp_eq, true_or, or_true, not_true_eq_false, not_false_eq_true, false_implies, true_implies, List.length_cons, List.length_nil, w1, e1, o]
      refine ⟨fun _ => ⟨fun q => ?_, fun q => ?_⟩, fun q => by omega⟩
      rotate_left
      · repeat (first | refine ⟨in_small (by omega) (by omega), ?_⟩ | (show (_ → _) ∧ (_ → _); first | refine ⟨by omega, fun _ => ?_⟩ | refine ⟨fun _ => ?_, by omega⟩) | refine ⟨by omega, ?_⟩ | refine ⟨⟨_, rfl, by assumption⟩, ?_⟩ | refine ⟨okT_I _, ?_⟩ | refine call0 (gd_of rfl) ?_)
        have hl0 : l = [] := List.length_eq_zero_iff.mp (by omega)
        refine sp_X16_put hS t1 (by omega) (by decide) (by decide) fun D2 f2 t2 => ?_
        simp only [P_X16_putPoly, i_kil, i_icon, i_lcon, i_null, i_loadI, i_loadL, i_loadR, i_istore, i_lstore, i_astore, i_iinc, i_dup, i_dup2, i_pop, i_iadd, i_isub, i_imul, i_idiv, i_irem, i_ineg, i_iand, i_ior, i_ishl, i_ishr, i_lxor, i_ladd, i_lsub, i_lmul, i_ldiv, i_lrem, i_lneg, i_lshl, i_lcmp, i_i2l, i_l2i, i_i2b, i_i2s, i_ifeq, i_ifne, i_iflt, i_ifge, i_ifgt, i_ifle, i_cmpeq, i_cmpne, i_cmplt, i_cmpge, i_cmpgt, i_cmple, i_acmpeq, i_acmpne, i_ifnull, i_ifnonnull, i_getI, i_getR, i_putI, i_putZ, i_putR, i_ald, i_ldL, i_ldR, i_ast, i_stL, i_stR, i_alen, i_new, i_newa, i_iret, i_zret, i_lret, i_aret, i_vret, i_raise, i_throw, i_recv, i_objinit, i_tsw3, lget, lset, lput1, lput2, lkil, ltrim, largs, isL, takev, dropv, nthv, pushO, catv, gd, true_and, and_true, Option.some.injEq, Prod.mk.injEq, exists_eq_left', if_true, if_false, reduceCtorEq, Bool.false_eq_true, lcmp_ge, lcmp_lt, lcmp_le, lcmp_gt, lcmp_eq, true_or, or_true, not_true_eq_false, not_false_eq_true, false_implies, true_implies, List.length_cons, List.length_nil]
        refine fin D2 l (fun a i a1 a2 a3 => by rw [f2 a i a1 a2]; exact f1 a i a1 a2 a3) g1 (by omega) ?_ ?_
        · unfold pyT
          rw [if_pos hl0]
          rw [hl0] at t2
          exact t2
        · unfold pyT
          rw [if_pos hl0]; simp
      · have hl0 : l ≠ [] := fun w => by rw [w] at hl; simp at hl; omega
        refine fin D1 l f1 g1 (by omega) ?_ ?_
        · unfold pyT
          rw [if_neg hl0]; exact t1
        · unfold pyT
          rw [if_neg hl0]; omega
    | succ m ih =>
      intro l D1 hl f1 g1 g2 t1 g3 g4
      have e1 : D1 p 0 = n := by rw [f1 _ _ (Or.inl (by omega)) (by omega) (by omega)]; exact hn
      refine wp_in ?_
      simp only [P_X16_putPoly, i_kil, i_icon, i_lcon, i_null, i_loadI, i_loadL, i_loadR, i_istore, i_lstore, i_astore, i_iinc, i_dup, i_dup2, i_pop, i_iadd, i_isub, i_imul, i_idiv, i_irem, i_ineg, i_iand, i_ior, i_ishl, i_ishr, i_lxor, i_ladd, i_lsub, i_lmul, i_ldiv, i_lrem, i_lneg, i_lshl, i_lcmp, i_i2l, i_l2i, i_i2b, i_i2s, i_ifeq, i_ifne, i_iflt, i_ifge, i_ifgt, i_ifle, i_cmpeq, i_cmpne, i_cmplt, i_cmpge, i_cmpgt, i_cmple, i_acmpeq, i_acmpne, i_ifnull, i_ifnonnull, i_getI, i_getR, i_putI, i_putZ, i_putR, i_ald, i_ldL, i_ldR, i_ast, i_stL, i_stR, i_alen, i_new, i_newa, i_iret, i_zret, i_lret, i_aret, i_vret, i_raise, i_throw, i_recv, i_objinit, i_tsw3, lget, lset, lput1, lput2, lkil, ltrim, largs, isL, takev, dropv, nthv, pushO, catv, gd, true_and, and_true, Option.some.injEq, Prod.mk.injEq, exists_eq_left', if_true, if_false, reduceCtorEq, Bool.false_eq_true, lcmp_ge, lcmp_lt, lcmp_le, lcmp_gt, lcmp_eq, true_or, or_true, not_true_eq_false, not_false_eq_true, false_implies, true_implies, List.length_cons, List.length_nil, w1, e1, o]
      refine ⟨fun q => by omega, fun _ => ?_⟩
      refine inn l D1 n 0 (-1) f1 g2 (ex l g1 (by omega)) (by omega) (Or.inl ⟨rfl, fun j hj => by omega⟩) fun y hy hlead => ?_
      have hy0 := hte y hy
      have hw5 := (w5.2 y (by omega)).2
      have hw7 := (w7.2 y (by omega)).2
      have r5 := (w5.2 y (by omega)).1
      have r7 := (w7.2 y (by omega)).1
      have v5 := w5.1
      have v7 := w7.1
      refine wp_in ?_
      simp only [P_X16_putPoly, i_kil, i_icon, i_lcon, i_null, i_loadI, i_loadL, i_loadR, i_istore, i_lstore, i_astore, i_iinc, i_dup, i_dup2, i_pop, i_iadd, i_isub, i_imul, i_idiv, i_irem, i_ineg, i_iand, i_ior, i_ishl, i_ishr, i_lxor, i_ladd, i_lsub, i_lmul, i_ldiv, i_lrem, i_lneg, i_lshl, i_lcmp, i_i2l, i_l2i, i_i2b, i_i2s, i_ifeq, i_ifne, i_iflt, i_ifge, i_ifgt, i_ifle, i_cmpeq, i_cmpne, i_cmplt, i_cmpge, i_cmpgt, i_cmple, i_acmpeq, i_acmpne, i_ifnull, i_ifnonnull, i_getI, i_getR, i_putI, i_putZ, i_putR, i_ald, i_ldL, i_ldR, i_ast, i_stL, i_stR, i_alen, i_new, i_newa, i_iret, i_zret, i_lret, i_aret, i_vret, i_raise, i_throw, i_recv, i_objinit, i_tsw3, lget, lset, lput1, lput2, lkil, ltrim, largs, isL, takev, dropv, nthv, pushO, catv, gd, true_and, and_true, Option.some.injEq, Prod.mk.injEq, exists_eq_left', if_true, if_false, reduceCtorEq, Bool.false_eq_true, lcmp_ge, lcmp_lt, lcmp_le, lcmp_gt, lcmp_eq, true_or, or_true, not_true_eq_false, not_false_eq_true, false_implies, true_implies, List.length_cons, List.length_nil, w1, e1, o, s3, s4]
      refine ⟨fun _ => ?_, fun q => by omega⟩
      repeat (first | refine ⟨in_small (by omega) (by omega), ?_⟩ | (show (_ → _) ∧ (_ → _); first | refine ⟨by omega, fun _ => ?_⟩ | refine ⟨fun _ => ?_, by omega⟩) | refine ⟨by omega, ?_⟩ | refine ⟨⟨_, rfl, by assumption⟩, ?_⟩ | refine ⟨okT_I _, ?_⟩ | refine call0 (gd_of rfl) ?_)
      refine ⟨okT_Z (Or.inr rfl), ?_⟩
      simp only [P_X16_putPoly, i_kil, i_icon, i_lcon, i_null, i_loadI, i_loadL, i_loadR, i_istore, i_lstore, i_astore, i_iinc, i_dup, i_dup2, i_pop, i_iadd, i_isub, i_imul, i_idiv, i_irem, i_ineg, i_iand, i_ior, i_ishl, i_ishr, i_lxor, i_ladd, i_lsub, i_lmul, i_ldiv, i_lrem, i_lneg, i_lshl, i_lcmp, i_i2l, i_l2i, i_i2b, i_i2s, i_ifeq, i_ifne, i_iflt, i_ifge, i_ifgt, i_ifle, i_cmpeq, i_cmpne, i_cmplt, i_cmpge, i_cmpgt, i_cmple, i_acmpeq, i_acmpne, i_ifnull, i_ifnonnull, i_getI, i_getR, i_putI, i_putZ, i_putR, i_ald, i_ldL, i_ldR, i_ast, i_stL, i_stR, i_alen, i_new, i_newa, i_iret, i_zret, i_lret, i_aret, i_vret, i_raise, i_throw, i_recv, i_objinit, i_tsw3, lget, lset, lput1, lput2, lkil, ltrim, largs, isL, takev, dropv, nthv, pushO, catv, gd, true_and, and_true, Option.some.injEq, Prod.mk.injEq, exists_eq_left', if_true, if_false, reduceCtorEq, Bool.false_eq_true, lcmp_ge, lcmp_lt, lcmp_le, lcmp_gt, lcmp_eq, true_or, or_true, not_true_eq_false, not_false_eq_true, false_implies, true_implies, List.length_cons, List.length_nil, w1, w2, w3, w4, w6, v5, v7, r5, r7, o]
      repeat (first | refine ⟨in_small (by omega) (by omega), ?_⟩ | (show (_ → _) ∧ (_ → _); first | refine ⟨by omega, fun _ => ?_⟩ | refine ⟨fun _ => ?_, by omega⟩) | refine ⟨by omega, ?_⟩ | refine ⟨⟨_, rfl, by assumption⟩, ?_⟩ | refine ⟨okT_I _, ?_⟩ | refine call0 (gd_of rfl) ?_)
      have e2 : pmu D1 (M + 4226) y 1 (p + 1) y = tcode (e y) := by rw [pmx_ne (Or.inl (by omega)), f1 _ _ (Or.inl (by omega)) (by omega) (by omega)]; exact hy0.2.1
      have fm : ∀ a i, a ≠ M + 4226 → (a ≠ M ∨ i ≠ 38) → a ≠ M + 4225 → pmu D1 (M + 4226) y 1 a i = D a i := fun a i a1 a2 a3 => by rw [pmx_ne (Or.inl a1)]; exact f1 a i a2 a3 a1
      have tm : txD 38 (pmu D1 (M + 4226) y 1) M (M + 4225) (lsT φ l true) := ⟨by rw [pmx_ne (Or.inl (by omega))]; exact t1.1, fun i hi => by rw [pmx_ne (Or.inl (by omega))]; exact t1.2 i hi⟩
      obtain ⟨z1, z2⟩ := qf14 (hphi.1 (e y) hy0.1)
      rw [e2]
      refine sp_X16_putTerm (x := φ (e y)) hS hy0.1 hw5 hw7 ⟨hy0.2.2.1.1.congr (fun i => fm _ i (by omega) (Or.inl (by omega)) (by omega)) fun i => fm _ i (by omega) (Or.inl (by omega)) (by omega), hy0.2.2.1.2.congr (fun i => fm _ i (by omega) (Or.inl (by omega)) (by omega)) fun i => fm _ i (by omega) (Or.inl (by omega)) (by omega)⟩ z1 z2 (by omega) (by omega) (by omega) (by omega) tm (by omega) fun D3 f3 t3 => ?_
      simp only [P_X16_putPoly, i_kil, i_icon, i_lcon, i_null, i_loadI, i_loadL, i_loadR, i_istore, i_lstore, i_astore, i_iinc, i_dup, i_dup2, i_pop, i_iadd, i_isub, i_imul, i_idiv, i_irem, i_ineg, i_iand, i_ior, i_ishl, i_ishr, i_lxor, i_ladd, i_lsub, i_lmul, i_ldiv, i_lrem, i_lneg, i_lshl, i_lcmp, i_i2l, i_l2i, i_i2b, i_i2s, i_ifeq, i_ifne, i_iflt, i_ifge, i_ifgt, i_ifle, i_cmpeq, i_cmpne, i_cmplt, i_cmpge, i_cmpgt, i_cmple, i_acmpeq, i_acmpne, i_ifnull, i_ifnonnull, i_getI, i_getR, i_putI, i_putZ, i_putR, i_ald, i_ldL, i_ldR, i_ast, i_stL, i_stR, i_alen, i_new, i_newa, i_iret, i_zret, i_lret, i_aret, i_vret, i_raise, i_throw, i_recv, i_objinit, i_tsw3, lget, lset, lput1, lput2, lkil, ltrim, largs, isL, takev, dropv, nthv, pushO, catv, gd, true_and, and_true, Option.some.injEq, Prod.mk.injEq, exists_eq_left', if_true, if_false, reduceCtorEq, Bool.false_eq_true, lcmp_ge, lcmp_lt, lcmp_le, lcmp_gt, lcmp_eq, true_or, or_true, not_true_eq_false, not_false_eq_true, false_implies, true_implies, List.length_cons, List.length_nil]
      repeat (first | refine ⟨in_small (by omega) (by omega), ?_⟩ | (show (_ → _) ∧ (_ → _); first | refine ⟨by omega, fun _ => ?_⟩ | refine ⟨fun _ => ?_, by omega⟩) | refine ⟨by omega, ?_⟩ | refine ⟨⟨_, rfl, by assumption⟩, ?_⟩ | refine ⟨okT_I _, ?_⟩ | refine call0 (gd_of rfl) ?_)
      have hb : ((lsT φ l true).length == 0) = if l = [] then true else false := by
        by_cases hl0 : l = []
        · rw [if_pos hl0, g3.mpr hl0]; rfl
        · rw [if_neg hl0]
          have : (lsT φ l true).length ≠ 0 := fun w => hl0 (g3.mp (List.length_eq_zero_iff.mp w))
          simp [this]
      rw [hb, ← lsT_snoc] at t3
      have hlen : ((l.length : Nat) : Int) + 1 = ((l ++ [e y]).length : Nat) := by simp
      rw [hlen]
      refine ih (l ++ [e y]) D3 (by simp; omega) (fun a i a1 a2 a3 => by rw [f3 a i a1 a2]; exact fm a i a3 a1 a2) (g1.snoc hlead) (fun k hk => ?_) t3 ⟨fun w => ?_, fun w => absurd w (by simp)⟩ ?_
      · rw [f3 _ _ (Or.inl (by omega)) (by omega), remT_snoc]
        show _ = if (if e k = e y then (0 : Rat) else remT φ l (e k)) = 0 then (1 : Int) else 0
        by_cases hky : k = y
        · subst hky
          rw [pmx_eq, if_pos rfl, if_pos rfl]
        · rw [pmx_ne (Or.inr (by omega)), if_neg (fun q => hky (inj k y hk hy q))]
          exact g2 k hk
      · rw [lsT_snoc] at w
        exact absurd (app_ne w).2 (tT_ne (zT_ne hy0.2.2.1.1))
      · have k1 := frT_len (zT_len hy0.2.2.1.1 z1 (by decide)) (zT_len hy0.2.2.1.2 (by rw [Int.natAbs_natCast]; exact z2) (by decide))
        have k2 := tT_len (b := if l = [] then true else false) (t := e y) k1
        rw [lsT_snoc, List.length_append, List.length_append, List.length_singleton]
        omega
  have init : ∀ (m k : Nat) (D1 : Dat), k + m = n → (∀ c i, c ≠ M + 4226 → D1 c i = D c i) → (∀ j : Nat, j < k → D1 (M + 4226) j = 0) → Wp P_X16_putPoly E 1 [some (aR M), some (aR p), some (aI x), some (aI z), some (aI (k : Int))] [] B S D1 := by
    intro m
    induction m with
    | zero =>
      intro k D1 hk f1 g1
      have e1 : D1 p 0 = n := by rw [f1 _ _ (by omega)]; exact hn
      refine wp_in ?_
      simp only [P_X16_putPoly, i_kil, i_icon, i_lcon, i_null, i_loadI, i_loadL, i_loadR, i_istore, i_lstore, i_astore, i_iinc, i_dup, i_dup2, i_pop, i_iadd, i_isub, i_imul, i_idiv, i_irem, i_ineg, i_iand, i_ior, i_ishl, i_ishr, i_lxor, i_ladd, i_lsub, i_lmul, i_ldiv, i_lrem, i_lneg, i_lshl, i_lcmp, i_i2l, i_l2i, i_i2b, i_i2s, i_ifeq, i_ifne, i_iflt, i_ifge, i_ifgt, i_ifle, i_cmpeq, i_cmpne, i_cmplt, i_cmpge, i_cmpgt, i_cmple, i_acmpeq, i_acmpne, i_ifnull, i_ifnonnull, i_getI, i_getR, i_putI, i_putZ, i_putR, i_ald, i_ldL, i_ldR, i_ast, i_stL, i_stR, i_alen, i_new, i_newa, i_iret, i_zret, i_lret, i_aret, i_vret, i_raise, i_throw, i_recv, i_objinit, i_tsw3, lget, lset, lput1, lput2, lkil, ltrim, largs, isL, takev, dropv, nthv, pushO, catv, gd, true_and, and_true, Option.some.injEq, Prod.mk.injEq, exists_eq_left', if_true, if_false, reduceCtorEq, Bool.false_eq_true, lcmp_ge, lcmp_lt, lcmp_le, lcmp_gt, lcmp_eq, true_or, or_true, not_true_eq_false, not_false_eq_true, false_implies, true_implies, List.length_cons, List.length_nil, w1, e1, o]
      refine ⟨fun _ => ?_, fun q => by omega⟩
      refine main n [] D1 (by simp) (fun a i _ _ a3 => f1 a i a3) trivial (fun j hj => ?_) ⟨by rw [f1 _ _ (by omega)]; exact h.1, fun i hi => by rw [f1 _ _ (by omega)]; exact h.2 i hi⟩ ⟨fun _ => rfl, fun _ => rfl⟩ (by simp [lsT])
      rw [g1 j (by omega), if_neg]
      exact (hte j hj).2.2.2
    | succ m ih =>
      intro k D1 hk f1 g1
      have e1 : D1 p 0 = n := by rw [f1 _ _ (by omega)]; exact hn
      refine wp_in ?_
      simp only [P_X16_putPoly, i_kil, i_icon, i_lcon, i_null, i_loadI, i_loadL, i_loadR, i_istore, i_lstore, i_astore, i_iinc, i_dup, i_dup2, i_pop, i_iadd, i_isub, i_imul, i_idiv, i_irem, i_ineg, i_iand, i_ior, i_ishl, i_ishr, i_lxor, i_ladd, i_lsub, i_lmul, i_ldiv, i_lrem, i_lneg, i_lshl, i_lcmp, i_i2l, i_l2i, i_i2b, i_i2s, i_ifeq, i_ifne, i_iflt, i_ifge, i_ifgt, i_ifle, i_cmpeq, i_cmpne, i_cmplt, i_cmpge, i_cmpgt, i_cmple, i_acmpeq, i_acmpne, i_ifnull, i_ifnonnull, i_getI, i_getR, i_putI, i_putZ, i_putR, i_ald, i_ldL, i_ldR, i_ast, i_stL, i_stR, i_alen, i_new, i_newa, i_iret, i_zret, i_lret, i_aret, i_vret, i_raise, i_throw, i_recv, i_objinit, i_tsw3, lget, lset, lput1, lput2, lkil, ltrim, largs, isL, takev, dropv, nthv, pushO, catv, gd, true_and, and_true, Option.some.injEq, Prod.mk.injEq, exists_eq_left', if_true, if_false, reduceCtorEq, Bool.false_eq_true, lcmp_ge, lcmp_lt, lcmp_le, lcmp_gt, lcmp_eq, true_or, or_true, not_true_eq_false, not_false_eq_true, false_implies, true_implies, List.length_cons, List.length_nil, w1, e1, o, s3, s4]
      refine ⟨fun q => by omega, fun _ => ?_⟩
      repeat (first | refine ⟨in_small (by omega) (by omega), ?_⟩ | (show (_ → _) ∧ (_ → _); first | refine ⟨by omega, fun _ => ?_⟩ | refine ⟨fun _ => ?_, by omega⟩) | refine ⟨by omega, ?_⟩ | refine ⟨⟨_, rfl, by assumption⟩, ?_⟩ | refine ⟨okT_I _, ?_⟩ | refine call0 (gd_of rfl) ?_)
      refine ⟨okT_Z (Or.inl rfl), ?_⟩
      repeat (first | refine ⟨in_small (by omega) (by omega), ?_⟩ | (show (_ → _) ∧ (_ → _); first | refine ⟨by omega, fun _ => ?_⟩ | refine ⟨fun _ => ?_, by omega⟩) | refine ⟨by omega, ?_⟩ | refine ⟨⟨_, rfl, by assumption⟩, ?_⟩ | refine ⟨okT_I _, ?_⟩ | refine call0 (gd_of rfl) ?_)
      refine ih (k + 1) _ (by omega) (fun a i a1 => by rw [pmx_ne (Or.inl a1)]; exact f1 a i a1) fun j hj => ?_
      by_cases hjk : j = k
      · subst hjk; exact pmx_eq
      · rw [pmx_ne (Or.inr (by omega))]; exact g1 j (by omega)
  refine wp_in ?_
  simp only [P_X16_putPoly, i_kil, i_icon, i_lcon, i_null, i_loadI, i_loadL, i_loadR, i_istore, i_lstore, i_astore, i_iinc, i_dup, i_dup2, i_pop, i_iadd, i_isub, i_imul, i_idiv, i_irem, i_ineg, i_iand, i_ior, i_ishl, i_ishr, i_lxor, i_ladd, i_lsub, i_lmul, i_ldiv, i_lrem, i_lneg, i_lshl, i_lcmp, i_i2l, i_l2i, i_i2b, i_i2s, i_ifeq, i_ifne, i_iflt, i_ifge, i_ifgt, i_ifle, i_cmpeq, i_cmpne, i_cmplt, i_cmpge, i_cmpgt, i_cmple, i_acmpeq, i_acmpne, i_ifnull, i_ifnonnull, i_getI, i_getR, i_putI, i_putZ, i_putR, i_ald, i_ldL, i_ldR, i_ast, i_stL, i_stR, i_alen, i_new, i_newa, i_iret, i_zret, i_lret, i_aret, i_vret, i_raise, i_throw, i_recv, i_objinit, i_tsw3, lget, lset, lput1, lput2, lkil, ltrim, largs, isL, takev, dropv, nthv, pushO, catv, gd, true_and, and_true, Option.some.injEq, Prod.mk.injEq, exists_eq_left', if_true, if_false, reduceCtorEq, Bool.false_eq_true, lcmp_ge, lcmp_lt, lcmp_le, lcmp_gt, lcmp_eq, true_or, or_true, not_true_eq_false, not_false_eq_true, false_implies, true_implies, List.length_cons, List.length_nil]
  exact init n 0 D (by omega) (fun _ _ _ => rfl) (fun j hj => by omega)
end MPW
