/-! the model's elements are told -/
set_option maxRecDepth 100000
set_option linter.unusedVariables false
/-- every row begins with its lead -/
def spL (c g : Nat) (st : spst) : Prop := ∀ r t, r < st.1 → t < 455 → st.2.1 r t ≠ 0 → t = st.2.2.1 r ∨ 0 < rankI c g (st.2.2.1 r) t
theorem spL.take {c g : Nat} (ho : ordOK c g) {st : spst} {v : Nat → Int} (hO : spOK st) (h : spL c g st) (u : Nat × Nat) : spL c g (spTake c g st v u) := by
  unfold spTake
  split
  · exact h
  · rename_i hn
    rcases leadI_law ho (φ := spX st v) 455 (Nat.le_refl _) with ⟨h1, _⟩ | ⟨q, h1, h2, h3, h4⟩
    · exact absurd h1 hn
    · rw [h1, Int.toNat_natCast]
      intro r t hr ht hne
      have hr' : r < st.1 + 1 := hr
      have hne' : gjR st.1 st.2.1 (spX st v) q r t ≠ 0 := hne
      show t = pup st.2.2.1 st.1 q r ∨ 0 < rankI c g (pup st.2.2.1 st.1 q r) t
      unfold gjR at hne'
      unfold pup
      have hx : spX st v t ≠ 0 → t = q ∨ 0 < rankI c g q t := fun w => by
        by_cases y : t = q
        · exact .inl y
        · exact .inr (h4 t ht w y)
      by_cases w : r = st.1
      · rw [if_pos w]
        rw [if_neg (by omega)] at hne'
        refine hx fun z => hne' ?_
        show spX st v t / spX st v q = 0
        rw [z]; grind
      · rw [if_neg w]
        rw [if_pos (show r < st.1 by omega)] at hne'
        have hrr : r < st.1 := by omega
        by_cases z : st.2.1 r t = 0
        · have hq0 : st.2.1 r q ≠ 0 := fun y => hne' (by show st.2.1 r t - st.2.1 r q * (spX st v t / spX st v q) = 0; rw [z, y]; grind)
          have hx0 : spX st v t ≠ 0 := fun y => hne' (by show st.2.1 r t - st.2.1 r q * (spX st v t / spX st v q) = 0; rw [z, y]; grind)
          have hqp : q ≠ st.2.2.1 r := fun y => h3 (by rw [y]; exact spX_piv hO hrr)
          have a1 := (h r q hrr h2 hq0).resolve_left hqp
          rcases hx hx0 with y | y
          · rw [y]; exact .inr a1
          · exact .inr (rank_trans ho a1 y)
        · exact h r t hrr ht z
/-- a row as a polynomial -/
def rowF (st : spst) (r : Nat) : Nat → Rat := fun t => if t < 455 then st.2.1 r t else 0
theorem pcnt_c4 {φ : Nat → Rat} (h : ∀ t, t < 455 → 4 < tdg t → φ t = 0) : ∀ n, n ≤ 455 → pcnt φ n ≤ c4 n := by
  intro n
  induction n with
  | zero => intro _; exact Nat.le_refl _
  | succ n ih =>
    intro hn
    have := ih (by omega)
    simp only [pcnt, c4]
    by_cases w : tdg n ≤ 4
    · rw [if_pos w]; split <;> omega
    · rw [if_neg w, if_pos (h n (by omega) (by omega))]; omega
def psum (R : xV) (tc : Nat → Nat) (c : Nat) : Nat → Nat → Rat
  | 0 => fun _ => 0
  | m + 1 => pupd (psum R tc c m) (tc (c + m)) (R (tc (c + m)))
theorem psum_none {R : xV} {tc : Nat → Nat} {c t : Nat} : ∀ m, (∀ a, a < m → tc (c + a) ≠ t) → psum R tc c m t = 0 := by
  intro m
  induction m with
  | zero => intro _; rfl
  | succ m ih =>
    intro h
    simp only [psum, pupd]
    rw [if_neg (fun w => h m (by omega) w.symm)]
    exact ih fun a ha => h a (by omega)
theorem psum_some {R : xV} {tc : Nat → Nat} {c a : Nat} : ∀ m, a < m → psum R tc c m (tc (c + a)) = R (tc (c + a)) := by
  intro m
  induction m with
  | zero => intro h; omega
  | succ m ih =>
    intro h
    simp only [psum, pupd]
    split
    · rename_i w; rw [w]
    · rename_i w
      exact ih (by
        rcases Nat.lt_or_ge a m with x | x
        · exact x
        · have : a = m := by omega
          rw [this] at w; exact absurd rfl w)
theorem psum_row {c g d n p r : Nat} {tc : Nat → Nat} {st : spst} (ho : ordOK c g) (hT : isColM c g d n tc) (hL : spL c g st) (hd : spD d st) (hr : r < st.1) (hp : p < n) (htp : tc p = st.2.2.1 r) : psum (st.2.1 r) tc p (n - p) = rowF st r := by
  funext t
  unfold rowF
  by_cases ht : t < 455
  · rw [if_pos ht]
    by_cases w : ∃ a, a < n - p ∧ tc (p + a) = t
    · obtain ⟨a, ha, rfl⟩ := w
      exact psum_some _ ha
    · rw [psum_none _ fun a ha x => w ⟨a, ha, x⟩]
      refine Classical.byContradiction fun z => ?_
      have z' : st.2.1 r t ≠ 0 := fun q => z q.symm
      have hdt : tdg t ≤ d := by
        rcases Nat.lt_or_ge d (tdg t) with x | x
        · exact absurd (hd r t hr ht x) z'
        · exact x
      obtain ⟨q, hq, rfl⟩ := hT.2.2.1 t ht hdt
      have hqp : q < p := by
        rcases Nat.lt_or_ge q p with x | x
        · exact x
        · exact absurd ⟨q - p, by omega, by rw [show p + (q - p) = q by omega]⟩ w
      have h1 := hT.2.1 q p hqp hp
      rcases hL r _ hr ht z' with x | x
      · rw [htp, x, rank_self ho] at h1; omega
      · rw [htp] at h1
        have := rank_anti ho (tc q) (st.2.2.1 r)
        omega
  · rw [if_neg ht]
    exact psum_none _ fun a ha x => ht (by rw [← x]; exact (hT.1 _ (by omega)).1)
def mtS (S : Stat) (M : Nat) : Prop := muS S M ∧ mgS S M ∧ (S.2.1 M 29 = some (M + 568) ∧ smS S (M + 568)) ∧ (S.2.1 M 58 = some (M + 10779) ∧ S.1 (M + 10779) = some (116, 35) ∧ ∀ k : Nat, k < 35 → S.2.1 (M + 10779) k = some (M + 19027 + 244 * k) ∧ mpS S (M + 19027 + 244 * k)) ∧ (S.2.1 M 59 = some (M + 10780) ∧ S.1 (M + 10780) = some (100, 35))
def teW (M : Nat) (D D' : Dat) : Prop := ∀ c i, (c ≤ M ∨ M + 20 < c) → (c < M + 568 ∨ M + 2392 < c) → c ≠ M + 10780 → (c < M + 19027 ∨ M + 27566 < c) → D' c i = D c i
set_option maxHeartbeats 4000000 in
theorem sp_X16_tellElements {E : Ex} {B : Nat × Nat} {S : Stat} {D : Dat} {M c g d n : Nat} {tc : Nat → Nat} {st : spst} {V : Nat → Nat → Int} {pm : Nat → Nat} (hM : mtS S M) (ho : ordOK c g) (hd : d ≤ 4) (hT : mcD D M c g d n tc) (hO : spOK st) (hL : spL c g st) (hst : msI D M n d tc st V pm) (hsm : ∃ φ, smP D (M + 568) φ)
    (K : ∀ (D' : Dat) (σ : Nat → Nat), teW M D D' → spSo c g st σ → (∀ k : Nat, k < st.1 → D' (M + 10780) k = σ k ∧ mpP D' (M + 19027 + 244 * k) (spEl st σ k)) → (∃ φ, smP D' (M + 568) φ) → E (.inl none) B S D') : Wp P_X16_tellElements E 0 [some (aR M)] [] B S D := by
  obtain ⟨hm, hg, ⟨sm1, sm2⟩, ⟨l1, l2, l3⟩, ⟨o1, o2⟩⟩ := hM
  obtain ⟨hms, hw, hcs, ⟨r1, r2, r3⟩, ⟨p1, p2⟩, -⟩ := hm
  obtain ⟨M1, c1, c2, c3, c4'⟩ := id hcs
  obtain ⟨hC, hCn, hCc⟩ := hT
  obtain ⟨s1, s2, s3, s4⟩ := hst
  have hn := hC.2.2.2
  have hk35 := hO.1
  have inj : ∀ x y, x < st.1 → y < st.1 → pm x = pm y → x = y := fun x y hx hy e => by
    have a1 := (hO.piv hx).2.2 x hx
    have a2 := (hO.piv hy).2.2 x hx
    rw [← (s4 x hx).2.2.1.2, e, (s4 y hy).2.2.1.2, a2] at a1
    refine Classical.byContradiction fun w => ?_
    rw [if_neg w, if_pos rfl] at a1
    exact absurd a1 (by decide)
  have size : ∀ r, r < st.1 → ∀ j, j < 70 → ((V r j).natAbs : Int) < 1000000000 ^ 11 := fun r hr => by
    refine (s4 r hr).2.1.le (spd_ne hO) (pw_pos 11) fun j hj => ?_
    by_cases q : n ≤ j ∧ j < 35
    · exact .inl q
    · refine .inr (hO.cell hr ?_)
      unfold sqx
      split
      · have := (hC.1 j (by omega)).1; omega
      · omega
  -- what stands after some rows
  let Inv : Nat → Nat → Nat → (Nat → Nat) → Dat → Prop := fun k a r σ D1 => teW M D D1 ∧ (∃ φ, smP D1 (M + 568) φ) ∧ (∀ x, x < k → σ x < st.1 ∧ (pm (σ x) < a ∨ pm (σ x) = a ∧ σ x < r)) ∧ (∀ x y, x < y → y < k → pm (σ x) < pm (σ y)) ∧ (∀ x, x < st.1 → (pm x < a ∨ pm x = a ∧ x < r) → ∃ y, y < k ∧ σ y = x) ∧ ∀ x : Nat, x < k → D1 (M + 10780) x = σ x ∧ mpP D1 (M + 19027 + 244 * x) (rowF st (σ x))
  have e49 : ∀ D1, teW M D D1 → D1 M 49 = n := fun D1 h => by rw [h _ _ (by omega) (by omega) (by omega) (by omega)]; exact hCn
  have e57 : ∀ D1, teW M D D1 → D1 M 57 = st.1 := fun D1 h => by rw [h _ _ (by omega) (by omega) (by omega) (by omega)]; exact s2
  have cols : ∀ (L a k : Nat) (σ : Nat → Nat) (D1 : Dat), a + L = n → Inv k a 0 σ D1 → Wp P_X16_tellElements E 1 [some (aR M), some (aI k), some (aI a)] [] B S D1 := by
    intro L
    induction L with
    | zero =>
      rintro a k σ D1 ha ⟨f1, f2, f3, f4, f5, f6⟩
      have e1 := e49 D1 f1
      refine wp_in ?_
      simp only [P_X16_tellElements, i_kil, i_icon, i_lcon, i_null, i_loadI, i_loadL, i_loadR, i_istore, i_lstore, i_astore, i_iinc, i_dup, i_dup2, i_pop, i_iadd, i_isub, i_imul, i_idiv, i_irem, i_ineg, i_iand, i_ior, i_ishl, i_ishr, i_lxor, i_ladd, i_lsub, i_lmul, i_ldiv, i_lrem, i_lneg, i_lshl, i_lcmp, i_i2l, i_l2i, i_i2b, i_i2s, i_ifeq, i_ifne, i_iflt, i_ifge, i_ifgt, i_ifle, i_cmpeq, i_cmpne, i_cmplt, i_cmpge, i_cmpgt, i_cmple, i_acmpeq, i_acmpne, i_ifnull, i_ifnonnull, i_getI, i_getR, i_putI, i_putZ, i_putR, i_ald, i_ldL, i_ldR, i_ast, i_stL, i_stR, i_alen, i_new, i_newa, i_iret, i_zret, i_lret, i_aret, i_vret, i_raise, i_throw, i_recv, i_objinit, i_tsw3, lget, lset, lput1, lput2, lkil, ltrim, largs, isL, takev, dropv, nthv, pushO, catv, gd, true_and, and_true, Option.some.injEq, Prod.mk.injEq, exists_eq_left', if_true, if_false, reduceCtorEq, Bool.false_eq_true, lcmp_ge, lcmp_lt, lcmp_le, lcmp_gt, lcmp_eq, true_or, or_true, not_true_eq_false, not_false_eq_true, false_implies, true_implies, List.length_cons, List.length_nil, M1, e1]
      repeat (first | refine ⟨in_small (by omega) (by omega), ?_⟩ | (show (_ → _) ∧ (_ → _); first | refine ⟨by omega, fun _ => ?_⟩ | refine ⟨fun _ => ?_, by omega⟩) | refine ⟨by omega, ?_⟩ | refine ⟨⟨_, rfl, by assumption⟩, ?_⟩ | refine ⟨okT_I _, ?_⟩ | refine ⟨okT_S (by omega) (by omega), ?_⟩ | refine ⟨okT_B (by omega) (by omega), ?_⟩ | refine call0 (gd_of rfl) ?_)
      have hkk : st.1 ≤ k := by
        have w : ∀ x, ∃ y, x < st.1 → y < k ∧ σ y = x := fun x => by
          by_cases h : x < st.1
          · obtain ⟨y, y1, y2⟩ := f5 x h (.inl (by have := (s4 x h).2.2.1.1; omega))
            exact ⟨y, fun _ => ⟨y1, y2⟩⟩
          · exact ⟨0, fun q => absurd q h⟩
        obtain ⟨f, hf⟩ := Classical.skolem.mp w
        rcases Nat.lt_or_ge k st.1 with x | x
        · exfalso
          obtain ⟨i, j, hij, hj, he⟩ := pigeon k st.1 f x fun i hi => (hf i hi).1
          have a1 := (hf i (by omega)).2
          have a2 := (hf j hj).2
          rw [he] at a1
          omega
        · exact x
      refine K D1 σ f1 ⟨fun x hx => (f3 x (by omega)).1, fun x y hxy hy => ?_⟩ (fun x hx => f6 x (by omega)) f2
      have h1 := f4 x y hxy (by omega)
      have b1 := (s4 _ (f3 x (by omega)).1).2.2.1
      have b2 := (s4 _ (f3 y (by omega)).1).2.2.1
      rw [← b1.2, ← b2.2]
      exact hC.2.1 _ _ h1 b2.1
    | succ L ih =>
      intro a k σ D1 ha hI
      -- the rows
      have rows : ∀ (L2 r k : Nat) (σ : Nat → Nat) (D1 : Dat), r + L2 = st.1 → Inv k a r σ D1 → Wp P_X16_tellElements E 2 [some (aR M), some (aI k), some (aI a), some (aI r)] [] B S D1 := by
        intro L2
        induction L2 with
        | zero =>
          rintro r k σ D1 hr ⟨f1, f2, f3, f4, f5, f6⟩
          have e2 := e57 D1 f1
          refine wp_in ?_
          simp only [P_X16_tellElements, i_kil, i_icon, i_lcon, i_null, i_loadI, i_loadL, i_loadR, i_istore, i_lstore, i_astore, i_iinc, i_dup, i_dup2, i_pop, i_iadd, i_isub, i_imul, i_idiv, i_irem, i_ineg, i_iand, i_ior, i_ishl, i_ishr, i_lxor, i_ladd, i_lsub, i_lmul, i_ldiv, i_lrem, i_lneg, i_lshl, i_lcmp, i_i2l, i_l2i, i_i2b, i_i2s, i_ifeq, i_ifne, i_iflt, i_ifge, i_ifgt, i_ifle, i_cmpeq, i_cmpne, i_cmplt, i_cmpge, i_cmpgt, i_cmple, i_acmpeq, i_acmpne, i_ifnull, i_ifnonnull, i_getI, i_getR, i_putI, i_putZ, i_putR, i_ald, i_ldL, i_ldR, i_ast, i_stL, i_stR, i_alen, i_new, i_newa, i_iret, i_zret, i_lret, i_aret, i_vret, i_raise, i_throw, i_recv, i_objinit, i_tsw3, lget, lset, lput1, lput2, lkil, ltrim, largs, isL, takev, dropv, nthv, pushO, catv, gd, true_and, and_true, Option.some.injEq, Prod.mk.injEq, exists_eq_left', if_true, if_false, reduceCtorEq, Bool.false_eq_true, lcmp_ge, lcmp_lt, lcmp_le, lcmp_gt, lcmp_eq, true_or, or_true, not_true_eq_false, not_false_eq_true, false_implies, true_implies, List.length_cons, List.length_nil, M1, e2]
          repeat (first | refine ⟨in_small (by omega) (by omega), ?_⟩ | (show (_ → _) ∧ (_ → _); first | refine ⟨by omega, fun _ => ?_⟩ | refine ⟨fun _ => ?_, by omega⟩) | refine ⟨by omega, ?_⟩ | refine ⟨⟨_, rfl, by assumption⟩, ?_⟩ | refine ⟨okT_I _, ?_⟩ | refine ⟨okT_S (by omega) (by omega), ?_⟩ | refine ⟨okT_B (by omega) (by omega), ?_⟩ | refine call0 (gd_of rfl) ?_)
          refine ih (a + 1) k σ D1 (by omega) ⟨f1, f2, fun x hx => ?_, f4, fun x hx h => f5 x hx (by omega), f6⟩
          have := f3 x hx
          exact ⟨this.1, by omega⟩
        | succ L2 ih2 =>
          rintro r k σ D1 hr ⟨f1, f2, f3, f4, f5, f6⟩
          have e2 := e57 D1 f1
          have hrk : r < st.1 := by omega
          obtain ⟨x1, x2, ⟨x3, x4⟩, x5, -, -⟩ := s4 r hrk
          have ep : D1 (M + 10778) r = pm r := by rw [f1 _ _ (by omega) (by omega) (by omega) (by omega)]; exact x5
          refine wp_in ?_
          simp only [P_X16_tellElements, i_kil, i_icon, i_lcon, i_null, i_loadI, i_loadL, i_loadR, i_istore, i_lstore, i_astore, i_iinc, i_dup, i_dup2, i_pop, i_iadd, i_isub, i_imul, i_idiv, i_irem, i_ineg, i_iand, i_ior, i_ishl, i_ishr, i_lxor, i_ladd, i_lsub, i_lmul, i_ldiv, i_lrem, i_lneg, i_lshl, i_lcmp, i_i2l, i_l2i, i_i2b, i_i2s, i_ifeq, i_ifne, i_iflt, i_ifge, i_ifgt, i_ifle, i_cmpeq, i_cmpne, i_cmplt, i_cmpge, i_cmpgt, i_cmple, i_acmpeq, i_acmpne, i_ifnull, i_ifnonnull, i_getI, i_getR, i_putI, i_putZ, i_putR, i_ald, i_ldL, i_ldR, i_ast, i_stL, i_stR, i_alen, i_new, i_newa, i_iret, i_zret, i_lret, i_aret, i_vret, i_raise, i_throw, i_recv, i_objinit, i_tsw3, lget, lset, lput1, lput2, lkil, ltrim, largs, isL, takev, dropv, nthv, pushO, catv, gd, true_and, and_true, Option.some.injEq, Prod.mk.injEq, exists_eq_left', if_true, if_false, reduceCtorEq, Bool.false_eq_true, lcmp_ge, lcmp_lt, lcmp_le, lcmp_gt, lcmp_eq, true_or, or_true, not_true_eq_false, not_false_eq_true, false_implies, true_implies, List.length_cons, List.length_nil, M1, e2, p1, p2, ep]
          repeat (first | refine ⟨in_small (by omega) (by omega), ?_⟩ | (show (_ → _) ∧ (_ → _); first | refine ⟨by omega, fun _ => ?_⟩ | refine ⟨fun _ => ?_, by omega⟩) | refine ⟨by omega, ?_⟩ | refine ⟨⟨_, rfl, by assumption⟩, ?_⟩ | refine ⟨okT_I _, ?_⟩ | refine ⟨okT_S (by omega) (by omega), ?_⟩ | refine ⟨okT_B (by omega) (by omega), ?_⟩ | refine call0 (gd_of rfl) ?_)
          have five : ∀ (k' : Nat) (σ' : Nat → Nat) (D2 : Dat), Inv k' a (r + 1) σ' D2 → Wp P_X16_tellElements E 5 [some (aR M), some (aI k'), some (aI a), some (aI r)] [] B S D2 := fun k' σ' D2 h => by
            refine wp_in ?_
            simp only [P_X16_tellElements, i_kil, i_icon, i_lcon, i_null, i_loadI, i_loadL, i_loadR, i_istore, i_lstore, i_astore, i_iinc, i_dup, i_dup2, i_pop, i_iadd, i_isub, i_imul, i_idiv, i_irem, i_ineg, i_iand, i_ior, i_ishl, i_ishr, i_lxor, i_ladd, i_lsub, i_lmul, i_ldiv, i_lrem, i_lneg, i_lshl, i_lcmp, i_i2l, i_l2i, i_i2b, i_i2s, i_ifeq, i_ifne, i_iflt, i_ifge, i_ifgt, i_ifle, i_cmpeq, i_cmpne, i_cmplt, i_cmpge, i_cmpgt, i_cmple, i_acmpeq, i_acmpne, i_ifnull, i_ifnonnull, i_getI, i_getR, i_putI, i_putZ, i_putR, i_ald, i_ldL, i_ldR, i_ast, i_stL, i_stR, i_alen, i_new, i_newa, i_iret, i_zret, i_lret, i_aret, i_vret, i_raise, i_throw, i_recv, i_objinit, i_tsw3, lget, lset, lput1, lput2, lkil, ltrim, largs, isL, takev, dropv, nthv, pushO, catv, gd, true_and, and_true, Option.some.injEq, Prod.mk.injEq, exists_eq_left', if_true, if_false, reduceCtorEq, Bool.false_eq_true, lcmp_ge, lcmp_lt, lcmp_le, lcmp_gt, lcmp_eq, true_or, or_true, not_true_eq_false, not_false_eq_true, false_implies, true_implies, List.length_cons, List.length_nil]
            repeat (first | refine ⟨in_small (by omega) (by omega), ?_⟩ | (show (_ → _) ∧ (_ → _); first | refine ⟨by omega, fun _ => ?_⟩ | refine ⟨fun _ => ?_, by omega⟩) | refine ⟨by omega, ?_⟩ | refine ⟨⟨_, rfl, by assumption⟩, ?_⟩ | refine ⟨okT_I _, ?_⟩ | refine ⟨okT_S (by omega) (by omega), ?_⟩ | refine ⟨okT_B (by omega) (by omega), ?_⟩ | refine call0 (gd_of rfl) ?_)
            exact ih2 (r + 1) k' σ' D2 (by omega) h
          refine ⟨fun heq => ?_, fun hne => ?_⟩
          · have hpa : pm r = a := by omega
            have hk : k < st.1 := by
              rcases Nat.lt_or_ge k st.1 with x | x
              · exact x
              · exfalso
                obtain ⟨i, j, hij, hj, he⟩ := pigeon st.1 (k + 1) (fun y => if y < k then σ y else r) (by omega) fun y hy => by
                  show (if y < k then _ else _) < st.1
                  split
                  · rename_i q; exact (f3 y q).1
                  · exact hrk
                have he' : (if i < k then σ i else r) = (if j < k then σ j else r) := he
                rw [if_pos (by omega)] at he'
                by_cases q : j < k
                · rw [if_pos q] at he'
                  have := f4 i j hij q
                  rw [he'] at this; omega
                · rw [if_neg q] at he'
                  have := (f3 i (by omega)).2
                  rw [he', hpa] at this; omega
            have sg1 := sm2.1
            obtain ⟨φ0, f2'⟩ := f2
            simp only [P_X16_tellElements, i_kil, i_icon, i_lcon, i_null, i_loadI, i_loadL, i_loadR, i_istore, i_lstore, i_astore, i_iinc, i_dup, i_dup2, i_pop, i_iadd, i_isub, i_imul, i_idiv, i_irem, i_ineg, i_iand, i_ior, i_ishl, i_ishr, i_lxor, i_ladd, i_lsub, i_lmul, i_ldiv, i_lrem, i_lneg, i_lshl, i_lcmp, i_i2l, i_l2i, i_i2b, i_i2s, i_ifeq, i_ifne, i_iflt, i_ifge, i_ifgt, i_ifle, i_cmpeq, i_cmpne, i_cmplt, i_cmpge, i_cmpgt, i_cmple, i_acmpeq, i_acmpne, i_ifnull, i_ifnonnull, i_getI, i_getR, i_putI, i_putZ, i_putR, i_ald, i_ldL, i_ldR, i_ast, i_stL, i_stR, i_alen, i_new, i_newa, i_iret, i_zret, i_lret, i_aret, i_vret, i_raise, i_throw, i_recv, i_objinit, i_tsw3, lget, lset, lput1, lput2, lkil, ltrim, largs, isL, takev, dropv, nthv, pushO, catv, gd, true_and, and_true, Option.some.injEq, Prod.mk.injEq, exists_eq_left', if_true, if_false, reduceCtorEq, Bool.false_eq_true, lcmp_ge, lcmp_lt, lcmp_le, lcmp_gt, lcmp_eq, true_or, or_true, not_true_eq_false, not_false_eq_true, false_implies, true_implies, List.length_cons, List.length_nil, M1, sm1]
            repeat (first | refine ⟨in_small (by omega) (by omega), ?_⟩ | (show (_ → _) ∧ (_ → _); first | refine ⟨by omega, fun _ => ?_⟩ | refine ⟨fun _ => ?_, by omega⟩) | refine ⟨by omega, ?_⟩ | refine ⟨⟨_, rfl, by assumption⟩, ?_⟩ | refine ⟨okT_I _, ?_⟩ | refine ⟨okT_S (by omega) (by omega), ?_⟩ | refine ⟨okT_B (by omega) (by omega), ?_⟩ | refine call0 (gd_of rfl) ?_)
            refine sp_X19_clear sm2 f2' fun D2 g1 g2 => ?_
            simp only [P_X16_tellElements, i_kil, i_icon, i_lcon, i_null, i_loadI, i_loadL, i_loadR, i_istore, i_lstore, i_astore, i_iinc, i_dup, i_dup2, i_pop, i_iadd, i_isub, i_imul, i_idiv, i_irem, i_ineg, i_iand, i_ior, i_ishl, i_ishr, i_lxor, i_ladd, i_lsub, i_lmul, i_ldiv, i_lrem, i_lneg, i_lshl, i_lcmp, i_i2l, i_l2i, i_i2b, i_i2s, i_ifeq, i_ifne, i_iflt, i_ifge, i_ifgt, i_ifle, i_cmpeq, i_cmpne, i_cmplt, i_cmpge, i_cmpgt, i_cmple, i_acmpeq, i_acmpne, i_ifnull, i_ifnonnull, i_getI, i_getR, i_putI, i_putZ, i_putR, i_ald, i_ldL, i_ldR, i_ast, i_stL, i_stR, i_alen, i_new, i_newa, i_iret, i_zret, i_lret, i_aret, i_vret, i_raise, i_throw, i_recv, i_objinit, i_tsw3, lget, lset, lput1, lput2, lkil, ltrim, largs, isL, takev, dropv, nthv, pushO, catv, gd, true_and, and_true, Option.some.injEq, Prod.mk.injEq, exists_eq_left', if_true, if_false, reduceCtorEq, Bool.false_eq_true, lcmp_ge, lcmp_lt, lcmp_le, lcmp_gt, lcmp_eq, true_or, or_true, not_true_eq_false, not_false_eq_true, false_implies, true_implies, List.length_cons, List.length_nil]
            have sums : ∀ (L3 j : Nat) (D3 : Dat), j + L3 = n - a → (∀ x y, (x ≤ M ∨ M + 20 < x) → (x < M + 568 ∨ M + 2392 < x) → D3 x y = D1 x y) → smP D3 (M + 568) (psum (st.2.1 r) tc a j) → Wp P_X16_tellElements E 3 [some (aR M), some (aI k), some (aI a), some (aI r), some (aI ((a + j : Nat) : Int))] [] B S D3 := by
              intro L3
              have f1' : ∀ D3 : Dat, (∀ x y, (x ≤ M ∨ M + 20 < x) → (x < M + 568 ∨ M + 2392 < x) → D3 x y = D1 x y) → teW M D D3 := fun D3 h x y a1 a2 a3 a4 => by rw [h x y a1 a2]; exact f1 x y a1 a2 a3 a4
              induction L3 with
              | zero =>
                intro j D3 hj h1 h2
                have : j = n - a := by omega
                subst this
                have e3 := e49 D3 (f1' D3 h1)
                obtain ⟨y1, y2⟩ := l3 k (by omega)
                have hrow : psum (st.2.1 r) tc a (n - a) = rowF st r := psum_row ho hC hL s3 hrk (by omega) (by rw [← hpa]; exact x4)
                rw [hrow] at h2
                have hcnt : pcnt (rowF st r) 455 ≤ 60 := by
                  have := pcnt_c4 (φ := rowF st r) (fun t ht h => by unfold rowF; rw [if_pos ht]; exact s3 r t hrk ht (by omega)) 455 (Nat.le_refl _)
                  rw [c4_all] at this; omega
                refine wp_in ?_
                simp only [P_X16_tellElements, i_kil, i_icon, i_lcon, i_null, i_loadI, i_loadL, i_loadR, i_istore, i_lstore, i_astore, i_iinc, i_dup, i_dup2, i_pop, i_iadd, i_isub, i_imul, i_idiv, i_irem, i_ineg, i_iand, i_ior, i_ishl, i_ishr, i_lxor, i_ladd, i_lsub, i_lmul, i_ldiv, i_lrem, i_lneg, i_lshl, i_lcmp, i_i2l, i_l2i, i_i2b, i_i2s, i_ifeq, i_ifne, i_iflt, i_ifge, i_ifgt, i_ifle, i_cmpeq, i_cmpne, i_cmplt, i_cmpge, i_cmpgt, i_cmple, i_acmpeq, i_acmpne, i_ifnull, i_ifnonnull, i_getI, i_getR, i_putI, i_putZ, i_putR, i_ald, i_ldL, i_ldR, i_ast, i_stL, i_stR, i_alen, i_new, i_newa, i_iret, i_zret, i_lret, i_aret, i_vret, i_raise, i_throw, i_recv, i_objinit, i_tsw3, lget, lset, lput1, lput2, lkil, ltrim, largs, isL, takev, dropv, nthv, pushO, catv, gd, true_and, and_true, Option.some.injEq, Prod.mk.injEq, exists_eq_left', if_true, if_false, reduceCtorEq, Bool.false_eq_true, lcmp_ge, lcmp_lt, lcmp_le, lcmp_gt, lcmp_eq, true_or, or_true, not_true_eq_false, not_false_eq_true, false_implies, true_implies, List.length_cons, List.length_nil, M1, e3, sm1, l1, l2, y1]
                repeat (first | refine ⟨in_small (by omega) (by omega), ?_⟩ | (show (_ → _) ∧ (_ → _); first | refine ⟨by omega, fun _ => ?_⟩ | refine ⟨fun _ => ?_, by omega⟩) | refine ⟨by omega, ?_⟩ | refine ⟨⟨_, rfl, by assumption⟩, ?_⟩ | refine ⟨okT_I _, ?_⟩ | refine ⟨okT_S (by omega) (by omega), ?_⟩ | refine ⟨okT_B (by omega) (by omega), ?_⟩ | refine call0 (gd_of rfl) ?_)
                refine sp_X19_to sm2 y2 (by omega) h2 hcnt fun D4 g3 g4 => ?_
                simp only [P_X16_tellElements, i_kil, i_icon, i_lcon, i_null, i_loadI, i_loadL, i_loadR, i_istore, i_lstore, i_astore, i_iinc, i_dup, i_dup2, i_pop, i_iadd, i_isub, i_imul, i_idiv, i_irem, i_ineg, i_iand, i_ior, i_ishl, i_ishr, i_lxor, i_ladd, i_lsub, i_lmul, i_ldiv, i_lrem, i_lneg, i_lshl, i_lcmp, i_i2l, i_l2i, i_i2b, i_i2s, i_ifeq, i_ifne, i_iflt, i_ifge, i_ifgt, i_ifle, i_cmpeq, i_cmpne, i_cmplt, i_cmpge, i_cmpgt, i_cmple, i_acmpeq, i_acmpne, i_ifnull, i_ifnonnull, i_getI, i_getR, i_putI, i_putZ, i_putR, i_ald, i_ldL, i_ldR, i_ast, i_stL, i_stR, i_alen, i_new, i_newa, i_iret, i_zret, i_lret, i_aret, i_vret, i_raise, i_throw, i_recv, i_objinit, i_tsw3, lget, lset, lput1, lput2, lkil, ltrim, largs, isL, takev, dropv, nthv, pushO, catv, gd, true_and, and_true, Option.some.injEq, Prod.mk.injEq, exists_eq_left', if_true, if_false, reduceCtorEq, Bool.false_eq_true, lcmp_ge, lcmp_lt, lcmp_le, lcmp_gt, lcmp_eq, true_or, or_true, not_true_eq_false, not_false_eq_true, false_implies, true_implies, List.length_cons, List.length_nil, M1, o1, o2]
                repeat (first | refine ⟨in_small (by omega) (by omega), ?_⟩ | (show (_ → _) ∧ (_ → _); first | refine ⟨by omega, fun _ => ?_⟩ | refine ⟨fun _ => ?_, by omega⟩) | refine ⟨by omega, ?_⟩ | refine ⟨⟨_, rfl, by assumption⟩, ?_⟩ | refine ⟨okT_I _, ?_⟩ | refine ⟨okT_S (by omega) (by omega), ?_⟩ | refine ⟨okT_B (by omega) (by omega), ?_⟩ | refine call0 (gd_of rfl) ?_)
                have fr : ∀ x y, x ≠ M + 10780 → pmu D4 (M + 10780) (k : Int) (r : Int) x y = D4 x y := fun x y h => by simp only [pmu]; rw [if_neg (fun w => h w.1)]
                refine five (k + 1) (fun x => if x = k then r else σ x) _ ⟨fun x y a1 a2 a3 a4 => ?_, ⟨rowF st r, ?_⟩, fun x hx => ?_, fun x y hxy hy => ?_, fun x hx h => ?_, fun x hx => ?_⟩
                · rw [fr x y a3, g3 x y (by omega)]; exact f1' D3 h1 x y a1 a2 a3 a4
                · exact h2.congr fun x y b1 b2 => by rw [fr x y (by omega), g3 x y (by omega)]
                · show (if x = k then r else σ x) < st.1 ∧ (pm (if x = k then r else σ x) < a ∨ pm (if x = k then r else σ x) = a ∧ (if x = k then r else σ x) < r + 1)
                  by_cases w : x = k
                  · rw [if_pos w]; exact ⟨hrk, by omega⟩
                  · rw [if_neg w]
                    have := f3 x (by omega)
                    exact ⟨this.1, by omega⟩
                · show pm (if x = k then r else σ x) < pm (if y = k then r else σ y)
                  rw [if_neg (show ¬ x = k by omega)]
                  by_cases w : y = k
                  · rw [if_pos w, hpa]
                    have := f3 x (by omega)
                    rcases this.2 with z | ⟨z1, z2⟩
                    · exact z
                    · have := inj _ _ this.1 hrk (by omega)
                      omega
                  · rw [if_neg w]; exact f4 x y hxy (by omega)
                · by_cases w : x = r
                  · exact ⟨k, by omega, by show (if k = k then r else σ k) = x; rw [if_pos rfl, w]⟩
                  · obtain ⟨z, z1, z2⟩ := f5 x hx (by omega)
                    exact ⟨z, by omega, by show (if z = k then r else σ z) = x; rw [if_neg (by omega), z2]⟩
                · show pmu D4 (M + 10780) (k : Int) (r : Int) (M + 10780) x = ((if x = k then r else σ x : Nat) : Int) ∧ mpP _ _ (rowF st (if x = k then r else σ x))
                  by_cases w : x = k
                  · rw [if_pos w, w]
                    refine ⟨by simp [pmu], g4.congr fun x y b1 b2 => fr x y (by omega)⟩
                  · rw [if_neg w]
                    obtain ⟨z1, z2⟩ := f6 x (by omega)
                    refine ⟨?_, z2.congr fun y z b1 b2 => ?_⟩
                    · simp only [pmu]
                      rw [if_neg (fun q => by omega), g3 _ _ (by omega), h1 _ _ (by omega) (by omega)]
                      exact z1
                    · rw [fr y z (by omega), g3 y z (by omega), h1 y z (by omega) (by omega)]
              | succ L3 ih3 =>
                intro j D3 hj h1 h2
                have e3 := e49 D3 (f1' D3 h1)
                obtain ⟨rra, rrn⟩ := r3 r (by omega)
                have rr1 := rrn.1
                have zr : zrow D3 (M + 5703 + 141 * r) (V r) := x1.congr fun x y b1 b2 => f1' D3 h1 x y (by omega) (by omega) (by omega) (by omega)
                obtain ⟨ca1, ca2⟩ := rrn.2 (a + j) (by omega)
                have ca3 := ca2.1
                obtain ⟨cb1, cb2⟩ := rrn.2 a (by omega)
                have hs := wD_nn (zr (a + j) (by omega))
                have eco : D3 (M + 5697) ((a + j : Nat) : Int) = tcode (tc (a + j)) := by rw [f1' D3 h1 _ _ (by omega) (by omega) (by omega) (by omega)]; exact (hCc _ (by omega)).1
                have htc := (hC.1 (a + j) (by omega)).1
                have h0 : psum (st.2.1 r) tc a j (tc (a + j)) = 0 := psum_none _ fun y hy w => by
                  have := tc_inj ho hC (by omega) (by omega) w
                  omega
                have next : ∀ D4 : Dat, (∀ x y, (x ≤ M ∨ M + 20 < x) → (x < M + 568 ∨ M + 2392 < x) → D4 x y = D1 x y) → smP D4 (M + 568) (psum (st.2.1 r) tc a (j + 1)) → Wp P_X16_tellElements E 4 [some (aR M), some (aI k), some (aI a), some (aI r), some (aI ((a + j : Nat) : Int))] [] B S D4 := fun D4 b1 b2 => by
                  refine wp_in ?_
                  simp only [P_X16_tellElements, i_kil, i_icon, i_lcon, i_null, i_loadI, i_loadL, i_loadR, i_istore, i_lstore, i_astore, i_iinc, i_dup, i_dup2, i_pop, i_iadd, i_isub, i_imul, i_idiv, i_irem, i_ineg, i_iand, i_ior, i_ishl, i_ishr, i_lxor, i_ladd, i_lsub, i_lmul, i_ldiv, i_lrem, i_lneg, i_lshl, i_lcmp, i_i2l, i_l2i, i_i2b, i_i2s, i_ifeq, i_ifne, i_iflt, i_ifge, i_ifgt, i_ifle, i_cmpeq, i_cmpne, i_cmplt, i_cmpge, i_cmpgt, i_cmple, i_acmpeq, i_acmpne, i_ifnull, i_ifnonnull, i_getI, i_getR, i_putI, i_putZ, i_putR, i_ald, i_ldL, i_ldR, i_ast, i_stL, i_stR, i_alen, i_new, i_newa, i_iret, i_zret, i_lret, i_aret, i_vret, i_raise, i_throw, i_recv, i_objinit, i_tsw3, lget, lset, lput1, lput2, lkil, ltrim, largs, isL, takev, dropv, nthv, pushO, catv, gd, true_and, and_true, Option.some.injEq, Prod.mk.injEq, exists_eq_left', if_true, if_false, reduceCtorEq, Bool.false_eq_true, lcmp_ge, lcmp_lt, lcmp_le, lcmp_gt, lcmp_eq, true_or, or_true, not_true_eq_false, not_false_eq_true, false_implies, true_implies, List.length_cons, List.length_nil]
                  repeat (first | refine ⟨in_small (by omega) (by omega), ?_⟩ | (show (_ → _) ∧ (_ → _); first | refine ⟨by omega, fun _ => ?_⟩ | refine ⟨fun _ => ?_, by omega⟩) | refine ⟨by omega, ?_⟩ | refine ⟨⟨_, rfl, by assumption⟩, ?_⟩ | refine ⟨okT_I _, ?_⟩ | refine ⟨okT_S (by omega) (by omega), ?_⟩ | refine ⟨okT_B (by omega) (by omega), ?_⟩ | refine call0 (gd_of rfl) ?_)
                  exact ih3 (j + 1) D4 (by omega) b1 b2
                refine wp_in ?_
                simp only [P_X16_tellElements, i_kil, i_icon, i_lcon, i_null, i_loadI, i_loadL, i_loadR, i_istore, i_lstore, i_astore, i_iinc, i_dup, i_dup2, i_pop, i_iadd, i_isub, i_imul, i_idiv, i_irem, i_ineg, i_iand, i_ior, i_ishl, i_ishr, i_lxor, i_ladd, i_lsub, i_lmul, i_ldiv, i_lrem, i_lneg, i_lshl, i_lcmp, i_i2l, i_l2i, i_i2b, i_i2s, i_ifeq, i_ifne, i_iflt, i_ifge, i_ifgt, i_ifle, i_cmpeq, i_cmpne, i_cmplt, i_cmpge, i_cmpgt, i_cmple, i_acmpeq, i_acmpne, i_ifnull, i_ifnonnull, i_getI, i_getR, i_putI, i_putZ, i_putR, i_ald, i_ldL, i_ldR, i_ast, i_stL, i_stR, i_alen, i_new, i_newa, i_iret, i_zret, i_lret, i_aret, i_vret, i_raise, i_throw, i_recv, i_objinit, i_tsw3, lget, lset, lput1, lput2, lkil, ltrim, largs, isL, takev, dropv, nthv, pushO, catv, gd, true_and, and_true, Option.some.injEq, Prod.mk.injEq, exists_eq_left', if_true, if_false, reduceCtorEq, Bool.false_eq_true, lcmp_ge, lcmp_lt, lcmp_le, lcmp_gt, lcmp_eq, true_or, or_true, not_true_eq_false, not_false_eq_true, false_implies, true_implies, List.length_cons, List.length_nil, M1, e3, r1, r2, rra, rr1, ca1, ca3, hs]
                repeat (first | refine ⟨in_small (by omega) (by omega), ?_⟩ | (show (_ → _) ∧ (_ → _); first | refine ⟨by omega, fun _ => ?_⟩ | refine ⟨fun _ => ?_, by omega⟩) | refine ⟨by omega, ?_⟩ | refine ⟨⟨_, rfl, by assumption⟩, ?_⟩ | refine ⟨okT_I _, ?_⟩ | refine ⟨okT_S (by omega) (by omega), ?_⟩ | refine ⟨okT_B (by omega) (by omega), ?_⟩ | refine call0 (gd_of rfl) ?_)
                refine ⟨fun z => ?_, fun z => ?_⟩
                · have hV0 : V r (a + j) = 0 := Int.sign_eq_zero_iff_zero.mp z
                  have hR0 := (x2.zero (show a + j < n by omega) hn).mp hV0
                  refine next D3 h1 ?_
                  have e : psum (st.2.1 r) tc a (j + 1) = psum (st.2.1 r) tc a j := by
                    funext t
                    simp only [psum, pupd]
                    split
                    · rename_i q; rw [q, hR0, h0]
                    · rfl
                  rw [e]; exact h2
                · simp only [P_X16_tellElements, i_kil, i_icon, i_lcon, i_null, i_loadI, i_loadL, i_loadR, i_istore, i_lstore, i_astore, i_iinc, i_dup, i_dup2, i_pop, i_iadd, i_isub, i_imul, i_idiv, i_irem, i_ineg, i_iand, i_ior, i_ishl, i_ishr, i_lxor, i_ladd, i_lsub, i_lmul, i_ldiv, i_lrem, i_lneg, i_lshl, i_lcmp, i_i2l, i_l2i, i_i2b, i_i2s, i_ifeq, i_ifne, i_iflt, i_ifge, i_ifgt, i_ifle, i_cmpeq, i_cmpne, i_cmplt, i_cmpge, i_cmpgt, i_cmple, i_acmpeq, i_acmpne, i_ifnull, i_ifnonnull, i_getI, i_getR, i_putI, i_putZ, i_putR, i_ald, i_ldL, i_ldR, i_ast, i_stL, i_stR, i_alen, i_new, i_newa, i_iret, i_zret, i_lret, i_aret, i_vret, i_raise, i_throw, i_recv, i_objinit, i_tsw3, lget, lset, lput1, lput2, lkil, ltrim, largs, isL, takev, dropv, nthv, pushO, catv, gd, true_and, and_true, Option.some.injEq, Prod.mk.injEq, exists_eq_left', if_true, if_false, reduceCtorEq, Bool.false_eq_true, lcmp_ge, lcmp_lt, lcmp_le, lcmp_gt, lcmp_eq, true_or, or_true, not_true_eq_false, not_false_eq_true, false_implies, true_implies, List.length_cons, List.length_nil, M1, sm1, c1, c2, eco, r1, r2, rra, rr1, ca1, cb1]
                  repeat (first | refine ⟨in_small (by omega) (by omega), ?_⟩ | (show (_ → _) ∧ (_ → _); first | refine ⟨by omega, fun _ => ?_⟩ | refine ⟨fun _ => ?_, by omega⟩) | refine ⟨by omega, ?_⟩ | refine ⟨⟨_, rfl, by assumption⟩, ?_⟩ | refine ⟨okT_I _, ?_⟩ | refine ⟨okT_S (by omega) (by omega), ?_⟩ | refine ⟨okT_B (by omega) (by omega), ?_⟩ | refine call0 (gd_of rfl) ?_)
                  have hVa : V r a ≠ 0 := fun w => by
                    have h3 := (x2.zero (show a < n by omega) hn).mp w
                    have h4 := (hO.piv hrk).2.2 r hrk
                    rw [if_pos rfl, ← x4, hpa, h3] at h4
                    exact absurd h4 (by decide)
                  have hdv : Rat.divInt (V r (a + j)) (V r a) = st.2.1 r (tc (a + j)) := by
                    obtain ⟨⟨ρ, k1, k2⟩, -⟩ := x2
                    have q1 := k2 (a + j) (by omega)
                    have q2 := k2 a (by omega)
                    rw [mpx_col (by omega) hn] at q1 q2
                    have h4 := (hO.piv hrk).2.2 r hrk
                    rw [if_pos rfl, ← x4, hpa] at h4
                    rw [h4, Rat.mul_one] at q2
                    rw [Rat.divInt_eq_div, q1, q2, Rat.div_def]
                    have : ρ * ρ⁻¹ = 1 := Rat.mul_inv_cancel _ k1
                    grind
                  have hq : qfit (st.2.1 r (tc (a + j))) := hO.fit hrk (by omega)
                  have hsum : psum (st.2.1 r) tc a j (tc (a + j)) + ((1 : Int) : Rat) * Rat.divInt (V r (a + j)) (V r a) = st.2.1 r (tc (a + j)) := by
                    rw [h0, hdv]
                    have : ((1 : Int) : Rat) = 1 := rfl
                    rw [this]; grind
                  refine sp_X16_gather (t := tc (a + j)) (p := 11) (q := 11) hg sm2 (by omega) h2 htc rfl ca2 cb2 (by omega) (by omega) (by omega) (by omega) (zr _ (by omega)) (zr _ (by omega)) hVa (.inl rfl) (size r hrk _ (by omega)) (size r hrk _ (by omega)) (by omega) (by omega) (by omega) (by omega) (by omega) (by omega) (fun D4 b1 b2 b3 => ?_) (fun D4 b1 b2 b3 => ?_)
                  · simp only [P_X16_tellElements, i_kil, i_icon, i_lcon, i_null, i_loadI, i_loadL, i_loadR, i_istore, i_lstore, i_astore, i_iinc, i_dup, i_dup2, i_pop, i_iadd, i_isub, i_imul, i_idiv, i_irem, i_ineg, i_iand, i_ior, i_ishl, i_ishr, i_lxor, i_ladd, i_lsub, i_lmul, i_ldiv, i_lrem, i_lneg, i_lshl, i_lcmp, i_i2l, i_l2i, i_i2b, i_i2s, i_ifeq, i_ifne, i_iflt, i_ifge, i_ifgt, i_ifle, i_cmpeq, i_cmpne, i_cmplt, i_cmpge, i_cmpgt, i_cmple, i_acmpeq, i_acmpne, i_ifnull, i_ifnonnull, i_getI, i_getR, i_putI, i_putZ, i_putR, i_ald, i_ldL, i_ldR, i_ast, i_stL, i_stR, i_alen, i_new, i_newa, i_iret, i_zret, i_lret, i_aret, i_vret, i_raise, i_throw, i_recv, i_objinit, i_tsw3, lget, lset, lput1, lput2, lkil, ltrim, largs, isL, takev, dropv, nthv, pushO, catv, gd, true_and, and_true, Option.some.injEq, Prod.mk.injEq, exists_eq_left', if_true, if_false, reduceCtorEq, Bool.false_eq_true, lcmp_ge, lcmp_lt, lcmp_le, lcmp_gt, lcmp_eq, true_or, or_true, not_true_eq_false, not_false_eq_true, false_implies, true_implies, List.length_cons, List.length_nil]
                    refine next D4 (fun x y a1 a2 => by rw [b1 x y (by omega) a1]; exact h1 x y a1 a2) ?_
                    rw [hsum] at b3
                    exact b3
                  · rw [hsum] at b2
                    exact absurd hq b2
            exact sums (n - a) 0 D2 (by omega) (fun x y a1 a2 => g1 x y (by omega)) g2
          · refine five k σ D1 ⟨f1, f2, fun x hx => ?_, f4, fun x hx h => ?_, f6⟩
            · have := f3 x hx
              exact ⟨this.1, by omega⟩
            · refine f5 x hx ?_
              rcases h with h | ⟨h, h'⟩
              · exact .inl h
              · refine .inr ⟨h, ?_⟩
                by_cases w : x = r
                · rw [w] at h; omega
                · omega
      have e1 := e49 D1 hI.1
      refine wp_in ?_
      simp only [P_X16_tellElements, i_kil, i_icon, i_lcon, i_null, i_loadI, i_loadL, i_loadR, i_istore, i_lstore, i_astore, i_iinc, i_dup, i_dup2, i_pop, i_iadd, i_isub, i_imul, i_idiv, i_irem, i_ineg, i_iand, i_ior, i_ishl, i_ishr, i_lxor, i_ladd, i_lsub, i_lmul, i_ldiv, i_lrem, i_lneg, i_lshl, i_lcmp, i_i2l, i_l2i, i_i2b, i_i2s, i_ifeq, i_ifne, i_iflt, i_ifge, i_ifgt, i_ifle, i_cmpeq, i_cmpne, i_cmplt, i_cmpge, i_cmpgt, i_cmple, i_acmpeq, i_acmpne, i_ifnull, i_ifnonnull, i_getI, i_getR, i_putI, i_putZ, i_putR, i_ald, i_ldL, i_ldR, i_ast, i_stL, i_stR, i_alen, i_new, i_newa, i_iret, i_zret, i_lret, i_aret, i_vret, i_raise, i_throw, i_recv, i_objinit, i_tsw3, lget, lset, lput1, lput2, lkil, ltrim, largs, isL, takev, dropv, nthv, pushO, catv, gd, true_and, and_true, Option.some.injEq, Prod.mk.injEq, exists_eq_left', if_true, if_false, reduceCtorEq, Bool.false_eq_true, lcmp_ge, lcmp_lt, lcmp_le, lcmp_gt, lcmp_eq, true_or, or_true, not_true_eq_false, not_false_eq_true, false_implies, true_implies, List.length_cons, List.length_nil, M1, e1]
      repeat (first | refine ⟨in_small (by omega) (by omega), ?_⟩ | (show (_ → _) ∧ (_ → _); first | refine ⟨by omega, fun _ => ?_⟩ | refine ⟨fun _ => ?_, by omega⟩) | refine ⟨by omega, ?_⟩ | refine ⟨⟨_, rfl, by assumption⟩, ?_⟩ | refine ⟨okT_I _, ?_⟩ | refine ⟨okT_S (by omega) (by omega), ?_⟩ | refine ⟨okT_B (by omega) (by omega), ?_⟩ | refine call0 (gd_of rfl) ?_)
      exact rows st.1 0 k σ D1 (by omega) hI
  refine wp_in ?_
  simp only [P_X16_tellElements, i_kil, i_icon, i_lcon, i_null, i_loadI, i_loadL, i_loadR, i_istore, i_lstore, i_astore, i_iinc, i_dup, i_dup2, i_pop, i_iadd, i_isub, i_imul, i_idiv, i_irem, i_ineg, i_iand, i_ior, i_ishl, i_ishr, i_lxor, i_ladd, i_lsub, i_lmul, i_ldiv, i_lrem, i_lneg, i_lshl, i_lcmp, i_i2l, i_l2i, i_i2b, i_i2s, i_ifeq, i_ifne, i_iflt, i_ifge, i_ifgt, i_ifle, i_cmpeq, i_cmpne, i_cmplt, i_cmpge, i_cmpgt, i_cmple, i_acmpeq, i_acmpne, i_ifnull, i_ifnonnull, i_getI, i_getR, i_putI, i_putZ, i_putR, i_ald, i_ldL, i_ldR, i_ast, i_stL, i_stR, i_alen, i_new, i_newa, i_iret, i_zret, i_lret, i_aret, i_vret, i_raise, i_throw, i_recv, i_objinit, i_tsw3, lget, lset, lput1, lput2, lkil, ltrim, largs, isL, takev, dropv, nthv, pushO, catv, gd, true_and, and_true, Option.some.injEq, Prod.mk.injEq, exists_eq_left', if_true, if_false, reduceCtorEq, Bool.false_eq_true, lcmp_ge, lcmp_lt, lcmp_le, lcmp_gt, lcmp_eq, true_or, or_true, not_true_eq_false, not_false_eq_true, false_implies, true_implies, List.length_cons, List.length_nil]
  exact cols n 0 0 (fun _ => 0) D (by omega) ⟨fun _ _ _ _ _ _ => rfl, hsm, fun x hx => by omega, fun x y _ hy => by omega, fun x _ h => by omega, fun x hx => by omega⟩
