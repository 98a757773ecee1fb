/-! the model's isUni: a polynomial in one letter at most, small -/
-- needs: dt.sgpack
set_option maxRecDepth 100000
set_option linter.unusedVariables false
section MISU
variable {M : Nat} {S : Stat}
/-- one letter at most, degree at most 8, whole numbers up to 99 -/
def uniP (φ : Nat → Rat) : Prop := degI φ 455 ≤ 8 ∧ isPln φ 99 ∧ ∃ l, l < 3 ∧ ∀ t, t < 455 → φ t ≠ 0 → ∀ m, m < 3 → m ≠ l → txl m t = 0
/-- its row -/
def uniR (φ : Nat → Rat) (g : Nat → Int) (d : Nat) : Prop := degI φ 455 = d ∧ (∀ t, t < 455 → φ t ≠ 0 → g (tdg t) = (φ t).num) ∧ ∀ k, (∀ t, t < 455 → φ t ≠ 0 → tdg t ≠ k) → g k = 0
theorem uniR.uniq {φ : Nat → Rat} {f g : Nat → Int} {c d : Nat} (h : uniR φ f c) (h' : uniR φ g d) : c = d ∧ ∀ k, f k = g k := by
  obtain ⟨a1, a2, a3⟩ := h
  obtain ⟨b1, b2, b3⟩ := h'
  refine ⟨by omega, fun k => ?_⟩
  rcases Classical.em (∃ t, t < 455 ∧ φ t ≠ 0 ∧ tdg t = k) with ⟨t, q1, q2, q3⟩ | q
  · rw [← q3, a2 t q1 q2, b2 t q1 q2]
  · rw [a3 k fun t h1 h2 h3 => q ⟨t, h1, h2, h3⟩, b3 k fun t h1 h2 h3 => q ⟨t, h1, h2, h3⟩]
theorem txl_tdg (t : Nat) : tdg t = txl 0 t + txl 1 t + txl 2 t := rfl
theorem lt3 {m : Nat} (h : m < 3) : m = 0 ∨ m = 1 ∨ m = 2 := by omega
theorem txl_one {l t : Nat} (hl : l < 3) (h : ∀ m, m < 3 → m ≠ l → txl m t = 0) : tdg t = txl l t := by
  have := txl_tdg t
  have a0 := h 0 (by omega)
  have a1 := h 1 (by omega)
  have a2 := h 2 (by omega)
  rcases lt3 hl with z | z | z <;> subst z
  · have := a1 (by omega); have := a2 (by omega); omega
  · have := a0 (by omega); have := a2 (by omega); omega
  · have := a0 (by omega); have := a1 (by omega); omega
theorem txl_ext {s t : Nat} (hs : s < 455) (ht : t < 455) (h : ∀ m, m < 3 → txl m s = txl m t) : s = t :=
  tx_ext hs ht (h 0 (by omega)) (h 1 (by omega)) (h 2 (by omega))
theorem uni_ext {l s t : Nat} (hl : l < 3) (hs : s < 455) (ht : t < 455) (h : ∀ m, m < 3 → m ≠ l → txl m s = 0) (h' : ∀ m, m < 3 → m ≠ l → txl m t = 0) (e : tdg s = tdg t) : s = t := by
  rw [txl_one hl h, txl_one hl h'] at e
  refine txl_ext hs ht fun m hm => ?_
  rcases Nat.decEq m l with q | q
  · rw [h m hm q, h' m hm q]
  · rw [q]; exact e
theorem txl_zero {t : Nat} (h : tdg t = 0) (m : Nat) (hm : m < 3) : txl m t = 0 := by
  have := txl_tdg t
  rcases lt3 hm with z | z | z <;> subst z <;> omega
theorem z99_14 {z : Int} (h : z ≤ 99) : z < 1000000000 ^ 14 := Int.lt_of_le_of_lt h (Int.lt_of_lt_of_le (by decide : (99 : Int) < 1000000000 ^ 1) (pw_mono (by decide)))
def muO (M : Nat) (D D' : Dat) : Prop := (∀ c i, c ≠ M + 11307 → c ≠ M → D' c i = D c i) ∧ ∀ i, i ≠ 84 → D' M i = D M i
/-- what the letter found so far says of the first terms -/
def uniI (e : Nat → Nat) (i : Nat) (l : Int) : Prop := (l = -1 ∧ ∀ j, j < i → tdg (e j) = 0) ∨ ∃ a, a < 3 ∧ l = ((a : Nat) : Int) ∧ (∃ j, j < i ∧ txl a (e j) ≠ 0) ∧ ∀ j, j < i → ∀ m, m < 3 → m ≠ a → txl m (e j) = 0
/-- and within a term -/
def uniJ (e : Nat → Nat) (i b : Nat) (l : Int) : Prop := (l = -1 ∧ (∀ j, j < i → tdg (e j) = 0) ∧ ∀ m, m < b → txl m (e i) = 0) ∨ ∃ a, a < 3 ∧ l = ((a : Nat) : Int) ∧ (∃ j, j ≤ i ∧ txl a (e j) ≠ 0) ∧ (∀ j, j < i → ∀ m, m < 3 → m ≠ a → txl m (e j) = 0) ∧ ∀ m, m < b → m ≠ a → txl m (e i) = 0
theorem uniI.toJ {e : Nat → Nat} {i : Nat} {l : Int} (h : uniI e i l) : uniJ e i 0 l := by
  rcases h with ⟨h1, h2⟩ | ⟨a, h1, h2, ⟨j, h3, h4⟩, h5⟩
  · exact .inl ⟨h1, h2, fun m hm => absurd hm (Nat.not_lt_zero _)⟩
  · exact .inr ⟨a, h1, h2, ⟨j, by omega, h4⟩, h5, fun m hm => absurd hm (Nat.not_lt_zero _)⟩
theorem uniJ.toI {e : Nat → Nat} {i : Nat} {l : Int} (h : uniJ e i 3 l) : uniI e (i + 1) l := by
  rcases h with ⟨h1, h2, h3⟩ | ⟨a, h1, h2, ⟨j, h3, h4⟩, h5, h6⟩
  · refine .inl ⟨h1, fun j hj => ?_⟩
    rcases Nat.decEq j i with q | q
    · exact h2 j (by omega)
    · subst q
      rw [txl_tdg, h3 0 (by omega), h3 1 (by omega), h3 2 (by omega)]
  · refine .inr ⟨a, h1, h2, ⟨j, by omega, h4⟩, fun k hk m hm hne => ?_⟩
    rcases Nat.decEq k i with q | q
    · exact h5 k (by omega) m hm hne
    · subst q; exact h6 m hm hne
theorem uniJ.no {e : Nat → Nat} {i b : Nat} {l : Int} (h : uniJ e i b l) (h0 : txl b (e i) = 0) : uniJ e i (b + 1) l := by
  have st : ∀ m, m < b + 1 → m < b ∨ m = b := fun m hm => by omega
  rcases h with ⟨h1, h2, h3⟩ | ⟨a, h1, h2, h3, h5, h6⟩
  · exact .inl ⟨h1, h2, fun m hm => by rcases st m hm with q | q; exact h3 m q; rw [q]; exact h0⟩
  · exact .inr ⟨a, h1, h2, h3, h5, fun m hm hne => by rcases st m hm with q | q; exact h6 m q hne; rw [q]; exact h0⟩
theorem uniJ.yes {e : Nat → Nat} {i b : Nat} {l : Int} (h : uniJ e i b l) (hb : b < 3) (h0 : txl b (e i) ≠ 0) (hl : l < 0 ∨ l = b) : uniJ e i (b + 1) b := by
  have st : ∀ m, m < b + 1 → m ≠ b → m < b := fun m hm _ => by omega
  rcases h with ⟨h1, h2, h3⟩ | ⟨a, h1, h2, h3, h5, h6⟩
  · exact .inr ⟨b, hb, rfl, ⟨i, Nat.le_refl _, h0⟩, fun j hj m hm _ => txl_zero (h2 j hj) m hm, fun m hm hne => h3 m (st m hm hne)⟩
  · have : a = b := by omega
    subst this
    exact .inr ⟨a, hb, rfl, h3, h5, fun m hm hne => h6 m (st m hm hne) hne⟩
theorem uniJ.bad {e : Nat → Nat} {i b : Nat} {l : Int} (h : uniJ e i b l) (hb : b < 3) (h0 : txl b (e i) ≠ 0) (hl : ¬ l < 0) (hl2 : l ≠ b) : ∃ a j, a < 3 ∧ a ≠ b ∧ j ≤ i ∧ txl a (e j) ≠ 0 := by
  rcases h with ⟨h1, h2, h3⟩ | ⟨a, h1, h2, ⟨j, h3, h4⟩, h5, h6⟩
  · omega
  · exact ⟨a, j, h1, by omega, h3, h4⟩
theorem uniI.one {e : Nat → Nat} {i : Nat} {l : Int} (h : uniI e i l) : ∃ a, a < 3 ∧ ∀ j, j < i → ∀ m, m < 3 → m ≠ a → txl m (e j) = 0 := by
  rcases h with ⟨h1, h2⟩ | ⟨a, h1, h2, h3, h5⟩
  · exact ⟨0, by omega, fun j hj m hm _ => txl_zero (h2 j hj) m hm⟩
  · exact ⟨a, h1, h5⟩
set_option maxHeartbeats 4000000 in
theorem sp_X16_isUni {E : Ex} {B : Nat × Nat} {D : Dat} {p n : Nat} {e : Nat → Nat} {φ : Nat → Rat} (hM : S.1 M = some (16, 0)) (hpl : plS S M) (hp : mpS S p) (hD : mpD D p φ n e) (hn : 0 < n) (hd1 : p + 243 < M ∨ M < p) (hd2 : p + 243 < M + 11307 ∨ M + 11307 < p)
    (K0 : ∀ D', ¬ uniP φ → muO M D D' → E (.inl (some (.inl 0))) B S D')
    (K1 : ∀ D' g d, uniP φ → uniR φ g d → d ≤ 8 → g d ≠ 0 → (∀ k, (g k).natAbs ≤ 99) → muO M D D' → plD D' M g d → E (.inl (some (.inl 1))) B S D') : Wp P_X16_isUni E 0 [some (aR M), some (aR p)] [] B S D := by
  obtain ⟨u1, u2⟩ := id hpl
  obtain ⟨p1, p2, p3, p4, p5, p6, p7⟩ := id hp
  obtain ⟨h1, h2, h3, h4, h5, h6⟩ := id hD
  have p51 := p5.1
  have no : ∀ D', ¬ uniP φ → muO M D D' → Wp P_X16_isUni E 1 [] [] B S D' := fun D' hno hf => by
    refine wp_in ?_
    simp only [P_X16_isUni, i_kil, i_icon, i_lcon, i_null, i_loadI, i_loadL, i_loadR, i_istore, i_lstore, i_astore, i_iinc, i_dup, i_dup2, i_pop, i_iadd, i_isub, i_imul, i_idiv, i_irem, i_ineg, i_iand, i_ior, i_ishl, i_ishr, i_lxor, i_ladd, i_lsub, i_lmul, i_ldiv, i_lrem, i_lneg, i_lshl, i_lcmp, i_i2l, i_l2i, i_i2b, i_i2s, i_ifeq, i_ifne, i_iflt, i_ifge, i_ifgt, i_ifle, i_cmpeq, i_cmpne, i_cmplt, i_cmpge, i_cmpgt, i_cmple, i_acmpeq, i_acmpne, i_ifnull, i_ifnonnull, i_getI, i_getR, i_putI, i_putZ, i_putR, i_ald, i_ldL, i_ldR, i_ast, i_stL, i_stR, i_alen, i_new, i_newa, i_iret, i_zret, i_lret, i_aret, i_vret, i_raise, i_throw, i_recv, i_objinit, i_tsw3, lget, lset, lput1, lput2, lkil, ltrim, largs, isL, takev, dropv, nthv, pushO, catv, gd, true_and, and_true, Option.some.injEq, Prod.mk.injEq, exists_eq_left', if_true, if_false, reduceCtorEq, Bool.false_eq_true, lcmp_ge, lcmp_lt, lcmp_le, lcmp_gt, lcmp_eq, true_or, or_true, not_true_eq_false, not_false_eq_true, false_implies, true_implies, List.length_cons, List.length_nil]
    exact K0 D' hno hf
  have f0 : muO M D D := ⟨fun _ _ _ _ => rfl, fun _ _ => rfl⟩
  have dg : degI φ 455 ≤ 8 → ∀ j, j < n → (tdg (e j) : Int) ≤ 8 := fun h j hj => by
    have a := h3 j hj
    rcases degI_law (φ := φ) 455 with ⟨_, q⟩ | ⟨_, q⟩
    · exact absurd (q (e j) a.1) a.2.2.2
    · have := q (e j) a.1 a.2.2.2; omega
  -- the terms
  have main : ∀ (L i : Nat) (l : Int) (D1 : Dat), i + L = n → degI φ 455 ≤ 8 → isPln φ 99 → uniI e i l → muO M D D1 → (∀ j, j < i → D1 (M + 11307) (tdg (e j) : Nat) = (φ (e j)).num) → (∀ k : Nat, k < 9 → (∀ j, j < i → tdg (e j) ≠ k) → D1 (M + 11307) k = 0) → Wp P_X16_isUni E 3 [some (aR M), some (aR p), some (aI l), some (aI i)] [] B S D1 := by
    intro L
    induction L with
    | zero =>
      intro i l D1 hi hd hpn hI hf hv hz
      have : i = n := by omega
      subst this
      have h2' : D1 p 0 = i := by rw [hf.1 _ _ (by omega) (by omega)]; exact h2
      refine wp_in ?_
      simp only [P_X16_isUni, i_kil, i_icon, i_lcon, i_null, i_loadI, i_loadL, i_loadR, i_istore, i_lstore, i_astore, i_iinc, i_dup, i_dup2, i_pop, i_iadd, i_isub, i_imul, i_idiv, i_irem, i_ineg, i_iand, i_ior, i_ishl, i_ishr, i_lxor, i_ladd, i_lsub, i_lmul, i_ldiv, i_lrem, i_lneg, i_lshl, i_lcmp, i_i2l, i_l2i, i_i2b, i_i2s, i_ifeq, i_ifne, i_iflt, i_ifge, i_ifgt, i_ifle, i_cmpeq, i_cmpne, i_cmplt, i_cmpge, i_cmpgt, i_cmple, i_acmpeq, i_acmpne, i_ifnull, i_ifnonnull, i_getI, i_getR, i_putI, i_putZ, i_putR, i_ald, i_ldL, i_ldR, i_ast, i_stL, i_stR, i_alen, i_new, i_newa, i_iret, i_zret, i_lret, i_aret, i_vret, i_raise, i_throw, i_recv, i_objinit, i_tsw3, lget, lset, lput1, lput2, lkil, ltrim, largs, isL, takev, dropv, nthv, pushO, catv, gd, true_and, and_true, Option.some.injEq, Prod.mk.injEq, exists_eq_left', if_true, if_false, reduceCtorEq, Bool.false_eq_true, lcmp_ge, lcmp_lt, lcmp_le, lcmp_gt, lcmp_eq, true_or, or_true, not_true_eq_false, not_false_eq_true, false_implies, true_implies, List.length_cons, List.length_nil, hM, p1, h2']
      repeat (first | refine ⟨in_small (by omega) (by omega), ?_⟩ | (show (_ → _) ∧ (_ → _); first | refine ⟨by omega, fun _ => ?_⟩ | refine ⟨fun _ => ?_, by omega⟩) | refine ⟨by omega, ?_⟩ | refine ⟨⟨_, rfl, by assumption⟩, ?_⟩ | refine ⟨okT_I _, ?_⟩ | refine call0 (gd_of rfl) ?_)
      refine sp_X18_degree hp (hD.congr fun c j c1 c2 => hf.1 c j (by omega) (by omega)) fun d _ hdd => ?_
      have hdd := hdd hn
      subst hdd
      simp only [P_X16_isUni, i_kil, i_icon, i_lcon, i_null, i_loadI, i_loadL, i_loadR, i_istore, i_lstore, i_astore, i_iinc, i_dup, i_dup2, i_pop, i_iadd, i_isub, i_imul, i_idiv, i_irem, i_ineg, i_iand, i_ior, i_ishl, i_ishr, i_lxor, i_ladd, i_lsub, i_lmul, i_ldiv, i_lrem, i_lneg, i_lshl, i_lcmp, i_i2l, i_l2i, i_i2b, i_i2s, i_ifeq, i_ifne, i_iflt, i_ifge, i_ifgt, i_ifle, i_cmpeq, i_cmpne, i_cmplt, i_cmpge, i_cmpgt, i_cmple, i_acmpeq, i_acmpne, i_ifnull, i_ifnonnull, i_getI, i_getR, i_putI, i_putZ, i_putR, i_ald, i_ldL, i_ldR, i_ast, i_stL, i_stR, i_alen, i_new, i_newa, i_iret, i_zret, i_lret, i_aret, i_vret, i_raise, i_throw, i_recv, i_objinit, i_tsw3, lget, lset, lput1, lput2, lkil, ltrim, largs, isL, takev, dropv, nthv, pushO, catv, gd, true_and, and_true, Option.some.injEq, Prod.mk.injEq, exists_eq_left', if_true, if_false, reduceCtorEq, Bool.false_eq_true, lcmp_ge, lcmp_lt, lcmp_le, lcmp_gt, lcmp_eq, true_or, or_true, not_true_eq_false, not_false_eq_true, false_implies, true_implies, List.length_cons, List.length_nil, hM]
      obtain ⟨a, ha, hone⟩ := hI.one
      have hU : uniP φ := ⟨hd, hpn, a, ha, fun t ht h0 m hm hne => by
        rcases Classical.em (∃ j, j < i ∧ e j = t) with ⟨j, q1, q2⟩ | q
        · rw [← q2]; exact hone j q1 m hm hne
        · exact absurd (h5 t ht fun j hj w => q ⟨j, hj, w⟩) h0⟩
      have hat : ∀ t, t < 455 → φ t ≠ 0 → ∃ j, j < i ∧ e j = t := fun t ht h0 => by
        rcases Classical.em (∃ j, j < i ∧ e j = t) with q | q
        · exact q
        · exact absurd (h5 t ht fun j hj w => q ⟨j, hj, w⟩) h0
      obtain ⟨d, hdn, t0, ht0, h00, hdt⟩ : ∃ d : Nat, degI φ 455 = d ∧ ∃ t, t < 455 ∧ φ t ≠ 0 ∧ tdg t = d := by
        have a0 := h3 0 hn
        rcases degI_law (φ := φ) 455 with ⟨_, q⟩ | ⟨⟨t, q1, q2, q3⟩, _⟩
        · exact absurd (q (e 0) a0.1) a0.2.2.2
        · exact ⟨tdg t, q3, t, q1, q2, rfl⟩
      have hd8 : d ≤ 8 := by omega
      have top : ∀ j, j < i → tdg (e j) ≤ d := fun j hj => by
        have a0 := h3 j hj
        rcases degI_law (φ := φ) 455 with ⟨_, q⟩ | ⟨_, q⟩
        · exact absurd (q (e j) a0.1) a0.2.2.2
        · have := q (e j) a0.1 a0.2.2.2; omega
      have hg : ∀ j, j < i → (if tdg (e j) < 9 then D1 (M + 11307) (tdg (e j) : Nat) else 0) = (φ (e j)).num := fun j hj => by
        rw [if_pos (by have := top j hj; omega)]; exact hv j hj
      refine K1 _ (fun k => if k < 9 then D1 (M + 11307) (k : Nat) else 0) d hU ⟨hdn, fun t ht h0 => ?_, fun k hk => ?_⟩ hd8 ?_ (fun k => ?_) ⟨fun c j c1 c2 => ?_, fun j hj => ?_⟩ ⟨?_, fun k hk => ?_⟩
      · obtain ⟨j, q1, q2⟩ := hat t ht h0
        rw [← q2]; exact hg j q1
      · show (if k < 9 then D1 (M + 11307) (k : Nat) else 0) = 0
        split
        · rename_i hk9
          exact hz k hk9 fun j hj w => hk (e j) (h3 j hj).1 (h3 j hj).2.2.2 w
        · rfl
      · obtain ⟨j, q1, q2⟩ := hat t0 ht0 h00
        have := hg j q1
        rw [q2, hdt] at this
        show (if d < 9 then D1 (M + 11307) (d : Nat) else 0) ≠ 0
        rw [this]
        exact fun w => h00 (Rat.num_eq_zero.mp w)
      · show (if k < 9 then D1 (M + 11307) (k : Nat) else 0).natAbs ≤ 99
        rcases Classical.em (∃ j, j < i ∧ tdg (e j) = k) with ⟨j, q1, q2⟩ | q
        · have := hg j q1
          rw [q2] at this
          rw [this]
          have := (hpn (e j) (h3 j q1).1).2
          omega
        · split
          · rename_i hk9
            rw [hz k hk9 fun j hj w => q ⟨j, hj, w⟩]; decide
          · decide
      · simp only [pmu]; rw [if_neg (by omega)]; exact hf.1 c j c1 c2
      · simp only [pmu]; rw [if_neg (by omega)]; exact hf.2 j hj
      · simp only [pmu]; rw [if_pos ⟨trivial, trivial⟩]; exact hdn
      · simp only [pmu]; rw [if_neg (by omega)]
        show D1 (M + 11307) (k : Nat) = if k ≤ d then (if k < 9 then D1 (M + 11307) (k : Nat) else 0) else 0
        rw [if_pos hk]
        split
        · rfl
        · exact hz k hk fun j hj w => by have := top j hj; omega
    | succ L ih =>
      intro i l D1 hi hd hpn hI hf hv hz
      have h2' : D1 p 0 = n := by rw [hf.1 _ _ (by omega) (by omega)]; exact h2
      obtain ⟨a1, a2, a3, a4⟩ := h3 i (by omega)
      have a2' : D1 (p + 1) i = tcode (e i) := by rw [hf.1 _ _ (by omega) (by omega)]; exact a2
      obtain ⟨m1, m2⟩ := p5.2 i (by omega)
      have inner : ∀ (J b : Nat) (l : Int), b + J = 3 → uniJ e i b l → Wp P_X16_isUni E 4 [some (aR M), some (aR p), some (aI l), some (aI i), some (aI b)] [] B S D1 := by
        intro J
        induction J with
        | zero =>
          intro b l hb hJ
          have : b = 3 := by omega
          subst this
          have hI' := hJ.toI
          obtain ⟨c, hc, hone⟩ := hI'.one
          refine wp_in ?_
          simp only [P_X16_isUni, i_kil, i_icon, i_lcon, i_null, i_loadI, i_loadL, i_loadR, i_istore, i_lstore, i_astore, i_iinc, i_dup, i_dup2, i_pop, i_iadd, i_isub, i_imul, i_idiv, i_irem, i_ineg, i_iand, i_ior, i_ishl, i_ishr, i_lxor, i_ladd, i_lsub, i_lmul, i_ldiv, i_lrem, i_lneg, i_lshl, i_lcmp, i_i2l, i_l2i, i_i2b, i_i2s, i_ifeq, i_ifne, i_iflt, i_ifge, i_ifgt, i_ifle, i_cmpeq, i_cmpne, i_cmplt, i_cmpge, i_cmpgt, i_cmple, i_acmpeq, i_acmpne, i_ifnull, i_ifnonnull, i_getI, i_getR, i_putI, i_putZ, i_putR, i_ald, i_ldL, i_ldR, i_ast, i_stL, i_stR, i_alen, i_new, i_newa, i_iret, i_zret, i_lret, i_aret, i_vret, i_raise, i_throw, i_recv, i_objinit, i_tsw3, lget, lset, lput1, lput2, lkil, ltrim, largs, isL, takev, dropv, nthv, pushO, catv, gd, true_and, and_true, Option.some.injEq, Prod.mk.injEq, exists_eq_left', if_true, if_false, reduceCtorEq, Bool.false_eq_true, lcmp_ge, lcmp_lt, lcmp_le, lcmp_gt, lcmp_eq, true_or, or_true, not_true_eq_false, not_false_eq_true, false_implies, true_implies, List.length_cons, List.length_nil, hM, u1, p1, p2, p3, a2']
          repeat (first | refine ⟨in_small (by omega) (by omega), ?_⟩ | (show (_ → _) ∧ (_ → _); first | refine ⟨by omega, fun _ => ?_⟩ | refine ⟨fun _ => ?_, by omega⟩) | refine ⟨by omega, ?_⟩ | refine ⟨⟨_, rfl, by assumption⟩, ?_⟩ | refine ⟨okT_I _, ?_⟩ | refine call0 (gd_of rfl) ?_)
          refine degreeOf_at a1 rfl ?_
          have m21 := m2.1
          simp only [P_X16_isUni, i_kil, i_icon, i_lcon, i_null, i_loadI, i_loadL, i_loadR, i_istore, i_lstore, i_astore, i_iinc, i_dup, i_dup2, i_pop, i_iadd, i_isub, i_imul, i_idiv, i_irem, i_ineg, i_iand, i_ior, i_ishl, i_ishr, i_lxor, i_ladd, i_lsub, i_lmul, i_ldiv, i_lrem, i_lneg, i_lshl, i_lcmp, i_i2l, i_l2i, i_i2b, i_i2s, i_ifeq, i_ifne, i_iflt, i_ifge, i_ifgt, i_ifle, i_cmpeq, i_cmpne, i_cmplt, i_cmpge, i_cmpgt, i_cmple, i_acmpeq, i_acmpne, i_ifnull, i_ifnonnull, i_getI, i_getR, i_putI, i_putZ, i_putR, i_ald, i_ldL, i_ldR, i_ast, i_stL, i_stR, i_alen, i_new, i_newa, i_iret, i_zret, i_lret, i_aret, i_vret, i_raise, i_throw, i_recv, i_objinit, i_tsw3, lget, lset, lput1, lput2, lkil, ltrim, largs, isL, takev, dropv, nthv, pushO, catv, gd, true_and, and_true, Option.some.injEq, Prod.mk.injEq, exists_eq_left', if_true, if_false, reduceCtorEq, Bool.false_eq_true, lcmp_ge, lcmp_lt, lcmp_le, lcmp_gt, lcmp_eq, true_or, or_true, not_true_eq_false, not_false_eq_true, false_implies, true_implies, List.length_cons, List.length_nil, p1, p4, p51, m1, m21]
          repeat (first | refine ⟨in_small (by omega) (by omega), ?_⟩ | (show (_ → _) ∧ (_ → _); first | refine ⟨by omega, fun _ => ?_⟩ | refine ⟨fun _ => ?_, by omega⟩) | refine ⟨by omega, ?_⟩ | refine ⟨⟨_, rfl, by assumption⟩, ?_⟩ | refine ⟨okT_I _, ?_⟩ | refine call0 (gd_of rfl) ?_)
          have hq := hpn (e i) a1
          refine sp_X17_plain m2 (a3.1.congr (fun j => hf.1 _ j (by omega) (by omega)) fun j => hf.1 _ j (by omega) (by omega)) (by omega) (by omega) (by omega) (z99_14 hq.2) ?_
          have hdi := dg hd i (by omega)
          simp only [P_X16_isUni, i_kil, i_icon, i_lcon, i_null, i_loadI, i_loadL, i_loadR, i_istore, i_lstore, i_astore, i_iinc, i_dup, i_dup2, i_pop, i_iadd, i_isub, i_imul, i_idiv, i_irem, i_ineg, i_iand, i_ior, i_ishl, i_ishr, i_lxor, i_ladd, i_lsub, i_lmul, i_ldiv, i_lrem, i_lneg, i_lshl, i_lcmp, i_i2l, i_l2i, i_i2b, i_i2s, i_ifeq, i_ifne, i_iflt, i_ifge, i_ifgt, i_ifle, i_cmpeq, i_cmpne, i_cmplt, i_cmpge, i_cmpgt, i_cmple, i_acmpeq, i_acmpne, i_ifnull, i_ifnonnull, i_getI, i_getR, i_putI, i_putZ, i_putR, i_ald, i_ldL, i_ldR, i_ast, i_stL, i_stR, i_alen, i_new, i_newa, i_iret, i_zret, i_lret, i_aret, i_vret, i_raise, i_throw, i_recv, i_objinit, i_tsw3, lget, lset, lput1, lput2, lkil, ltrim, largs, isL, takev, dropv, nthv, pushO, catv, gd, true_and, and_true, Option.some.injEq, Prod.mk.injEq, exists_eq_left', if_true, if_false, reduceCtorEq, Bool.false_eq_true, lcmp_ge, lcmp_lt, lcmp_le, lcmp_gt, lcmp_eq, true_or, or_true, not_true_eq_false, not_false_eq_true, false_implies, true_implies, List.length_cons, List.length_nil, u2]
          repeat (first | refine ⟨in_small (by omega) (by omega), ?_⟩ | (show (_ → _) ∧ (_ → _); first | refine ⟨by omega, fun _ => ?_⟩ | refine ⟨fun _ => ?_, by omega⟩) | refine ⟨by omega, ?_⟩ | refine ⟨⟨_, rfl, by assumption⟩, ?_⟩ | refine ⟨okT_I _, ?_⟩ | refine ⟨okT_S (by omega) (by omega), ?_⟩ | refine ⟨okT_B (by omega) (by omega), ?_⟩ | refine call0 (gd_of rfl) ?_)
          refine ih (i + 1) l _ (by omega) hd hpn hI' ⟨fun c j c1 c2 => ?_, fun j hj => ?_⟩ (fun j hj => ?_) fun k hk hne => ?_
          · simp only [pmu]; rw [if_neg (by omega)]; exact hf.1 c j c1 c2
          · simp only [pmu]; rw [if_neg (by omega)]; exact hf.2 j hj
          · simp only [pmu]
            rcases Nat.decEq j i with q | q
            · have hjn : tdg (e j) ≠ tdg (e i) := fun w => by
                have := uni_ext hc (h3 j (by omega)).1 a1 (hone j hj) (hone i (by omega)) w
                have := h4 j i (by omega) (by omega)
                omega
              rw [if_neg (by omega)]
              exact hv j (by omega)
            · subst q
              rw [if_pos ⟨trivial, rfl⟩]
          · simp only [pmu]
            have := hne i (by omega)
            rw [if_neg (by omega)]
            exact hz k hk fun j hj => hne j (by omega)
        | succ J ihJ =>
          intro b l hb hJ
          have go : ∀ l', uniJ e i (b + 1) l' → Wp P_X16_isUni E 6 [some (aR M), some (aR p), some (aI l'), some (aI i), some (aI b)] [] B S D1 := fun l' hl' => by
            refine wp_in ?_
            simp only [P_X16_isUni, i_kil, i_icon, i_lcon, i_null, i_loadI, i_loadL, i_loadR, i_istore, i_lstore, i_astore, i_iinc, i_dup, i_dup2, i_pop, i_iadd, i_isub, i_imul, i_idiv, i_irem, i_ineg, i_iand, i_ior, i_ishl, i_ishr, i_lxor, i_ladd, i_lsub, i_lmul, i_ldiv, i_lrem, i_lneg, i_lshl, i_lcmp, i_i2l, i_l2i, i_i2b, i_i2s, i_ifeq, i_ifne, i_iflt, i_ifge, i_ifgt, i_ifle, i_cmpeq, i_cmpne, i_cmplt, i_cmpge, i_cmpgt, i_cmple, i_acmpeq, i_acmpne, i_ifnull, i_ifnonnull, i_getI, i_getR, i_putI, i_putZ, i_putR, i_ald, i_ldL, i_ldR, i_ast, i_stL, i_stR, i_alen, i_new, i_newa, i_iret, i_zret, i_lret, i_aret, i_vret, i_raise, i_throw, i_recv, i_objinit, i_tsw3, lget, lset, lput1, lput2, lkil, ltrim, largs, isL, takev, dropv, nthv, pushO, catv, gd, true_and, and_true, Option.some.injEq, Prod.mk.injEq, exists_eq_left', if_true, if_false, reduceCtorEq, Bool.false_eq_true, lcmp_ge, lcmp_lt, lcmp_le, lcmp_gt, lcmp_eq, true_or, or_true, not_true_eq_false, not_false_eq_true, false_implies, true_implies, List.length_cons, List.length_nil]
            repeat (first | refine ⟨in_small (by omega) (by omega), ?_⟩ | (show (_ → _) ∧ (_ → _); first | refine ⟨by omega, fun _ => ?_⟩ | refine ⟨fun _ => ?_, by omega⟩) | refine ⟨by omega, ?_⟩ | refine ⟨⟨_, rfl, by assumption⟩, ?_⟩ | refine ⟨okT_I _, ?_⟩ | refine ⟨okT_S (by omega) (by omega), ?_⟩ | refine ⟨okT_B (by omega) (by omega), ?_⟩ | refine call0 (gd_of rfl) ?_)
            exact ihJ (b + 1) l' (by omega) hl'
          have five : uniJ e i (b + 1) b → Wp P_X16_isUni E 5 [some (aR M), some (aR p), none, some (aI i), some (aI b)] [] B S D1 := fun hl' => by
            refine wp_in ?_
            simp only [P_X16_isUni, i_kil, i_icon, i_lcon, i_null, i_loadI, i_loadL, i_loadR, i_istore, i_lstore, i_astore, i_iinc, i_dup, i_dup2, i_pop, i_iadd, i_isub, i_imul, i_idiv, i_irem, i_ineg, i_iand, i_ior, i_ishl, i_ishr, i_lxor, i_ladd, i_lsub, i_lmul, i_ldiv, i_lrem, i_lneg, i_lshl, i_lcmp, i_i2l, i_l2i, i_i2b, i_i2s, i_ifeq, i_ifne, i_iflt, i_ifge, i_ifgt, i_ifle, i_cmpeq, i_cmpne, i_cmplt, i_cmpge, i_cmpgt, i_cmple, i_acmpeq, i_acmpne, i_ifnull, i_ifnonnull, i_getI, i_getR, i_putI, i_putZ, i_putR, i_ald, i_ldL, i_ldR, i_ast, i_stL, i_stR, i_alen, i_new, i_newa, i_iret, i_zret, i_lret, i_aret, i_vret, i_raise, i_throw, i_recv, i_objinit, i_tsw3, lget, lset, lput1, lput2, lkil, ltrim, largs, isL, takev, dropv, nthv, pushO, catv, gd, true_and, and_true, Option.some.injEq, Prod.mk.injEq, exists_eq_left', if_true, if_false, reduceCtorEq, Bool.false_eq_true, lcmp_ge, lcmp_lt, lcmp_le, lcmp_gt, lcmp_eq, true_or, or_true, not_true_eq_false, not_false_eq_true, false_implies, true_implies, List.length_cons, List.length_nil]
            exact go b hl'
          refine wp_in ?_
          simp only [P_X16_isUni, i_kil, i_icon, i_lcon, i_null, i_loadI, i_loadL, i_loadR, i_istore, i_lstore, i_astore, i_iinc, i_dup, i_dup2, i_pop, i_iadd, i_isub, i_imul, i_idiv, i_irem, i_ineg, i_iand, i_ior, i_ishl, i_ishr, i_lxor, i_ladd, i_lsub, i_lmul, i_ldiv, i_lrem, i_lneg, i_lshl, i_lcmp, i_i2l, i_l2i, i_i2b, i_i2s, i_ifeq, i_ifne, i_iflt, i_ifge, i_ifgt, i_ifle, i_cmpeq, i_cmpne, i_cmplt, i_cmpge, i_cmpgt, i_cmple, i_acmpeq, i_acmpne, i_ifnull, i_ifnonnull, i_getI, i_getR, i_putI, i_putZ, i_putR, i_ald, i_ldL, i_ldR, i_ast, i_stL, i_stR, i_alen, i_new, i_newa, i_iret, i_zret, i_lret, i_aret, i_vret, i_raise, i_throw, i_recv, i_objinit, i_tsw3, lget, lset, lput1, lput2, lkil, ltrim, largs, isL, takev, dropv, nthv, pushO, catv, gd, true_and, and_true, Option.some.injEq, Prod.mk.injEq, exists_eq_left', if_true, if_false, reduceCtorEq, Bool.false_eq_true, lcmp_ge, lcmp_lt, lcmp_le, lcmp_gt, lcmp_eq, true_or, or_true, not_true_eq_false, not_false_eq_true, false_implies, true_implies, List.length_cons, List.length_nil, p1, p2, p3, a2']
          repeat (first | refine ⟨in_small (by omega) (by omega), ?_⟩ | (show (_ → _) ∧ (_ → _); first | refine ⟨by omega, fun _ => ?_⟩ | refine ⟨fun _ => ?_, by omega⟩) | refine ⟨by omega, ?_⟩ | refine ⟨⟨_, rfl, by assumption⟩, ?_⟩ | refine ⟨okT_I _, ?_⟩ | refine call0 (gd_of rfl) ?_)
          refine sp_X16_exponent (l := b) a1 (by omega) rfl ?_
          simp only [P_X16_isUni, i_kil, i_icon, i_lcon, i_null, i_loadI, i_loadL, i_loadR, i_istore, i_lstore, i_astore, i_iinc, i_dup, i_dup2, i_pop, i_iadd, i_isub, i_imul, i_idiv, i_irem, i_ineg, i_iand, i_ior, i_ishl, i_ishr, i_lxor, i_ladd, i_lsub, i_lmul, i_ldiv, i_lrem, i_lneg, i_lshl, i_lcmp, i_i2l, i_l2i, i_i2b, i_i2s, i_ifeq, i_ifne, i_iflt, i_ifge, i_ifgt, i_ifle, i_cmpeq, i_cmpne, i_cmplt, i_cmpge, i_cmpgt, i_cmple, i_acmpeq, i_acmpne, i_ifnull, i_ifnonnull, i_getI, i_getR, i_putI, i_putZ, i_putR, i_ald, i_ldL, i_ldR, i_ast, i_stL, i_stR, i_alen, i_new, i_newa, i_iret, i_zret, i_lret, i_aret, i_vret, i_raise, i_throw, i_recv, i_objinit, i_tsw3, lget, lset, lput1, lput2, lkil, ltrim, largs, isL, takev, dropv, nthv, pushO, catv, gd, true_and, and_true, Option.some.injEq, Prod.mk.injEq, exists_eq_left', if_true, if_false, reduceCtorEq, Bool.false_eq_true, lcmp_ge, lcmp_lt, lcmp_le, lcmp_gt, lcmp_eq, true_or, or_true, not_true_eq_false, not_false_eq_true, false_implies, true_implies, List.length_cons, List.length_nil]
          refine ⟨fun w => go l (hJ.no (by omega)), fun w => ?_⟩
          have h0 : txl b (e i) ≠ 0 := by omega
          refine ⟨fun w => five (hJ.yes (by omega) h0 (.inl w)), fun w => ?_⟩
          refine ⟨fun w2 => five (hJ.yes (by omega) h0 (.inr w2)), fun w2 => ?_⟩
          refine K0 D1 (fun hU => ?_) hf
          obtain ⟨c, j, c1, c2, c3, c4⟩ := hJ.bad (by omega) h0 (by omega) (by omega)
          obtain ⟨-, -, l0, q1, q2⟩ := hU
          have e1 := h3 j (by omega)
          rcases Nat.decEq c l0 with q | q
          · exact c4 (q2 (e j) e1.1 e1.2.2.2 c c1 q)
          · exact h0 (q2 (e i) a1 a4 b (by omega) (by omega))
      refine wp_in ?_
      simp only [P_X16_isUni, i_kil, i_icon, i_lcon, i_null, i_loadI, i_loadL, i_loadR, i_istore, i_lstore, i_astore, i_iinc, i_dup, i_dup2, i_pop, i_iadd, i_isub, i_imul, i_idiv, i_irem, i_ineg, i_iand, i_ior, i_ishl, i_ishr, i_lxor, i_ladd, i_lsub, i_lmul, i_ldiv, i_lrem, i_lneg, i_lshl, i_lcmp, i_i2l, i_l2i, i_i2b, i_i2s, i_ifeq, i_ifne, i_iflt, i_ifge, i_ifgt, i_ifle, i_cmpeq, i_cmpne, i_cmplt, i_cmpge, i_cmpgt, i_cmple, i_acmpeq, i_acmpne, i_ifnull, i_ifnonnull, i_getI, i_getR, i_putI, i_putZ, i_putR, i_ald, i_ldL, i_ldR, i_ast, i_stL, i_stR, i_alen, i_new, i_newa, i_iret, i_zret, i_lret, i_aret, i_vret, i_raise, i_throw, i_recv, i_objinit, i_tsw3, lget, lset, lput1, lput2, lkil, ltrim, largs, isL, takev, dropv, nthv, pushO, catv, gd, true_and, and_true, Option.some.injEq, Prod.mk.injEq, exists_eq_left', if_true, if_false, reduceCtorEq, Bool.false_eq_true, lcmp_ge, lcmp_lt, lcmp_le, lcmp_gt, lcmp_eq, true_or, or_true, not_true_eq_false, not_false_eq_true, false_implies, true_implies, List.length_cons, List.length_nil, p1, h2']
      repeat (first | refine ⟨in_small (by omega) (by omega), ?_⟩ | (show (_ → _) ∧ (_ → _); first | refine ⟨by omega, fun _ => ?_⟩ | refine ⟨fun _ => ?_, by omega⟩) | refine ⟨by omega, ?_⟩ | refine ⟨⟨_, rfl, by assumption⟩, ?_⟩ | refine ⟨okT_I _, ?_⟩ | refine call0 (gd_of rfl) ?_)
      exact inner 3 0 l rfl hI.toJ
  -- the row emptied
  have zero : ∀ (L k : Nat) (D1 : Dat), k + L = 9 → degI φ 455 ≤ 8 → isPln φ 99 → muO M D D1 → (∀ j : Nat, j < k → D1 (M + 11307) j = 0) → Wp P_X16_isUni E 2 [some (aR M), some (aR p), some (aI (-1)), some (aI k)] [] B S D1 := by
    intro L
    induction L with
    | zero =>
      intro k D1 hk hd hpn hf hz
      have : k = 9 := by omega
      subst this
      refine wp_in ?_
      simp only [P_X16_isUni, i_kil, i_icon, i_lcon, i_null, i_loadI, i_loadL, i_loadR, i_istore, i_lstore, i_astore, i_iinc, i_dup, i_dup2, i_pop, i_iadd, i_isub, i_imul, i_idiv, i_irem, i_ineg, i_iand, i_ior, i_ishl, i_ishr, i_lxor, i_ladd, i_lsub, i_lmul, i_ldiv, i_lrem, i_lneg, i_lshl, i_lcmp, i_i2l, i_l2i, i_i2b, i_i2s, i_ifeq, i_ifne, i_iflt, i_ifge, i_ifgt, i_ifle, i_cmpeq, i_cmpne, i_cmplt, i_cmpge, i_cmpgt, i_cmple, i_acmpeq, i_acmpne, i_ifnull, i_ifnonnull, i_getI, i_getR, i_putI, i_putZ, i_putR, i_ald, i_ldL, i_ldR, i_ast, i_stL, i_stR, i_alen, i_new, i_newa, i_iret, i_zret, i_lret, i_aret, i_vret, i_raise, i_throw, i_recv, i_objinit, i_tsw3, lget, lset, lput1, lput2, lkil, ltrim, largs, isL, takev, dropv, nthv, pushO, catv, gd, true_and, and_true, Option.some.injEq, Prod.mk.injEq, exists_eq_left', if_true, if_false, reduceCtorEq, Bool.false_eq_true, lcmp_ge, lcmp_lt, lcmp_le, lcmp_gt, lcmp_eq, true_or, or_true, not_true_eq_false, not_false_eq_true, false_implies, true_implies, List.length_cons, List.length_nil]
      repeat (first | refine ⟨in_small (by omega) (by omega), ?_⟩ | (show (_ → _) ∧ (_ → _); first | refine ⟨by omega, fun _ => ?_⟩ | refine ⟨fun _ => ?_, by omega⟩) | refine ⟨by omega, ?_⟩ | refine ⟨⟨_, rfl, by assumption⟩, ?_⟩ | refine ⟨okT_I _, ?_⟩ | refine call0 (gd_of rfl) ?_)
      exact main n 0 (-1) D1 (by omega) hd hpn (.inl ⟨rfl, fun j hj => absurd hj (Nat.not_lt_zero _)⟩) hf (fun j hj => absurd hj (Nat.not_lt_zero _)) fun k hk _ => hz k hk
    | succ L ih =>
      intro k D1 hk hd hpn hf hz
      refine wp_in ?_
      simp only [P_X16_isUni, i_kil, i_icon, i_lcon, i_null, i_loadI, i_loadL, i_loadR, i_istore, i_lstore, i_astore, i_iinc, i_dup, i_dup2, i_pop, i_iadd, i_isub, i_imul, i_idiv, i_irem, i_ineg, i_iand, i_ior, i_ishl, i_ishr, i_lxor, i_ladd, i_lsub, i_lmul, i_ldiv, i_lrem, i_lneg, i_lshl, i_lcmp, i_i2l, i_l2i, i_i2b, i_i2s, i_ifeq, i_ifne, i_iflt, i_ifge, i_ifgt, i_ifle, i_cmpeq, i_cmpne, i_cmplt, i_cmpge, i_cmpgt, i_cmple, i_acmpeq, i_acmpne, i_ifnull, i_ifnonnull, i_getI, i_getR, i_putI, i_putZ, i_putR, i_ald, i_ldL, i_ldR, i_ast, i_stL, i_stR, i_alen, i_new, i_newa, i_iret, i_zret, i_lret, i_aret, i_vret, i_raise, i_throw, i_recv, i_objinit, i_tsw3, lget, lset, lput1, lput2, lkil, ltrim, largs, isL, takev, dropv, nthv, pushO, catv, gd, true_and, and_true, Option.some.injEq, Prod.mk.injEq, exists_eq_left', if_true, if_false, reduceCtorEq, Bool.false_eq_true, lcmp_ge, lcmp_lt, lcmp_le, lcmp_gt, lcmp_eq, true_or, or_true, not_true_eq_false, not_false_eq_true, false_implies, true_implies, List.length_cons, List.length_nil, hM, u1, u2]
      repeat (first | refine ⟨in_small (by omega) (by omega), ?_⟩ | (show (_ → _) ∧ (_ → _); first | refine ⟨by omega, fun _ => ?_⟩ | refine ⟨fun _ => ?_, by omega⟩) | refine ⟨by omega, ?_⟩ | refine ⟨⟨_, rfl, by assumption⟩, ?_⟩ | refine ⟨okT_I _, ?_⟩ | refine ⟨okT_S (by omega) (by omega), ?_⟩ | refine ⟨okT_B (by omega) (by omega), ?_⟩ | refine call0 (gd_of rfl) ?_)
      refine ih (k + 1) _ (by omega) hd hpn ⟨fun c j c1 c2 => ?_, fun j hj => ?_⟩ fun j hj => ?_
      · simp only [pmu]; rw [if_neg (by omega)]; exact hf.1 c j c1 c2
      · simp only [pmu]; rw [if_neg (by omega)]; exact hf.2 j hj
      · simp only [pmu]
        split
        · rfl
        · rename_i h
          exact hz j (by have : j ≠ k := fun q => h ⟨trivial, by rw [q]⟩
                         omega)
  refine wp_in ?_
  simp only [P_X16_isUni, i_kil, i_icon, i_lcon, i_null, i_loadI, i_loadL, i_loadR, i_istore, i_lstore, i_astore, i_iinc, i_dup, i_dup2, i_pop, i_iadd, i_isub, i_imul, i_idiv, i_irem, i_ineg, i_iand, i_ior, i_ishl, i_ishr, i_lxor, i_ladd, i_lsub, i_lmul, i_ldiv, i_lrem, i_lneg, i_lshl, i_lcmp, i_i2l, i_l2i, i_i2b, i_i2s, i_ifeq, i_ifne, i_iflt, i_ifge, i_ifgt, i_ifle, i_cmpeq, i_cmpne, i_cmplt, i_cmpge, i_cmpgt, i_cmple, i_acmpeq, i_acmpne, i_ifnull, i_ifnonnull, i_getI, i_getR, i_putI, i_putZ, i_putR, i_ald, i_ldL, i_ldR, i_ast, i_stL, i_stR, i_alen, i_new, i_newa, i_iret, i_zret, i_lret, i_aret, i_vret, i_raise, i_throw, i_recv, i_objinit, i_tsw3, lget, lset, lput1, lput2, lkil, ltrim, largs, isL, takev, dropv, nthv, pushO, catv, gd, true_and, and_true, Option.some.injEq, Prod.mk.injEq, exists_eq_left', if_true, if_false, reduceCtorEq, Bool.false_eq_true, lcmp_ge, lcmp_lt, lcmp_le, lcmp_gt, lcmp_eq, true_or, or_true, not_true_eq_false, not_false_eq_true, false_implies, true_implies, List.length_cons, List.length_nil, hM, p1]
  repeat (first | refine ⟨in_small (by omega) (by omega), ?_⟩ | (show (_ → _) ∧ (_ → _); first | refine ⟨by omega, fun _ => ?_⟩ | refine ⟨fun _ => ?_, by omega⟩) | refine ⟨by omega, ?_⟩ | refine ⟨⟨_, rfl, by assumption⟩, ?_⟩ | refine ⟨okT_I _, ?_⟩ | refine call0 (gd_of rfl) ?_)
  refine sp_X18_degree hp hD fun d _ hdd => ?_
  have hdd := hdd hn
  subst hdd
  simp only [P_X16_isUni, i_kil, i_icon, i_lcon, i_null, i_loadI, i_loadL, i_loadR, i_istore, i_lstore, i_astore, i_iinc, i_dup, i_dup2, i_pop, i_iadd, i_isub, i_imul, i_idiv, i_irem, i_ineg, i_iand, i_ior, i_ishl, i_ishr, i_lxor, i_ladd, i_lsub, i_lmul, i_ldiv, i_lrem, i_lneg, i_lshl, i_lcmp, i_i2l, i_l2i, i_i2b, i_i2s, i_ifeq, i_ifne, i_iflt, i_ifge, i_ifgt, i_ifle, i_cmpeq, i_cmpne, i_cmplt, i_cmpge, i_cmpgt, i_cmple, i_acmpeq, i_acmpne, i_ifnull, i_ifnonnull, i_getI, i_getR, i_putI, i_putZ, i_putR, i_ald, i_ldL, i_ldR, i_ast, i_stL, i_stR, i_alen, i_new, i_newa, i_iret, i_zret, i_lret, i_aret, i_vret, i_raise, i_throw, i_recv, i_objinit, i_tsw3, lget, lset, lput1, lput2, lkil, ltrim, largs, isL, takev, dropv, nthv, pushO, catv, gd, true_and, and_true, Option.some.injEq, Prod.mk.injEq, exists_eq_left', if_true, if_false, reduceCtorEq, Bool.false_eq_true, lcmp_ge, lcmp_lt, lcmp_le, lcmp_gt, lcmp_eq, true_or, or_true, not_true_eq_false, not_false_eq_true, false_implies, true_implies, List.length_cons, List.length_nil, hM, p1]
  refine ⟨fun w => no D (fun hU => ?_) f0, fun w => ?_⟩
  · have := hU.1; omega
  repeat (first | refine ⟨in_small (by omega) (by omega), ?_⟩ | (show (_ → _) ∧ (_ → _); first | refine ⟨by omega, fun _ => ?_⟩ | refine ⟨fun _ => ?_, by omega⟩) | refine ⟨by omega, ?_⟩ | refine ⟨⟨_, rfl, by assumption⟩, ?_⟩ | refine ⟨okT_I _, ?_⟩ | refine call0 (gd_of rfl) ?_)
  refine sp_X18_isPlain hp ⟨n, e, hD⟩ (by omega) fun v v1 v2 => ?_
  simp only [P_X16_isUni, i_kil, i_icon, i_lcon, i_null, i_loadI, i_loadL, i_loadR, i_istore, i_lstore, i_astore, i_iinc, i_dup, i_dup2, i_pop, i_iadd, i_isub, i_imul, i_idiv, i_irem, i_ineg, i_iand, i_ior, i_ishl, i_ishr, i_lxor, i_ladd, i_lsub, i_lmul, i_ldiv, i_lrem, i_lneg, i_lshl, i_lcmp, i_i2l, i_l2i, i_i2b, i_i2s, i_ifeq, i_ifne, i_iflt, i_ifge, i_ifgt, i_ifle, i_cmpeq, i_cmpne, i_cmplt, i_cmpge, i_cmpgt, i_cmple, i_acmpeq, i_acmpne, i_ifnull, i_ifnonnull, i_getI, i_getR, i_putI, i_putZ, i_putR, i_ald, i_ldL, i_ldR, i_ast, i_stL, i_stR, i_alen, i_new, i_newa, i_iret, i_zret, i_lret, i_aret, i_vret, i_raise, i_throw, i_recv, i_objinit, i_tsw3, lget, lset, lput1, lput2, lkil, ltrim, largs, isL, takev, dropv, nthv, pushO, catv, gd, true_and, and_true, Option.some.injEq, Prod.mk.injEq, exists_eq_left', if_true, if_false, reduceCtorEq, Bool.false_eq_true, lcmp_ge, lcmp_lt, lcmp_le, lcmp_gt, lcmp_eq, true_or, or_true, not_true_eq_false, not_false_eq_true, false_implies, true_implies, List.length_cons, List.length_nil, hM, p1]
  refine ⟨fun w2 => zero 9 0 D rfl (by omega) (v2.mp (by omega)) f0 fun j hj => absurd hj (Nat.not_lt_zero _), fun w2 => no D (fun hU => ?_) f0⟩
  have := v2.mpr hU.2.1
  omega
end MISU
