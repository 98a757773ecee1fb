/-! objects are made: what a constructor leaves -/
-- needs: fi.cnarr ep.mclo2
set_option maxRecDepth 100000
set_option linter.unusedVariables false
/-- S', D' go on from S, D: of what stood, the object p alone has changed -/
def bE (p : Nat) (S S' : Stat) (D D' : Dat) : Prop := S.2.2 ≤ S'.2.2 ∧ (∀ a, a < S.2.2 → S'.1 a = S.1 a) ∧ (∀ a i, a < S.2.2 → a ≠ p → S'.2.1 a i = S.2.1 a i) ∧ ∀ a i, a < S.2.2 → a ≠ p → D' a i = D a i
theorem bE.rfl {p : Nat} {S : Stat} {D : Dat} : bE p S S D D := ⟨Nat.le_refl _, fun _ _ => Eq.refl _, fun _ _ _ _ => Eq.refl _, fun _ _ _ _ => Eq.refl _⟩
theorem bE.tr {p : Nat} {S S1 S2 : Stat} {D D1 D2 : Dat} (h : bE p S S1 D D1) (k : bE p S1 S2 D1 D2) : bE p S S2 D D2 :=
  ⟨Nat.le_trans h.1 k.1, fun a ha => by rw [k.2.1 a (Nat.lt_of_lt_of_le ha h.1), h.2.1 a ha], fun a i ha hn => by rw [k.2.2.1 a i (Nat.lt_of_lt_of_le ha h.1) hn, h.2.2.1 a i ha hn], fun a i ha hn => by rw [k.2.2.2 a i (Nat.lt_of_lt_of_le ha h.1) hn, h.2.2.2 a i ha hn]⟩
/-- what hangs on the cells from q on alone -/
def Loc (X : Stat → Dat → Nat → Prop) (sz : Nat) : Prop := ∀ (S S' : Stat) (D D' : Dat) (q : Nat), (∀ c, q ≤ c → c < q + sz → S'.1 c = S.1 c ∧ (∀ i, S'.2.1 c i = S.2.1 c i) ∧ ∀ i, D' c i = D c i) → X S D q → X S' D' q
theorem Loc.go {X : Stat → Dat → Nat → Prop} {sz p q : Nat} {S S' : Stat} {D D' : Dat} (h : Loc X sz) (b : bE p S S' D D') (hq : q + sz ≤ S.2.2) (hp : p < q ∨ q + sz ≤ p) (x : X S D q) : X S' D' q :=
  h S S' D D' q (fun c c1 c2 => ⟨b.2.1 c (by omega), fun i => b.2.2.1 c i (by omega) (by omega), fun i => b.2.2.2 c i (by omega) (by omega)⟩) x
/-- what a constructor promises: on a fresh object q of class c -/
def Mk (P : Prg) (c : Nat) (as : Nat → List (Option PV)) (m1 m2 : Nat) (X : Stat → Dat → Nat → Prop) (sz : Nat) : Prop := ∀ (E : Ex) (B : Nat × Nat) (S : Stat) (D : Dat) (q : Nat), B.1 = m1 ∧ B.2 = m2 → S.1 q = some (c, 0) → S.2.2 = q + 1 → (∀ i, S.2.1 q i = none) → (∀ i, D q i = 0) →
  (∀ (B' : Nat × Nat) (S' : Stat) (D' : Dat), X S' D' q → S'.2.2 = q + sz → bE q S S' D D' → E (.inl none) B' S' D') → Wp P E 0 (as q) [] B S D
theorem newB {B : Nat × Nat} {n : Nat} {Q : Nat → Nat → Prop} (hB : 1 ≤ B.1 ∧ n ≤ B.2) (h : Q (B.1 - 1) (B.2 - n)) : ∃ b1 b2, B = (b1 + 1, b2 + n) ∧ Q b1 b2 :=
  ⟨B.1 - 1, B.2 - n, Prod.ext (by show B.1 = B.1 - 1 + 1; omega) (by show B.2 = B.2 - n + n; omega), h⟩
section FLD
variable {S : Stat} {D : Dat} {B : Nat × Nat} {p : Nat}
/-- a field gets a new object -/
theorem fld {P : Prg} {cc c nf m1 m2 n w sz : Nat} {k : Int} {K : Tm} {ls : List (Option PV)} {st st0 : List PV} {as : Nat → List (Option PV)} {X : Stat → Dat → Nat → Prop}
    (hM : Mk P c as m1 m2 X sz) (hL : Loc X sz) (hB : m1 + 1 ≤ B.1 ∧ m2 + nf ≤ B.2) (hp : p < S.2.2) (o : S.1 p = some (cc, 0)) (hsz : 1 ≤ sz) (hg : gdb st n w = true) (ha : largs (takev st n []) = as S.2.2) (hd : dropv st n = .inr (.inr (some S.2.2)) :: .inr (.inr (some p)) :: st0)
    (hK : ∀ (B' : Nat × Nat) (S' : Stat) (D' : Dat), (B.1 ≤ B'.1 + (m1 + 1) ∧ B.2 ≤ B'.2 + (m2 + nf)) → bE p S S' D D' → S'.2.2 = S.2.2 + sz → (∀ i, S'.2.1 p i = if i = k then some S.2.2 else S.2.1 p i) → (∀ i, D' p i = D p i) → X S' D' S.2.2 → K ls st0 B' S' D') :
    ∃ b1 b2, B = (b1 + 1, b2 + nf) ∧ (∃ b, (Sum.inr (Sum.inr (some S.2.2)) : PV) = Sum.inr (Sum.inr (some b)) ∧ (mkS S c 0).1 b = some (c, 0)) ∧ i_call (i_putR K cc k) P n w i_none ls st (b1, b2) (mkS S c 0) (mkD S D) := by
  refine newB (by omega) ⟨⟨_, rfl, if_pos rfl⟩, callB m1 m2 (by show m1 ≤ B.1 - 1 ∧ m2 ≤ B.2 - nf; omega) (gd_of hg) ?_⟩
  rw [ha]
  refine hM _ _ _ _ S.2.2 ⟨rfl, rfl⟩ (if_pos rfl) rfl (fun i => if_pos rfl) (fun i => if_pos rfl) fun B1 S1 D1 x1 x2 x3 => ?_
  have e1 : ∀ a, a < S.2.2 → S1.1 a = S.1 a := fun a ha => by
    rw [x3.2.1 a (by show a < S.2.2 + 1; omega)]
    exact if_neg (by omega)
  have e2 : ∀ a i, a < S.2.2 → S1.2.1 a i = S.2.1 a i := fun a i ha => by
    rw [x3.2.2.1 a i (by show a < S.2.2 + 1; omega) (by omega)]
    exact if_neg (by omega)
  have e3 : ∀ a i, a < S.2.2 → D1 a i = D a i := fun a i ha => by
    rw [x3.2.2.2 a i (by show a < S.2.2 + 1; omega) (by omega)]
    exact if_neg (by omega)
  show i_putR K cc k ls (pushO none (dropv st n)) (B.1 - 1 - m1, B.2 - nf - m2) S1 D1
  rw [hd]
  refine ⟨by rw [e1 p hp]; exact o, hK _ _ _ ⟨by show B.1 ≤ B.1 - 1 - m1 + (m1 + 1); omega, by show B.2 ≤ B.2 - nf - m2 + (m2 + nf); omega⟩ ⟨by show S.2.2 ≤ S1.2.2; omega, fun a ha => e1 a ha, fun a i ha hn => by rw [setR_ne (.inl hn)]; exact e2 a i ha, fun a i ha hn => e3 a i ha⟩ x2 (fun i => ?_) (fun i => e3 p i hp) (hL S1 _ D1 D1 S.2.2 (fun a a1 a2 => ⟨rfl, fun i => setR_ne (.inl (by omega)), fun i => rfl⟩) x1)⟩
  by_cases q : i = k
  · rw [if_pos q, q]
    show pmur _ _ _ _ _ _ = _
    simp only [pmur, and_self, if_true]
  · rw [if_neg q, setR_ne (.inr q)]
    exact e2 p i hp
/-- a field gets a new array -/
theorem fldA {cc t n : Nat} {k : Int} {K : Tm} {ls : List (Option PV)} {st0 : List PV} (hn : n < 60000000) (hB : 1 ≤ B.1 ∧ n ≤ B.2) (hp : p < S.2.2) (o : S.1 p = some (cc, 0))
    (hK : ∀ (B' : Nat × Nat) (S' : Stat) (D' : Dat), (B.1 ≤ B'.1 + 1 ∧ B.2 ≤ B'.2 + n) → bE p S S' D D' → S'.2.2 = S.2.2 + 1 → (∀ i, S'.2.1 p i = if i = k then some S.2.2 else S.2.1 p i) → (∀ i, D' p i = D p i) → S'.1 S.2.2 = some (t, n) ∧ (∀ i, S'.2.1 S.2.2 i = none) ∧ (∀ i, D' S.2.2 i = 0) → K ls st0 B' S' D') :
    i_newa (i_putR K cc k) t ls (.inl (n : Int) :: .inr (.inr (some p)) :: st0) B S D := by
  refine ⟨B.1 - 1, B.2 - n, n, rfl, hn, Prod.ext (by show B.1 = B.1 - 1 + 1; omega) (by show B.2 = B.2 - n + n; omega), ?_⟩
  have e1 : ∀ a, a < S.2.2 → (mkS S t n).1 a = S.1 a := fun a ha => if_neg (by omega)
  have e2 : ∀ a i, a < S.2.2 → (mkS S t n).2.1 a i = S.2.1 a i := fun a i ha => if_neg (by omega)
  have e3 : ∀ a i, a < S.2.2 → mkD S D a i = D a i := fun a i ha => if_neg (by omega)
  refine ⟨by rw [e1 p hp]; exact o, hK _ _ _ ⟨by show B.1 ≤ B.1 - 1 + 1; omega, by show B.2 ≤ B.2 - n + n; omega⟩ ⟨Nat.le_succ _, fun a ha => e1 a ha, fun a i ha hn => by rw [setR_ne (.inl hn)]; exact e2 a i ha, fun a i ha hn => e3 a i ha⟩ rfl (fun i => ?_) (fun i => e3 p i hp) ⟨if_pos rfl, fun i => ?_, fun i => if_pos rfl⟩⟩
  · by_cases q : i = k
    · rw [if_pos q, q]
      show pmur _ _ _ _ _ _ = _
      simp only [pmur, and_self, if_true]
    · rw [if_neg q, setR_ne (.inr q)]
      exact e2 p i hp
  · rw [setR_ne (.inl (by omega))]
    exact if_pos rfl
end FLD
section FLE
variable {S : Stat} {D : Dat} {B : Nat × Nat}
/-- a place of an array gets a new object -/
theorem fldE {P : Prg} {t N c nf m1 m2 n w sz a : Nat} {cs : List Nat} {i : Int} {K : Tm} {ls : List (Option PV)} {st st0 : List PV} {as : Nat → List (Option PV)} {X : Stat → Dat → Nat → Prop}
    (hM : Mk P c as m1 m2 X sz) (hL : Loc X sz) (hB : m1 + 1 ≤ B.1 ∧ m2 + nf ≤ B.2) (hp : a < S.2.2) (o : S.1 a = some (t, N)) (hsz : 1 ≤ sz) (hc : c ∈ cs) (hk : ∀ (S' : Stat) (D' : Dat), X S' D' S.2.2 → S'.1 S.2.2 = some (c, 0)) (hi : 0 ≤ i ∧ i < N) (hg : gdb st n w = true) (ha : largs (takev st n []) = as S.2.2) (hd : dropv st n = .inr (.inr (some S.2.2)) :: .inl i :: .inr (.inr (some a)) :: st0)
    (hK : ∀ (B' : Nat × Nat) (S' : Stat) (D' : Dat), (B.1 ≤ B'.1 + (m1 + 1) ∧ B.2 ≤ B'.2 + (m2 + nf)) → bE a S S' D D' → S'.2.2 = S.2.2 + sz → (∀ j, S'.2.1 a j = if j = i then some S.2.2 else S.2.1 a j) → (∀ j, D' a j = D a j) → X S' D' S.2.2 → K ls st0 B' S' D') :
    ∃ b1 b2, B = (b1 + 1, b2 + nf) ∧ (∃ b, (Sum.inr (Sum.inr (some S.2.2)) : PV) = Sum.inr (Sum.inr (some b)) ∧ (mkS S c 0).1 b = some (c, 0)) ∧ i_call (i_stR K t cs) P n w i_none ls st (b1, b2) (mkS S c 0) (mkD S D) := by
  refine newB (by omega) ⟨⟨_, rfl, if_pos rfl⟩, callB m1 m2 (by show m1 ≤ B.1 - 1 ∧ m2 ≤ B.2 - nf; omega) (gd_of hg) ?_⟩
  rw [ha]
  refine hM _ _ _ _ S.2.2 ⟨rfl, rfl⟩ (if_pos rfl) rfl (fun i => if_pos rfl) (fun i => if_pos rfl) fun B1 S1 D1 x1 x2 x3 => ?_
  have e1 : ∀ a, a < S.2.2 → S1.1 a = S.1 a := fun a ha => by
    rw [x3.2.1 a (by show a < S.2.2 + 1; omega)]
    exact if_neg (by omega)
  have e2 : ∀ a i, a < S.2.2 → S1.2.1 a i = S.2.1 a i := fun a i ha => by
    rw [x3.2.2.1 a i (by show a < S.2.2 + 1; omega) (by omega)]
    exact if_neg (by omega)
  have e3 : ∀ a i, a < S.2.2 → D1 a i = D a i := fun a i ha => by
    rw [x3.2.2.2 a i (by show a < S.2.2 + 1; omega) (by omega)]
    exact if_neg (by omega)
  show i_stR K t cs ls (pushO none (dropv st n)) (B.1 - 1 - m1, B.2 - nf - m2) S1 D1
  rw [hd]
  refine ⟨N, c, 0, by rw [e1 a hp]; exact o, hk _ _ x1, hc, hi.1, hi.2, hK _ _ _ ⟨by show B.1 ≤ B.1 - 1 - m1 + (m1 + 1); omega, by show B.2 ≤ B.2 - nf - m2 + (m2 + nf); omega⟩ ⟨by show S.2.2 ≤ S1.2.2; omega, fun a ha => e1 a ha, fun a' i ha hn => by rw [setR_ne (.inl hn)]; exact e2 a' i ha, fun a i ha hn => e3 a i ha⟩ x2 (fun j => ?_) (fun j => e3 a j hp) (hL S1 _ D1 D1 S.2.2 (fun a' a1 a2 => ⟨rfl, fun i => setR_ne (.inl (by omega)), fun i => rfl⟩) x1)⟩
  by_cases q : j = i
  · rw [if_pos q, q]
    show pmur _ _ _ _ _ _ = _
    simp only [pmur, and_self, if_true]
  · rw [if_neg q, setR_ne (.inr q)]
    exact e2 a j hp
/-- a number into a field -/
theorem fldI {cc p : Nat} {k z : Int} {K : Tm} {ls : List (Option PV)} {st0 : List PV} (hp : p < S.2.2) (o : S.1 p = some (cc, 0))
    (hK : ∀ D' : Dat, bE p S S D D' → (∀ i, D' p i = if i = k then z else D p i) → K ls st0 B S D') : i_putI K cc k ls (.inl z :: .inr (.inr (some p)) :: st0) B S D := by
  have ne : ∀ {a c : Nat} {i j z : Int}, c ≠ a ∨ i ≠ j → pmu D a j z c i = D c i := fun h => by
    unfold pmu
    rw [if_neg fun q => h.elim (fun h => h q.1) fun h => h q.2]
  refine ⟨o, hK _ ⟨Nat.le_refl _, fun _ _ => rfl, fun _ _ _ _ => rfl, fun a i ha hn => ne (Or.inl hn)⟩ fun i => ?_⟩
  by_cases q : i = k
  · rw [if_pos q, q]; simp only [pmu, and_self, if_true]
  · rw [if_neg q]; exact ne (Or.inr q)
end FLE
/-- what changes in a later thing doesn't touch what stood -/
theorem bE.tr2 {p a : Nat} {S S1 S2 : Stat} {D D1 D2 : Dat} (h : bE p S S1 D D1) (k : bE a S1 S2 D1 D2) (ha : S.2.2 ≤ a) : bE p S S2 D D2 :=
  ⟨Nat.le_trans h.1 k.1, fun x hx => by rw [k.2.1 x (Nat.lt_of_lt_of_le hx h.1), h.2.1 x hx], fun x i hx hn => by rw [k.2.2.1 x i (Nat.lt_of_lt_of_le hx h.1) (by omega), h.2.2.1 x i hx hn], fun x i hx hn => by rw [k.2.2.2 x i (Nat.lt_of_lt_of_le hx h.1) (by omega), h.2.2.2 x i hx hn]⟩
/-- an array that stands, all nought -/
def X0a (t n : Nat) : Stat → Dat → Nat → Prop := fun S D q => S.1 q = some (t, n) ∧ (∀ i, S.2.1 q i = none) ∧ ∀ i, D q i = 0
theorem X0a.loc (t n : Nat) : Loc (X0a t n) 1 := fun S S' D D' q e h => by
  obtain ⟨e1, e2, e3⟩ := e q (Nat.le_refl _) (by omega)
  exact ⟨by rw [e1]; exact h.1, fun i => by rw [e2]; exact h.2.1 i, fun i => by rw [e3]; exact h.2.2 i⟩
def X3w (r : Nat) : Stat → Dat → Nat → Prop := fun S D q => wS 3 S q r ∧ wD 1 2 D q 0
theorem X3w.loc (r : Nat) : Loc (X3w r) 2 := fun S S' D D' q e h =>
  ⟨h.1.sq fun c c1 c2 => ⟨(e c c1 (by omega)).1, (e c c1 (by omega)).2.1⟩, h.2.congr (fun i => (e q (Nat.le_refl _) (by omega)).2.2 i) fun i => (e (q + 1) (by omega) (by omega)).2.2 i⟩
theorem wD_zero {kn ks : Int} {D : Dat} {w : Nat} (h1 : D w kn = 0) (h2 : D w ks = 0) : wD kn ks D w 0 := ⟨0, h1, ⟨fun i a b => by omega, fun h => absurd h (Nat.lt_irrefl 0)⟩, h2, rfl⟩
theorem mk_X3 (r : Nat) (hr : r < 60000000) : Mk P_X3_init 3 (fun q => [some (aR q), some (aI r)]) 1 r (X3w r) 2 := fun E B S D q hB h1 h2 h3 h4 K => by
  refine wp_in ?_
  simp only [P_X3_init, i_objinit, i_kil, i_icon, i_lcon, i_null, i_loadI, i_loadL, i_loadR, i_istore, i_lstore, i_astore, i_iinc, i_dup, i_dup2, i_pop, i_iadd, i_isub, i_imul, i_idiv, i_irem, i_ineg, i_iand, i_ior, i_ishl, i_ishr, i_lxor, i_ladd, i_lsub, i_lmul, i_ldiv, i_lrem, i_lneg, i_lshl, i_lcmp, i_i2l, i_l2i, i_i2b, i_i2s, i_ifeq, i_ifne, i_iflt, i_ifge, i_ifgt, i_ifle, i_cmpeq, i_cmpne, i_cmplt, i_cmpge, i_cmpgt, i_cmple, i_acmpeq, i_acmpne, i_ifnull, i_ifnonnull, i_getI, i_getR, i_putI, i_putZ, i_ald, i_ldL, i_ldR, i_ast, i_stL, i_stR, i_alen, i_new, i_iret, i_zret, i_lret, i_aret, i_vret, i_raise, i_throw, i_recv, i_objinit, i_tsw3, lget, lset, lput1, lput2, lkil, ltrim, largs, isL, takev, dropv, nthv, pushO, catv, gd, true_and, and_true, Option.some.injEq, Prod.mk.injEq, exists_eq_left', if_true, if_false, reduceCtorEq, Bool.false_eq_true, lcmp_ge, lcmp_lt, lcmp_le, lcmp_gt, lcmp_eq, true_or, or_true, not_true_eq_false, not_false_eq_true, false_implies, true_implies, List.length_cons, List.length_nil, h1]
  refine ⟨by decide, ?_⟩
  refine fldA (p := q) hr (by omega) (by omega) h1 fun B' S' D' b1 b2 b3 b4 b5 b6 => ?_
  simp only [P_X3_init, i_kil, i_icon, i_lcon, i_null, i_loadI, i_loadL, i_loadR, i_istore, i_lstore, i_astore, i_iinc, i_dup, i_dup2, i_pop, i_iadd, i_isub, i_imul, i_idiv, i_irem, i_ineg, i_iand, i_ior, i_ishl, i_ishr, i_lxor, i_ladd, i_lsub, i_lmul, i_ldiv, i_lrem, i_lneg, i_lshl, i_lcmp, i_i2l, i_l2i, i_i2b, i_i2s, i_ifeq, i_ifne, i_iflt, i_ifge, i_ifgt, i_ifle, i_cmpeq, i_cmpne, i_cmplt, i_cmpge, i_cmpgt, i_cmple, i_acmpeq, i_acmpne, i_ifnull, i_ifnonnull, i_getI, i_getR, i_putI, i_putZ, i_putR, i_ald, i_ldL, i_ldR, i_ast, i_stL, i_stR, i_alen, i_new, i_newa, i_iret, i_zret, i_lret, i_aret, i_vret, i_raise, i_throw, i_recv, i_objinit, i_tsw3, lget, lset, lput1, lput2, lkil, ltrim, largs, isL, takev, dropv, nthv, pushO, catv, gd, true_and, and_true, Option.some.injEq, Prod.mk.injEq, exists_eq_left', if_true, if_false, reduceCtorEq, Bool.false_eq_true, lcmp_ge, lcmp_lt, lcmp_le, lcmp_gt, lcmp_eq, true_or, or_true, not_true_eq_false, not_false_eq_true, false_implies, true_implies, List.length_cons, List.length_nil]
  rw [h2] at b3 b4 b6
  refine K _ _ _ ⟨⟨by rw [b2.2.1 q (by omega)]; exact h1, by rw [b4, if_pos rfl], b6.1⟩, wD_zero (by rw [b5]; exact h4 _) (by rw [b5]; exact h4 _)⟩ b3 b2
