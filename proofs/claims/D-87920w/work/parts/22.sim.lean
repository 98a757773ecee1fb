/-! SIM: what the pure machine does, the machine does: a lemma an opcode -/
set_option maxRecDepth 100000
set_option linter.unusedVariables false
theorem t32 {x : Int} (h : inI x) : (Int32.ofInt x).toInt = x := Int32.toInt_ofInt_of_le h.1 h.2
theorem t64 {x : Int} (h : inL x) : (Int64.ofInt x).toInt = x := Int64.toInt_ofInt_of_le h.1 h.2
theorem inI_toInt (x : Int32) : inI x.toInt := ⟨Int32.le_toInt x, Int32.toInt_lt x⟩
theorem inL_toInt (x : Int64) : inL x.toInt := ⟨Int64.le_toInt x, Int64.toInt_lt x⟩
def cv : PV → Value
  | .inl z => .int (Int32.ofInt z)
  | .inr (.inl z) => .long (Int64.ofInt z)
  | .inr (.inr r) => va_rf r
def okv : PV → Prop
  | .inl z => inI z
  | .inr (.inl z) => inL z
  | .inr (.inr _) => True
theorem cv_isL {v : PV} : isL v = true ↔ (cv v).category = 2 := by
  rcases v with z | z | (_ | a) <;> simp [isL, cv, va_rf, Value.category]
theorem cv_cat1 {v : PV} (h : isL v = false) : (cv v).category = 1 := by
  rcases v with z | z | (_ | a) <;> simp_all [isL, cv, va_rf, Value.category]
theorem lget_lset (ls : List (Option PV)) (k : Nat) (w : Option PV) (j : Nat) : lget (lset ls k w) j = if j = k then w else lget ls j := by
  induction ls generalizing k j with
  | nil =>
    induction k generalizing j with
    | zero => cases j <;> simp [lset, lget]
    | succ k ih => cases j <;> simp [lset, lget, ih]
  | cons v r ih => cases k <;> cases j <;> simp [lset, lget, ih]
theorem lget_lput1 {ls : List (Option PV)} {k : Nat} {v : PV} {j : Nat} {u : PV} (h : lget (lput1 ls k v) j = some u) : (j = k ∧ u = v) ∨ (j ≠ k ∧ lget ls j = some u ∧ ¬ (j + 1 = k ∧ isL u = true)) := by
  unfold lput1 at h
  split at h
  · rw [lget_lset] at h
    split at h
    · rename_i e; exact Or.inl ⟨e, (Option.some.inj h).symm⟩
    · rename_i e; exact Or.inr ⟨e, h, by omega⟩
  · rename_i k
    split at h
    · rename_i w hw
      split at h
      · rw [lget_lset, lget_lset] at h
        split at h
        · rename_i e; exact Or.inl ⟨e, (Option.some.inj h).symm⟩
        · split at h
          · cases h
          · rename_i e1 e2; exact Or.inr ⟨e1, h, by omega⟩
      · rename_i hL
        rw [lget_lset] at h
        split at h
        · rename_i e; exact Or.inl ⟨e, (Option.some.inj h).symm⟩
        · rename_i e
          refine Or.inr ⟨e, h, fun q => ?_⟩
          have : j = k := by omega
          subst this
          rw [hw] at h
          cases h
          exact hL q.2
    · rename_i hw
      rw [lget_lset] at h
      split at h
      · rename_i e; exact Or.inl ⟨e, (Option.some.inj h).symm⟩
      · rename_i e
        refine Or.inr ⟨e, h, fun q => ?_⟩
        have : j = k := by omega
        subst this
        rw [hw] at h
        cases h
theorem lget_lput2 {ls : List (Option PV)} {k : Nat} {v : PV} {j : Nat} {u : PV} (h : lget (lput2 ls k v) j = some u) : (j = k ∧ u = v) ∨ (j ≠ k ∧ j ≠ k + 1 ∧ lget ls j = some u ∧ ¬ (j + 1 = k ∧ isL u = true)) := by
  unfold lput2 at h
  rw [lget_lset] at h
  split at h
  · cases h
  · rename_i e
    rcases lget_lput1 h with q | ⟨q1, q2, q3⟩
    · exact Or.inl q
    · exact Or.inr ⟨q1, e, q2, q3⟩
theorem lget_lkil {ks : List Nat} : ∀ {ls : List (Option PV)} {j : Nat} {u : PV}, lget (lkil ls ks) j = some u → lget ls j = some u := by
  induction ks with
  | nil => intro ls j u h; exact h
  | cons k r ih =>
    intro ls j u h
    have h1 := ih h
    rw [lget_lset] at h1
    split at h1
    · cases h1
    · exact h1
theorem lget_ltrim {ls : List (Option PV)} : ∀ {k : Nat} {v : PV}, lget (ltrim ls) k = some v → lget ls k = some v := by
  induction ls with
  | nil => intro k v h; exact h
  | cons w r ih =>
    intro k v h
    cases w with
    | some w =>
      cases k with
      | zero => exact h
      | succ k => exact ih h
    | none =>
      simp only [ltrim] at h
      split at h
      · simp [lget] at h
      · rename_i u q hq
        cases k with
        | zero => simp [lget] at h
        | succ k => exact ih (by rw [hq]; exact h)
/-- the machine's locals hold the pure ones -/
def LR (la : Array Slot) (nL : Nat) (ls : List (Option PV)) : Prop := la.size = nL ∧ lv_wf la ∧ ∀ (k : Nat) (v : PV), lget ls k = some v → la[k]? = some (.val (cv v)) ∧ okv v
theorem LR.has {la : Array Slot} {nL : Nat} {ls : List (Option PV)} (h : LR la nL ls) (l : List (Nat × Value)) (hl : ∀ q ∈ l, ∃ v, lget ls q.1 = some v ∧ q.2 = cv v) : lv_has la nL l :=
  ⟨h.1, h.2.1, fun q hq => by obtain ⟨v, h1, h2⟩ := hl q hq; rw [h2]; exact (h.2.2 _ _ h1).1⟩
def lal : Nat → List (Option PV) → List (Nat × Value)
  | _, [] => []
  | i, none :: r => lal (i + 1) r
  | i, some v :: r => (i, cv v) :: lal (i + 1) r
theorem mem_lal {ls : List (Option PV)} : ∀ {i : Nat} {q : Nat × Value}, q ∈ lal i ls ↔ ∃ k v, q = (i + k, cv v) ∧ lget ls k = some v := by
  induction ls with
  | nil => intro i q; simp [lal, lget]
  | cons w r ih =>
    intro i q
    constructor
    · intro h
      cases w with
      | none =>
        obtain ⟨k, v, h1, h2⟩ := ih.mp h
        exact ⟨k + 1, v, by rw [h1]; congr 1; omega, h2⟩
      | some w =>
        rcases List.mem_cons.mp h with h | h
        · exact ⟨0, w, h, rfl⟩
        · obtain ⟨k, v, h1, h2⟩ := ih.mp h
          exact ⟨k + 1, v, by rw [h1]; congr 1; omega, h2⟩
    · rintro ⟨k, v, h1, h2⟩
      cases w with
      | none =>
        cases k with
        | zero => cases h2
        | succ k => exact ih.mpr ⟨k, v, by rw [h1]; congr 1; omega, h2⟩
      | some w =>
        cases k with
        | zero => cases h2; exact List.mem_cons.mpr (Or.inl h1)
        | succ k => exact List.mem_cons.mpr (Or.inr (ih.mpr ⟨k, v, by rw [h1]; congr 1; omega, h2⟩))
theorem LR.lal {la : Array Slot} {nL : Nat} {ls : List (Option PV)} (h : LR la nL ls) : lv_has la nL (lal 0 ls) :=
  h.has _ fun q hq => by
    obtain ⟨k, v, h1, h2⟩ := mem_lal.mp hq
    exact ⟨v, by rw [h1]; simpa using h2, by rw [h1]⟩
theorem LR.put1 {la la' : Array Slot} {nL : Nat} {ls : List (Option PV)} {k : Nat} {v : PV} (h : LR la nL ls) (hv : okv v) (h' : lv_has la' nL ((k, cv v) :: (Jvm.Pilot.CIdealCourtLaw_law_r5787_380c08.lal 0 ls).filter (fun q => !(q.1 == k) && !(q.1 + 1 == k && q.2.category == 2)))) : LR la' nL (lput1 ls k v) :=
  ⟨h'.1, h'.2.1, fun j u hj => by
    rcases lget_lput1 hj with ⟨e1, e2⟩ | ⟨e1, e2, e3⟩
    · subst e1; subst e2
      exact ⟨h'.2.2 _ List.mem_cons_self, hv⟩
    · refine ⟨h'.2.2 (j, cv u) (List.mem_cons_of_mem _ (List.mem_filter.mpr ⟨mem_lal.mpr ⟨j, u, by simp, e2⟩, ?_⟩)), (h.2.2 _ _ e2).2⟩
      simp only [Bool.and_eq_true, Bool.not_eq_true', beq_eq_false_iff_ne, ne_eq, Bool.and_eq_false_iff]
      refine ⟨e1, ?_⟩
      by_cases hq : j + 1 = k
      · exact Or.inr fun hc => e3 ⟨hq, cv_isL.mpr (by simpa using hc)⟩
      · exact Or.inl hq⟩
theorem LR.put2 {la la' : Array Slot} {nL : Nat} {ls : List (Option PV)} {k : Nat} {v : PV} (h : LR la nL ls) (hv : okv v) (h' : lv_has la' nL ((k, cv v) :: (Jvm.Pilot.CIdealCourtLaw_law_r5787_380c08.lal 0 ls).filter (fun q => !(q.1 == k) && (!(q.1 == k + 1) && !(q.1 + 1 == k && q.2.category == 2))))) : LR la' nL (lput2 ls k v) :=
  ⟨h'.1, h'.2.1, fun j u hj => by
    rcases lget_lput2 hj with ⟨e1, e2⟩ | ⟨e1, e0, e2, e3⟩
    · subst e1; subst e2
      exact ⟨h'.2.2 _ List.mem_cons_self, hv⟩
    · refine ⟨h'.2.2 (j, cv u) (List.mem_cons_of_mem _ (List.mem_filter.mpr ⟨mem_lal.mpr ⟨j, u, by simp, e2⟩, ?_⟩)), (h.2.2 _ _ e2).2⟩
      simp only [Bool.and_eq_true, Bool.not_eq_true', beq_eq_false_iff_ne, ne_eq, Bool.and_eq_false_iff]
      refine ⟨e1, e0, ?_⟩
      by_cases hq : j + 1 = k
      · exact Or.inr fun hc => e3 ⟨hq, cv_isL.mpr (by simpa using hc)⟩
      · exact Or.inl hq⟩
theorem LR.kil {la : Array Slot} {nL : Nat} {ls : List (Option PV)} (h : LR la nL ls) (ks : List Nat) : LR la nL (ltrim (lkil ls ks)) := ⟨h.1, h.2.1, fun k v hk => h.2.2 k v (lget_lkil (lget_ltrim hk))⟩
/-! the heap -/
abbrev pmG : Type := va_G × (Nat → ClassId)
def pmK (G : pmG) (cl : List vw_C) (kt : List (Nat × FieldType)) (U : State) : Prop := (∀ (k : Nat) (q : vw_C), cl[k]? = some q → u_Kn U q.1 q.2.1 q.2.2 (G.1.1 k) (G.1.2 k)) ∧ ∀ (k : Nat) (ty : FieldType), (k, ty) ∈ kt → ArrOfT U (G.2 k) ty ∧ va_RA U (G.2 k) ty
theorem pmK.moved {G : pmG} {cl : List vw_C} {kt : List (Nat × FieldType)} {u U : State} (hvm : u.vm.Alike U.vm) (h : pmK G cl kt u) : pmK G cl kt U := ⟨fun c q hq => u_Kn_moved hvm (h.1 c q hq), fun k q hk => ⟨arrOfT_moved hvm (h.2 k q hk).1, (h.2 k q hk).2.moved hvm⟩⟩
/-- a field's content: ft says where a reference stands -/
def pmFv (ft : Nat → Nat → Bool) (S : Stat) (D : Dat) (a c k : Nat) : Value := if ft c k = true then va_rf (S.2.1 a k) else .int (Int32.ofInt (D a k))
def pmAv (t : Nat) (S : Stat) (D : Dat) (a j : Nat) : Value := if t < 104 then .int (Int32.ofInt (D a j)) else if t = 104 then .long (Int64.ofInt (D a j)) else va_rf (S.2.1 a j)
def pmOb (G : pmG) (cl : List vw_C) (ft : Nat → Nat → Bool) (S : Stat) (D : Dat) (H : Heap) (a c : Nat) : Prop := ∃ r : vw_C, cl[c]? = some r ∧ t_OB a (G.1.1 c) r.2.2 (G.1.2 c) H (pmFv ft S D a c) ∧ (∀ k : Nat, k < r.2.2 → inI (D a k)) ∧ ∀ ce : Cell, H[a]? = some ce → ce.monitor.owner = none ∧ ce.monitor.count = 0
def pmAr (G : pmG) (S : Stat) (D : Dat) (H : Heap) (a t n : Nat) : Prop := H[a]? = some (arrV (G.2 t) n (pmAv t S D a)) ∧ (t < 104 → ∀ j : Nat, j < n → inI (D a j)) ∧ (t = 104 → ∀ j : Nat, j < n → inL (D a j))
def pmAt (G : pmG) (cl : List vw_C) (ft : Nat → Nat → Bool) (S : Stat) (D : Dat) (H : Heap) (a : Nat) (q : Nat × Nat) : Prop := (q.1 < 100 → pmOb G cl ft S D H a q.1) ∧ (100 ≤ q.1 → pmAr G S D H a q.1 q.2)
def pmR (G : pmG) (cl : List vw_C) (ft : Nat → Nat → Bool) (lo : Nat) (H0 : Heap) (S : Stat) (D : Dat) (H : Heap) : Prop :=
  H.size = S.2.2 ∧ lo ≤ H.size ∧ (∀ a : Nat, a < lo → H[a]? = H0[a]?) ∧ ∀ (a : Nat) (q : Nat × Nat), S.1 a = some q → lo ≤ a ∧ a < H.size ∧ pmAt G cl ft S D H a q
