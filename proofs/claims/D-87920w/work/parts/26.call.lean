/-! SIM: calls and ends -/
set_option maxRecDepth 100000
set_option linter.unusedVariables false
def nwk : Cond → Bool
  | .fieldLinkNest _ _ _ _ _ _ => true
  | .methodLinkNest _ _ _ _ => true
  | .castable _ _ => true
  | .arrayOver (.object _) => true
  | _ => false
theorem nwk_moved {w : Cond} (hw : nwk w = true) {s U : State} (hW : s.WarmedH U.vm) (h : va_Nw w s) : va_Nw w U := by
  unfold nwk at hw
  split at hw
  · exact h.warmF hW
  · exact h.warmM hW
  · exact h.warmC hW
  · exact va_AO.moved hW.alike h
  · cases hw
/-- what the tables say beside lw_all, at every state of the run -/
def pmN (NW : List Cond) (FW : List (String × MethodName × MethodName)) (XE : State → Prop) (lo : Nat) (U : State) : Prop := ((∀ w ∈ NW, nwk w = true ∧ va_Nw w U) ∧ ∀ q ∈ FW, (q.2.1.cls ≠ "java/lang/invoke/MethodHandle" ∧ q.2.1.cls ≠ "java/lang/invoke/VarHandle") ∧ va_Fw q.1 q.2.1 q.2.2 U) ∧ (∀ u V : State, u.WarmedH V.vm → XE u → XE V) ∧ XE U ∧ lo ≤ U.heap.size
theorem pmN.moved {NW : List Cond} {FW : List (String × MethodName × MethodName)} {XE : State → Prop} {lo : Nat} {s U : State} (hW : s.WarmedH U.vm) (hlo : lo ≤ U.heap.size) (h : pmN NW FW XE lo s) : pmN NW FW XE lo U :=
  ⟨⟨fun w hw => ⟨(h.1.1 w hw).1, nwk_moved (h.1.1 w hw).1 hW (h.1.1 w hw).2⟩, fun q hq => ⟨(h.1.2 q hq).1, (h.1.2 q hq).2.moved (h.1.2 q hq).1 hW.alike⟩⟩, h.2.1, h.2.1 s U hW h.2.2.1, hlo⟩
section SM
variable (l : Launch) (G : pmG) (cl : List vw_C) (ft : Nat → Nat → Bool) (kt : List (Nat × FieldType)) (NW : List Cond) (FW : List (String × MethodName × MethodName)) (XE : State → Prop) (XN : String) (lo : Nat) (H0 : Heap)
def pmPc (av : List PV) (S : Stat) (D : Dat) : Array Value → State → Prop := fun v U => v = (av.map cv).toArray ∧ (∀ v ∈ av, okv v) ∧ pmR G cl ft lo H0 S D U.heap ∧ pmK G cl kt U ∧ pmN NW FW XE lo U
def okO : Option PV → Prop
  | some v => okv v
  | none => True
def pmQc (E : Ex) : Array Value → State → Outcome → State → Prop := fun _ _ oc t => ∃ o B S D, oc = .returned (Option.map cv o) ∧ okO o ∧ E (.inl o) B S D ∧ pmR G cl ft lo H0 S D t.heap
def pmXC (E : Ex) : Nat → String → State → State → Prop := fun q N _ t => ∃ B S D, N = XN ∧ E (.inr q) B S D ∧ pmR G cl ft lo H0 S D t.heap
/-- the contract of a method out of its program -/
def pmMet (y : MethodName) (ws : List Cond) (fr lc w : Nat) (P : Prg) : Prop := ∀ (E : Ex) (av : List PV) (S : Stat) (D : Dat) (m1 m2 : Nat), catv av ≤ w → Wp P E 0 (largs av) [] (m1, m2) S D →
  vy_Met l y ws { frames := fr, cells := m1, slots := m2, locals := lc } (pmPc G cl ft kt NW FW XE lo H0 av S D) (pmQc G cl ft lo H0 E) (pmXC G cl ft XN lo H0 E) m1 m2 (fun q => lo ≤ q)
end SM
theorem takev_eq : ∀ (n : Nat) (st acc : List PV), n ≤ st.length → takev st n acc = (st.take n).reverse ++ acc := by
  intro n
  induction n with
  | zero => intro st acc _; simp [takev]
  | succ n ih =>
    intro st acc h
    cases st with
    | nil => simp at h
    | cons v r => rw [takev, ih r _ (by simpa using h)]; simp
theorem dropv_eq : ∀ (n : Nat) (st : List PV), dropv st n = st.drop n := by
  intro n
  induction n with
  | zero => intro st; cases st <;> rfl
  | succ n ih =>
    intro st
    cases st with
    | nil => rfl
    | cons v r => rw [dropv, ih r]; rfl
theorem nthv_eq : ∀ (n : Nat) (st : List PV), nthv st n = st[n]? := by
  intro n
  induction n with
  | zero => intro st; cases st <;> rfl
  | succ n ih =>
    intro st
    cases st with
    | nil => rfl
    | cons v r => rw [nthv, ih r]; rfl
section SM
variable {p : Program} {l : Launch} {e : Env} {R : Room} {s : State} {m : MethodId} {args : Array Value} {below : List Frame} {meth : Method} {c : Code} {G : pmG} {lo : Nat} {H0 : Heap} {nL : Nat} {cl : List vw_C} {ft : Nat → Nat → Bool} {kt : List (Nat × FieldType)} {NW : List Cond} {FW : List (String × MethodName × MethodName)} {XE : State → Prop} {XN : String} {Ts : List Cond} {own : String} {cc : ByteArray} {Qf : State → Prop} {K J Hn : Tm} {pc : Nat}
theorem pmPc.blind {av : List PV} {S : Stat} {D : Dat} : FrameBlind (pmPc G cl ft kt NW FW XE lo H0 av S D) := fun a U g mk h => by
  obtain ⟨h1, h2, h3, h4, h5⟩ := h
  exact ⟨h1, h2, h3, pmK.moved (u := U) (U := U.calling g mk a) (Vm.Alike.refl U.vm) h4, pmN.moved (s := U) (U := U.calling g mk a) (State.WarmedH.refl U) h5.2.2.2 h5⟩
/-- where a cell thrown at pc goes on -/
def pmX (p : Program) (l : Launch) (e : Env) (R : Room) (s : State) (m : MethodId) (args : Array Value) (below : List Frame) (meth : Method) (c : Code) (G : pmG) (lo : Nat) (H0 : Heap) (nL : Nat) (cl : List vw_C) (ft : Nat → Nat → Bool) (XN : String) (Qf : State → Prop) (pc : Nat) (Hn : Tm) : Prop :=
  ∀ (q : Nat) (ls : List (Option PV)) (B : Nat × Nat) (S : Stat) (D : Dat) (H : Heap) (locs : List Loc) (la : Array Slot) (cells slots : Nat) (rest : List Value) (ce : Cell), Hn ls [.inr (.inr (some q))] B S D → cells + B.1 = R.cells → slots + B.2 = R.slots → pmR G cl ft lo H0 S D H → (∀ q ∈ locs, lo ≤ q.base) → LR la nL ls → H[q]? = some ce → ce.vm = .none → s.vm.findClass XN = some ce.cls → vy_W p l e R s m args below meth c H locs cells slots Qf (F0 m pc la rest) q
theorem sx_none : pmX p l e R s m args below meth c G lo H0 nL cl ft XN Qf pc i_none := fun _ _ _ _ _ _ _ _ _ _ _ _ h => h.elim
/-- what is behind a call -/
theorem pm_run {E : Ex} (hF : pmK G cl kt s) (h : pm_le K (pmV p l e R s m args below meth c G lo H0 nL cl ft Qf (pc + 3))) (hX : pmX p l e R s m args below meth c G lo H0 nL cl ft XN Qf pc Hn) {ls : List (Option PV)} {rst : List PV} {b1 b2 m1 m2 : Nat} {H : Heap} {locs : List Loc} {la : Array Slot} {cells slots : Nat} {st0 : List Value} {av : Array Value}
    (hc : cells + (b1 + m1) = R.cells) (hs : slots + (b2 + m2) = R.slots) (hL : ∀ q ∈ locs, lo ≤ q.base) (hl : LR la nL ls) (hv : ∀ v ∈ rst, okv v)
    (hE1 : ∀ o B S D, E (.inl o) B S D → K ls (pushO o rst) (b1, b2) S D) (hE2 : ∀ q B S D, E (.inr q) B S D → Hn ls [.inr (.inr (some q))] (b1, b2) S D)
    (hr : vy_Run p l e R s m args below meth c H locs cells slots m1 m2 (F0 m pc la st0) (rst.map cv) (pmQc G cl ft lo H0 E av) (pmXC G cl ft XN lo H0 E) (fun q => lo ≤ q)) : W p l e R s m args below meth c H locs cells slots Qf (F0 m pc la st0) := by
  intro T hT X
  have hL2 : ∀ {L : List Loc}, (∀ q ∈ L, lo ≤ q.base) → ∀ q ∈ locs ++ L, lo ≤ q.base := fun hL1 q hq => by
    rcases List.mem_append.mp hq with g | g
    · exact hL q g
    · exact hL1 q g
  rcases hr T hT X with ⟨v, st1, t, T', L, h0, X', hL1, e1, e2, ⟨o, B, S, D, g1, g2, g3, g4⟩, st⟩ | ⟨q, st1, t, T', L, En, ce, h0, X', hL1, e1, e2, ⟨B, S, D, g1, g3, g4⟩, hq, hvm, hcls, st⟩
  · have hve := Outcome.returned.inj g1
    subst hve
    have hst : (Option.map cv o).toList ++ rst.map cv = (pushO o rst).map cv := by cases o <;> rfl
    obtain ⟨t1, a1, a2⟩ := h ls (pushO o rst) (b1, b2) S D (hE1 o B S D g3) T'.heap (locs ++ L) la (cells + m1) (slots + m2) (by simp only; omega) (by simp only; omega) (by rw [e1]; exact g4) (hL2 hL1) hl (by cases o with
      | none => exact hv
      | some v => intro u hu; rcases List.mem_cons.mp hu with q | q
                  · rw [q]; exact g2
                  · exact hv u q) T' rfl X'
    exact ⟨t1, st _ (by rw [hst]; exact a1), a2⟩
  · subst g1
    obtain ⟨t1, a1, a2⟩ := hX q ls (b1, b2) S D T'.heap (locs ++ L) la (cells + m1) (slots + m2) (rst.map cv) ce (hE2 q B S D g3) (by simp only; omega) (by simp only; omega) (by rw [e1]; exact g4) (hL2 hL1) hl (by rw [e1]; exact hq) hvm hcls T' rfl X'
    exact ⟨t1, st.trans a1, a2⟩
/-- the receiver's cell -/
theorem pm_recv {S : Stat} {D : Dat} {H : Heap} {ci : Nat} {C : String} {T : u_T} {N : Nat} {ty : Nat → FieldType} (hK : pmK G cl kt s) (hR : pmR G cl ft lo H0 S D H) (hC : pmC Ts cl ft ci C T N ty) {b : Nat} (hb : S.1 b = some (ci, 0)) : ∃ cell : Cell, H[b]? = some cell ∧ cell.vm.isStatics = false ∧ s.vm.findClass C = some cell.cls := by
  obtain ⟨hlo, hlt, hO, -⟩ := hR.2.2.2 b _ hb
  obtain ⟨r1, hr1, ⟨cell, q1, q2, q3, -⟩, -⟩ := hO hC.1
  have e1 := Option.some.inj (hr1.symm.trans hC.2.1)
  subst e1
  exact ⟨cell, q1, by rw [q3]; rfl, by rw [q2]; exact (hK.1 ci _ hC.2.1).2.1⟩
theorem st_split {st : List PV} {n : Nat} (hn : n ≤ st.length) : st = (takev st n []).reverse ++ dropv st n := by
  rw [takev_eq n st [] hn, dropv_eq]; simp
theorem st_splitV {st : List PV} {n : Nat} {b : Nat} (hb : nthv st n = some (.inr (.inr (some b)))) : ∃ As : List PV, takev st (n + 1) [] = .inr (.inr (some b)) :: As ∧ As.length = n ∧ st = As.reverse ++ .inr (.inr (some b)) :: dropv st (n + 1) := by
  rw [nthv_eq] at hb
  have hlt : n < st.length := (List.getElem?_eq_some_iff.mp hb).1
  have h1 := List.getElem?_eq_some_iff.mp hb
  refine ⟨(st.take n).reverse, ?_, by simp; omega, ?_⟩
  · rw [takev_eq (n + 1) st [] hlt, List.take_succ, hb]; simp
  · rw [dropv_eq]
    simp only [List.reverse_reverse]
    rw [← h1.2]
    simp
theorem okv_sub {st : List PV} {n : Nat} (hn : n ≤ st.length) (h : ∀ v ∈ st, okv v) : (∀ v ∈ takev st n [], okv v) ∧ ∀ v ∈ dropv st n, okv v := by
  constructor
  · intro v hv
    rw [takev_eq n st [] hn] at hv
    simp at hv
    exact h v (List.mem_of_mem_take hv)
  · intro v hv
    rw [dropv_eq] at hv
    exact h v (List.mem_of_mem_drop hv)
theorem catv_eq (st : List PV) : ((st.map cv).map fun v => v.category).sum = catv st := by
  induction st with
  | nil => rfl
  | cons v r ih =>
    simp only [List.map_cons, List.sum_cons, ih, catv]
    rcases v with z | z | (_ | a) <;> simp [cv, va_rf, Value.category, isL]
theorem slots_eq (st : List PV) : (lg_sl (st.map cv)).length = catv st := by
  induction st with
  | nil => rfl
  | cons v r ih =>
    have h1 : (lg_sl ((v :: r).map cv)).length = (if (cv v).category = 2 then 2 else 1) + (lg_sl (r.map cv)).length := by
      simp only [lg_sl, List.map_cons, List.flatMap_cons, List.length_append]
      congr 1
      split <;> rfl
    rw [h1, ih, catv]
    rcases v with z | z | (_ | a) <;> simp [cv, va_rf, Value.category, isL]
theorem largs_mem : ∀ (av : List PV) (i k : Nat) (v : PV), lget (largs av) k = some v → (i + k, cv v) ∈ lv_args i (av.map cv) ∧ v ∈ av := by
  intro av
  induction av with
  | nil => intro i k v h; simp [largs, lget] at h
  | cons w r ih =>
    intro i k v h
    simp only [largs] at h
    have hc := cv_isL (v := w)
    by_cases hw : isL w = true
    · rw [if_pos hw] at h
      match k, h with
      | 0, h => cases h; exact ⟨List.mem_cons_self, List.mem_cons_self⟩
      | 1, h => cases h
      | k + 2, h =>
        obtain ⟨h1, h2⟩ := ih (i + 2) k v h
        refine ⟨List.mem_cons_of_mem _ ?_, List.mem_cons_of_mem _ h2⟩
        rw [if_pos (hc.mp hw), show i + (k + 2) = i + 2 + k by omega]
        exact h1
    · rw [if_neg hw] at h
      match k, h with
      | 0, h => cases h; exact ⟨List.mem_cons_self, List.mem_cons_self⟩
      | k + 1, h =>
        obtain ⟨h1, h2⟩ := ih (i + 1) k v h
        refine ⟨List.mem_cons_of_mem _ ?_, List.mem_cons_of_mem _ h2⟩
        rw [if_neg (fun q => hw (hc.mpr q)), show i + (k + 1) = i + 1 + k by omega]
        exact h1
end SM
