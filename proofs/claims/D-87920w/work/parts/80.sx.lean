/-! SIM: what the machine itself throws and this method catches; casts; calls along the hierarchy -/
set_option maxRecDepth 100000
set_option linter.unusedVariables false
/-- words beside the list, along the run -/
def xnw (w : Cond) : Prop := nwk w = true ∨ ∃ y, w = .declares y
theorem xnw.moved {w : Cond} (hw : xnw w) {s U : State} (hW : s.WarmedH U.vm) (h : va_Nw w s) : va_Nw w U := by
  rcases hw with hw | ⟨y, rfl⟩
  · exact nwk_moved hw hW h
  · exact h.warmD hW
/-- what the new methods ask beside: words, pairs that don't cast, interfaces, Throwable's two statics -/
def pmE (XW : List Cond) (XC : List (String × String)) (XF : List (String × MethodName × MethodName)) (lo : Nat) (H0 : Heap) (U : State) : Prop :=
  (∀ w ∈ XW, xnw w ∧ va_Nw w U) ∧ (∀ q ∈ XC, va_Nc q.1 q.2 U) ∧ (∀ q ∈ XF, (q.2.1.cls ≠ "java/lang/invoke/MethodHandle" ∧ q.2.1.cls ≠ "java/lang/invoke/VarHandle") ∧ va_Fw q.1 q.2.1 q.2.2 U) ∧ vy_Zq Bundle.tN "UNASSIGNED_STACK" Bundle.steD (fun q => lo ≤ q) U H0 ∧ vy_Zq Bundle.tN "SUPPRESSED_SENTINEL" Bundle.listD (fun q => lo ≤ q) U H0
theorem pmE.moved {XW : List Cond} {XC : List (String × String)} {XF : List (String × MethodName × MethodName)} {lo : Nat} {H0 : Heap} {s U : State} (hW : s.WarmedH U.vm) (h : pmE XW XC XF lo H0 s) : pmE XW XC XF lo H0 U :=
  ⟨fun w hw => ⟨(h.1 w hw).1, (h.1 w hw).1.moved hW (h.1 w hw).2⟩, fun q hq => (h.2.1 q hq).moved hW.alike, fun q hq => ⟨(h.2.2.1 q hq).1, (h.2.2.1 q hq).2.moved (h.2.2.1 q hq).1 hW.alike⟩, h.2.2.2.1.moved hW.alike, h.2.2.2.2.moved hW.alike⟩
/-- the machine makes cells of its own and goes on at a handler -/
def i_vm (mc ms : Nat) (Hn : Tm) : Tm := fun ls _ B S D => ∃ b1 b2 : Nat, B = (b1 + mc, b2 + ms) ∧ ∀ n' q : Nat, S.2.2 ≤ n' → Hn ls [.inr (.inr (some q))] (b1, b2) (S.1, S.2.1, n') D
section SM
variable {p : Program} {l : Launch} {e : Env} {R : Room} {s : State} {m : MethodId} {args : Array Value} {below : List Frame} {meth : Method} {c : Code} {G : pmG} {lo : Nat} {H0 : Heap} {nL : Nat} {cl : List vw_C} {ft : Nat → Nat → Bool} {kt : List (Nat × FieldType)} {NW : List Cond} {FW : List (String × MethodName × MethodName)} {XE : State → Prop} {XN : String} {Ts : List Cond} {own : String} {cc : ByteArray} {Qf : State → Prop} {K J Hn : Tm} {pc : Nat}
variable {XW : List Cond} {XC : List (String × String)} {XF : List (String × MethodName × MethodName)}
theorem pmR.grow {S : Stat} {D : Dat} {H H1 : Heap} (hR : pmR G cl ft lo H0 S D H) (z : H.size ≤ H1.size) (o : ∀ q : Nat, q < H.size → H1[q]? = H[q]?) : pmR G cl ft lo H0 (S.1, S.2.1, H1.size) D H1 := by
  obtain ⟨h1, h2, h3, h4⟩ := hR
  refine ⟨rfl, by omega, fun a ha => by rw [o a (by omega)]; exact h3 a ha, fun a q hq => ?_⟩
  obtain ⟨g1, g2, g3⟩ := h4 a q hq
  exact ⟨g1, by omega, g3.kept (o a g2) (fun _ => rfl) (fun _ => rfl)⟩
/-- the old heap as the statics' words want it -/
theorem pm_old {S : Stat} {D : Dat} {T : State} {locs : List Loc} {cells slots : Nat} (X : Stand p l e R s m args below meth c T locs cells slots) (hR : pmR G cl ft lo H0 S D T.heap) (hL : ∀ q ∈ locs, lo ≤ q.base) (hlo : lo ≤ s.heap.size) : va_S (fun q => lo ≤ q) s.heap T.heap locs ∧ ∀ a : Nat, a < lo → s.heap[a]? = H0[a]? := by
  obtain ⟨f1, f2⟩ := vy_frame X.same
  refine ⟨⟨f1, fun q h1 h2 => f2 q h1 fun z hz hq => h2 (hq ▸ hL z hz), hL⟩, fun a ha => ?_⟩
  rw [← hR.2.2.1 a ha]
  exact (f2 a (by omega) fun z hz hq => by have h3 : lo ≤ a := hq ▸ hL z hz; omega).symm
/-- a handler's row: it is the first that takes the class -/
def pmH (own : String) (args : Array Value) (s : State) (c : Code) (pc hpc : Nat) (cls : String) : Prop := ∃ (pre suf : List ExceptionTableEntry) (x : ExceptionTableEntry) (nm : String), c.exceptionTable.toList = pre ++ x :: suf ∧ (∀ z ∈ pre, covers z pc = false ∨ (z.catchType ≠ 0 ∧ ∃ nm : String, (Cond.classLink own z.catchType nm).before args s = true ∧ va_Nc cls nm s)) ∧ covers x pc = true ∧ x.catchType ≠ 0 ∧ (Cond.classLink own x.catchType nm).before args s = true ∧ (Cond.castable cls nm).before args s = true ∧ x.handlerPc = hpc
theorem pm_vm (F : pmF p s m args c G nL cl kt Ts own cc) (X : pmN NW FW XE lo s) (hE : pmE XW XC XF lo H0 s) (hst : l.stackTraces = false) (hlocks : meth.locks = false) {cls : String} {names : List String} {nb hpc : Nat}
    (hcls : Bundle.fit cls = true) (hnames : ∀ n ∈ names, Bundle.fit n = true) (hsoe : (cls == "java/lang/StackOverflowError") = false) (hoom : (cls == "java/lang/OutOfMemoryError") = false)
    (hat : ∀ w ∈ vy_atM cls names, w.before args s = true) (hgood : ∀ w ∈ vy_atM cls names, vy_ot w = true) (hnb1 : nb ≤ 1000) (hfr : names.length + 4 < R.frames) (hlc : 10248 ≤ R.locals) (hshort : 13 * names.length + 55 ≤ 10240) (hH : pmH own args s c pc hpc cls) (h : pm_le Hn (pmV p l e R s m args below meth c G lo H0 nL cl ft Qf hpc))
    {ls : List (Option PV)} {st rest : List PV} {B : Nat × Nat} {S : Stat} {D : Dat} {H : Heap} {locs : List Loc} {la : Array Slot} {cells slots : Nat} (k : i_vm 3 (nb + 10) Hn ls st B S D) (hc : cells + B.1 = R.cells) (hs : slots + B.2 = R.slots) (hR : pmR G cl ft lo H0 S D H) (hL : ∀ q ∈ locs, lo ≤ q.base) (hl : LR la nL ls) (hr : catv rest ≤ 8)
    {text : String} (htext : (text == notModelled) = false) (hnb : (stringBytes (stringToUtf16 text)).size ≤ nb) : vy_Note p l e R s m args below meth c H locs cells slots Qf (F0 m pc la (rest.map cv)) cls text := by
  obtain ⟨b1, b2, rfl, k⟩ := k
  simp only at hc hs
  intro T hT Y
  obtain ⟨hS, hold⟩ := pm_old Y (by rw [hT]; exact hR) hL X.2.2.2
  rw [hT] at hS
  have z0 : ∀ a : Nat, a < H0.size → ¬ lo ≤ a → s.heap[a]? = H0[a]? := fun a _ h2 => hold a (by omega)
  obtain ⟨pre, suf, x, nm, e1, e2, e3, e4, e5, e6, e7⟩ := hH
  refine vy_vm F.1.1 hst (A := fun q => lo ≤ q) hcls hnames hsoe hoom hat hgood (hE.2.2.2.1.kept z0) (hE.2.2.2.2.kept z0) hS (by rw [F.1.2.2.1]; exact hl.1) htext hnb hnb1 hfr (by rw [catv_eq]; omega) hshort (by omega) (by omega) hlocks ?_ T hT Y
  intro H1 q9 ce g1 g2 g3 g4 g5 g6
  refine vy_catch F.1.2.2.2.1 pre x suf e1 e2 e3 e4 e5 e6 g4 g5 g6 ?_
  rw [e7]
  exact h ls _ (b1, b2) (S.1, S.2.1, H1.size) D (k H1.size q9 (by rw [← hR.1]; exact g1)) H1 locs la (cells + 3) (slots + (nb + 10)) (by simp only; omega) (by simp only; omega) (hR.grow g1 g2) hL hl (by simp [okv])
/-- the same for a null pointer -/
theorem pm_npe (F : pmF p s m args c G nL cl kt Ts own cc) (X : pmN NW FW XE lo s) (hE : pmE XW XC XF lo H0 s) (hst : l.stackTraces = false) (hlocks : meth.locks = false) {nb hpc : Nat}
    (hat : ∀ w ∈ vy_atN nb, w.before args s = true) (hgood : ∀ w ∈ vy_atN nb, vy_ot w = true) (hfr : 7 < R.frames) (hlc : 10248 ≤ R.locals) (hH : pmH own args s c pc hpc "java/lang/NullPointerException") (h : pm_le Hn (pmV p l e R s m args below meth c G lo H0 nL cl ft Qf hpc))
    {ls : List (Option PV)} {st rest : List PV} {B : Nat × Nat} {S : Stat} {D : Dat} {H : Heap} {locs : List Loc} {la : Array Slot} {cells slots : Nat} (k : i_vm 1 nb Hn ls st B S D) (hc : cells + B.1 = R.cells) (hs : slots + B.2 = R.slots) (hR : pmR G cl ft lo H0 S D H) (hL : ∀ q ∈ locs, lo ≤ q.base) (hl : LR la nL ls) (hr : catv rest ≤ 8) : vy_NoteN p l e R s m args below meth c H locs cells slots Qf (F0 m pc la (rest.map cv)) := by
  obtain ⟨b1, b2, rfl, k⟩ := k
  simp only at hc hs
  intro T hT Y
  obtain ⟨hS, hold⟩ := pm_old Y (by rw [hT]; exact hR) hL X.2.2.2
  rw [hT] at hS
  have z0 : ∀ a : Nat, a < H0.size → ¬ lo ≤ a → s.heap[a]? = H0[a]? := fun a _ h2 => hold a (by omega)
  obtain ⟨pre, suf, x, nm, e1, e2, e3, e4, e5, e6, e7⟩ := hH
  refine vy_npe F.1.1 hst (A := fun q => lo ≤ q) hat hgood (hE.2.2.2.1.kept z0) (hE.2.2.2.2.kept z0) hS (by rw [F.1.2.2.1]; exact hl.1) hfr (by rw [catv_eq]; omega) (by omega) (by omega) hlocks ?_ T hT Y
  intro H1 q9 ce g1 g2 g3 g4 g5 g6
  refine vy_catch F.1.2.2.2.1 pre x suf e1 e2 e3 e4 e5 e6 g4 g5 g6 ?_
  rw [e7]
  exact h ls _ (b1, b2) (S.1, S.2.1, H1.size) D (k H1.size q9 (by rw [← hR.1]; exact g1)) H1 locs la (cells + 1) (slots + nb) (by simp only; omega) (by simp only; omega) (hR.grow g1 g2) hL hl (by simp [okv])
/-- a reference out of an array, or the handler -/
def i_ldRX (K : Tm) (t : Nat) (Hn : Tm) : Tm := fun ls st B S D => match st with
  | .inl i :: .inr (.inr (some a)) :: r => ∃ n : Nat, S.1 a = some (t, n) ∧ n < 60000000 ∧ (0 ≤ i → i < n → K ls (.inr (.inr (S.2.1 a i)) :: r) B S D) ∧ (i < 0 ∨ (n : Int) ≤ i → catv r ≤ 8 ∧ i_vm 3 222 Hn ls r B S D)
  | _ => False
theorem sm_aaldX (F : pmF p s m args c G nL cl kt Ts own cc) (X : pmN NW FW XE lo s) (hE : pmE XW XC XF lo H0 s) (hst : l.stackTraces = false) (hlocks : meth.locks = false) {names : List String} {hpc : Nat}
    (hnames : ∀ n ∈ names, Bundle.fit n = true) (hat : ∀ w ∈ vy_atM "java/lang/ArrayIndexOutOfBoundsException" names, w.before args s = true) (hgood : ∀ w ∈ vy_atM "java/lang/ArrayIndexOutOfBoundsException" names, vy_ot w = true) (hfr : names.length + 4 < R.frames) (hlc : 10248 ≤ R.locals) (hshort : 13 * names.length + 55 ≤ 10240) (hH : pmH own args s c pc hpc "java/lang/ArrayIndexOutOfBoundsException") (hx : pm_le Hn (pmV p l e R s m args below meth c G lo H0 nL cl ft Qf hpc))
    {t : Nat} {ty : FieldType} (ht : 104 < t) (hkt : (t, ty) ∈ kt) (hty : ty.isReference = true) (d : decode cc pc = .ok (.aaload, 1)) (h : pm_le K (pmV p l e R s m args below meth c G lo H0 nL cl ft Qf (pc + 1))) : pm_le (i_ldRX K t Hn) (pmV p l e R s m args below meth c G lo H0 nL cl ft Qf pc) := by
  intro ls st B S D k H locs la cells slots hc hs hR hL hl hv
  unfold i_ldRX at k
  split at k
  · rename_i i a r
    obtain ⟨n, hS1, hn, k1, k2⟩ := k
    rcases Classical.em (0 ≤ i ∧ i < n) with ⟨g1, g2⟩ | g
    · exact sm_aald (K := K) F ht hkt hty d h ls (.inl i :: .inr (.inr (some a)) :: r) B S D ⟨n, hS1, g1, g2, k1 g1 g2⟩ H locs la cells slots hc hs hR hL hl hv
    · obtain ⟨hr, k3⟩ := k2 (by omega)
      simp only [List.forall_mem_cons] at hv
      obtain ⟨hlo, a1, -, -⟩ := hR.arr hS1 (by omega)
      have hout : (Int32.ofInt i < 0 ∨ (arrV (G.2 t) n (pmAv t S D a)).slots.size ≤ (Int32.ofInt i).toNatClampNeg) := by
        rw [arrV_size]
        have hi := t32 hv.1
        rcases Int.lt_or_le i 0 with q | q
        · left
          rw [Int32.lt_iff_toInt_lt, hi]; exact q
        · right
          have : (Int32.ofInt i).toNatClampNeg = i.toNat := by
            show (Int32.ofInt i).toInt.toNat = _
            rw [hi]
          omega
      intro T hT Y
      obtain ⟨t', st', q⟩ := pm_vm (rest := r) F X hE hst hlocks (cls := "java/lang/ArrayIndexOutOfBoundsException") (by decide +kernel) hnames (by decide +kernel) (by decide +kernel) hat hgood (by omega) hfr hlc hshort hH hx k3 hc hs hR hL hl hr (index_text_modelled (Int32.ofInt i) n) (index_text_bytes (Int32.ofInt i) (by omega)) T hT Y
      refine ⟨t', ?_, q⟩
      have h1 := Y.aaloadOut F.1.1 (by rw [hT]; exact a1) ((F.2.2 _ _ hkt).1 n _) (j := Int32.ofInt i) hout (g := F0 m pc la (.int (Int32.ofInt i) :: .ref a :: r.map cv)) rfl (rest := r.map cv) rfl (by rw [F.1.2.1]; exact d) t'
      simp only [arrV_size] at h1
      exact h1 st'
  · exact k.elim
/-- a quotient, or the handler -/
def i_idivX (K Hn : Tm) : Tm := fun ls st B S D => match st with
  | .inl y :: .inl x :: r => (y ≠ 0 → inI (x.tdiv y) ∧ K ls (.inl (x.tdiv y) :: r) B S D) ∧ (y = 0 → catv r ≤ 8 ∧ i_vm 3 19 Hn ls r B S D)
  | _ => False
theorem sm_idivX (F : pmF p s m args c G nL cl kt Ts own cc) (X : pmN NW FW XE lo s) (hE : pmE XW XC XF lo H0 s) (hst : l.stackTraces = false) (hlocks : meth.locks = false) {names : List String} {hpc : Nat}
    (hnames : ∀ n ∈ names, Bundle.fit n = true) (hat : ∀ w ∈ vy_atM "java/lang/ArithmeticException" names, w.before args s = true) (hgood : ∀ w ∈ vy_atM "java/lang/ArithmeticException" names, vy_ot w = true) (hfr : names.length + 4 < R.frames) (hlc : 10248 ≤ R.locals) (hshort : 13 * names.length + 55 ≤ 10240) (hH : pmH own args s c pc hpc "java/lang/ArithmeticException") (hx : pm_le Hn (pmV p l e R s m args below meth c G lo H0 nL cl ft Qf hpc))
    (d : decode cc pc = .ok (.idiv, 1)) (h : pm_le K (pmV p l e R s m args below meth c G lo H0 nL cl ft Qf (pc + 1))) : pm_le (i_idivX K Hn) (pmV p l e R s m args below meth c G lo H0 nL cl ft Qf pc) := by
  intro ls st B S D k H locs la cells slots hc hs hR hL hl hv
  unfold i_idivX at k
  split at k
  · rename_i y x r
    rcases Classical.em (y = 0) with g | g
    · obtain ⟨hr, k3⟩ := k.2 g
      exact vy_idivZ F.1.1 F.1.2.1 (by rw [g]; rfl) d (pm_vm (rest := r) F X hE hst hlocks (by decide +kernel) hnames (by decide +kernel) (by decide +kernel) hat hgood (by omega) hfr hlc hshort hH hx k3 hc hs hR hL hl hr (by decide +kernel) (by decide +kernel))
    · obtain ⟨k1, k2⟩ := k.1 g
      exact sm_idiv (K := K) F d h ls (.inl y :: .inl x :: r) B S D ⟨g, k1, k2⟩ H locs la cells slots hc hs hR hL hl hv
  · exact k.elim
/-- a new array of shorts, or the handler -/
def i_newaX (K : Tm) (t : Nat) (Hn : Tm) : Tm := fun ls st B S D => match st with
  | .inl x :: r => (0 ≤ x → ∃ b1 b2 n : Nat, x = n ∧ n < 60000000 ∧ B = (b1 + 1, b2 + n) ∧ K ls (.inr (.inr (some S.2.2)) :: r) (b1, b2) (mkS S t n) (mkD S D)) ∧ (x < 0 → catv r ≤ 8 ∧ i_vm 3 54 Hn ls r B S D)
  | _ => False
theorem sm_newaX (F : pmF p s m args c G nL cl kt Ts own cc) (X : pmN NW FW XE lo s) (hE : pmE XW XC XF lo H0 s) (hst : l.stackTraces = false) (hlocks : meth.locks = false) {names : List String} {hpc : Nat}
    (hnames : ∀ n ∈ names, Bundle.fit n = true) (hat : ∀ w ∈ vy_atM "java/lang/NegativeArraySizeException" names, w.before args s = true) (hgood : ∀ w ∈ vy_atM "java/lang/NegativeArraySizeException" names, vy_ot w = true) (hfr : names.length + 4 < R.frames) (hlc : 10248 ≤ R.locals) (hshort : 13 * names.length + 55 ≤ 10240) (hH : pmH own args s c pc hpc "java/lang/NegativeArraySizeException") (hx : pm_le Hn (pmV p l e R s m args below meth c G lo H0 nL cl ft Qf hpc))
    {t : Nat} {atype : ArrayType} (d : decode cc pc = .ok (.newarray atype, 2)) (h : pm_le (i_newa K t) (pmV p l e R s m args below meth c G lo H0 nL cl ft Qf pc)) : pm_le (i_newaX K t Hn) (pmV p l e R s m args below meth c G lo H0 nL cl ft Qf pc) := by
  intro ls st B S D k H locs la cells slots hc hs hR hL hl hv
  unfold i_newaX at k
  split at k
  · rename_i x r
    rcases Int.lt_or_le x 0 with g | g
    · obtain ⟨hr, k3⟩ := k.2 g
      have hx0 : Int32.ofInt x < 0 := by
        rw [Int32.lt_iff_toInt_lt, t32 (hv _ List.mem_cons_self)]; exact g
      exact vy_newarrayZ F.1.1 F.1.2.1 hx0 d (fun tx htx => pm_vm (rest := r) F X hE hst hlocks (by decide +kernel) hnames (by decide +kernel) (by decide +kernel) hat hgood (by omega) hfr hlc hshort hH hx k3 hc hs hR hL hl hr (by rw [htx]; exact negative_text_modelled hx0) (by rw [htx]; exact negative_text_bytes _))
    · exact h ls (.inl x :: r) B S D (k.1 g) H locs la cells slots hc hs hR hL hl hv
  · exact k.elim
/-- athrow of a cell or of null -/
def i_throwX (c : Nat) (H Hn : Tm) (nb : Nat) : Tm := fun ls st B S D => match st with
  | .inr (.inr (some a)) :: _ => S.1 a = some (c, 0) ∧ H ls [.inr (.inr (some a))] B S D
  | .inr (.inr none) :: r => catv r ≤ 8 ∧ i_vm 1 nb Hn ls r B S D
  | _ => False
theorem sm_athrowX (F : pmF p s m args c G nL cl kt Ts own cc) (X : pmN NW FW XE lo s) (hE : pmE XW XC XF lo H0 s) (hst : l.stackTraces = false) (hlocks : meth.locks = false) {nb hpc : Nat}
    (hat : ∀ w ∈ vy_atN nb, w.before args s = true) (hgood : ∀ w ∈ vy_atN nb, vy_ot w = true) (hfr : 7 < R.frames) (hlc : 10248 ≤ R.locals) (hH : pmH own args s c pc hpc "java/lang/NullPointerException") (hx : pm_le Hn (pmV p l e R s m args below meth c G lo H0 nL cl ft Qf hpc))
    {ci : Nat} {T : u_T} {N : Nat} {ty : Nat → FieldType} (hC : pmC Ts cl ft ci XN T N ty) (d : decode cc pc = .ok (.athrow, 1)) (hX : pmX p l e R s m args below meth c G lo H0 nL cl ft XN Qf pc J) : pm_le (i_throwX ci J Hn nb) (pmV p l e R s m args below meth c G lo H0 nL cl ft Qf pc) := by
  intro ls st B S D k H locs la cells slots hc hs hR hL hl hv
  unfold i_throwX at k
  split at k
  · rename_i a r
    exact sm_athrow (Hn := J) F hC d hX ls (.inr (.inr (some a)) :: r) B S D k H locs la cells slots hc hs hR hL hl hv
  · rename_i r
    obtain ⟨hr, k3⟩ := k
    exact vy_athrowN F.1.1 F.1.2.1 d (pm_npe (rest := r) F X hE hst hlocks hat hgood hfr hlc hH hx k3 hc hs hR hL hl hr)
  · exact k.elim
end SM
