/-! SIM: System.arraycopy, caught out of bounds -/
set_option maxRecDepth 100000
set_option linter.unusedVariables false
theorem int_print {z : Int} (h0 : 0 ≤ z) (h1 : z < 10000000000) : (toString z).toList.length ≤ 10 := by
  obtain ⟨n, rfl⟩ := Int.eq_ofNat_of_zero_le h0
  exact nat_print (n := n) (by omega)
theorem cf_show {a b c : Int32} {n k : Nat} {w : String} (hn : n < 60000000) (hk : k < 60000000) (h : copyFault .short .short n k a b c = some w) : w.toList.length ≤ 80 := by
  have w1 := int32_print a
  have w2 := int32_print b
  have w3 := int32_print c
  have n1 := nat_print (n := n) (by omega)
  have n2 := nat_print (n := k) (by omega)
  have hs : ∀ m : Nat, (toString m).toList.length ≤ 10 → (toString (toString (Native.java_lang_System.arraycopy.kindName .short) ++ toString "[" ++ toString m ++ toString "]")).toList.length ≤ 17 := fun m hm => by
    show (toString (Native.java_lang_System.arraycopy.kindName .short) ++ toString "[" ++ toString m ++ toString "]").toList.length ≤ 17
    simp only [String.toList_append, List.length_append]
    have a1 : (toString (Native.java_lang_System.arraycopy.kindName .short)).toList.length = 5 := by decide
    have a2 : (toString "[").toList.length = 1 := by decide
    have a3 : (toString "]").toList.length = 1 := by decide
    omega
  have s1 := hs n n1
  have s2 := hs k n2
  have b1 : (toString "source index ").toList.length = 13 := by decide
  have b2 : (toString " out of bounds for ").toList.length = 19 := by decide
  have b3 : (toString "destination index ").toList.length = 18 := by decide
  have b4 : (toString "length ").toList.length = 7 := by decide
  have b5 : (toString " is negative").toList.length = 12 := by decide
  have b6 : (toString "last source index ").toList.length = 18 := by decide
  have b7 : (toString "last destination index ").toList.length = 23 := by decide
  have la := Int32.toInt_lt a
  have lb := Int32.toInt_lt b
  have lc := Int32.toInt_lt c
  unfold copyFault at h
  split at h
  · cases h
    show (toString "source index " ++ toString a ++ toString " out of bounds for " ++ toString (toString (Native.java_lang_System.arraycopy.kindName .short) ++ toString "[" ++ toString n ++ toString "]")).toList.length ≤ 80
    simp only [String.toList_append (s := _) (t := _), List.length_append] at *
    omega
  · rename_i ha
    split at h
    · cases h
      show (toString "destination index " ++ toString b ++ toString " out of bounds for " ++ toString (toString (Native.java_lang_System.arraycopy.kindName .short) ++ toString "[" ++ toString k ++ toString "]")).toList.length ≤ 80
      simp only [String.toList_append, List.length_append] at *
      omega
    · rename_i hb
      split at h
      · cases h
        show (toString "length " ++ toString c ++ toString " is negative").toList.length ≤ 80
        simp only [String.toList_append, List.length_append] at *
        omega
      · rename_i hc
        have za : 0 ≤ a.toInt := by have := Int32.not_lt.mp ha; simpa using Int32.le_iff_toInt_le.mp this
        have zb : 0 ≤ b.toInt := by have := Int32.not_lt.mp hb; simpa using Int32.le_iff_toInt_le.mp this
        have zc : 0 ≤ c.toInt := by have := Int32.not_lt.mp hc; simpa using Int32.le_iff_toInt_le.mp this
        have p1 := int_print (z := a.toInt + c.toInt) (by omega) (by omega)
        have p2 := int_print (z := b.toInt + c.toInt) (by omega) (by omega)
        split at h
        · cases h
          show (toString "last source index " ++ toString (a.toInt + c.toInt) ++ toString " out of bounds for " ++ toString (toString (Native.java_lang_System.arraycopy.kindName .short) ++ toString "[" ++ toString n ++ toString "]")).toList.length ≤ 80
          simp only [String.toList_append, List.length_append] at *
          omega
        · split at h
          · cases h
            show (toString "last destination index " ++ toString (b.toInt + c.toInt) ++ toString " out of bounds for " ++ toString (toString (Native.java_lang_System.arraycopy.kindName .short) ++ toString "[" ++ toString k ++ toString "]")).toList.length ≤ 80
            simp only [String.toList_append, List.length_append] at *
            omega
          · cases h
theorem cf_text {w : String} (h : w.toList.length ≤ 80) : (("arraycopy: " ++ w) == notModelled) = false ∧ (stringBytes (stringToUtf16 ("arraycopy: " ++ w))).size ≤ 600 := by
  have h5 : "arraycopy: ".toList = 'a' :: "rraycopy: ".toList := by decide
  refine ⟨?_, ?_⟩
  · rw [beq_eq_false_iff_ne]
    intro h
    have h2 := congrArg String.toList h
    have h4 : notModelled.toList = '\u0000' :: " a message that is not modelled".toList := by decide
    simp only [String.toList_append, h4, h5, List.cons_append] at h2
    simp at h2
  · have b1 := stringBytes_size_le (stringToUtf16 ("arraycopy: " ++ w))
    have b2 := utf16_size_le ("arraycopy: " ++ w)
    have b3 : ("arraycopy: " ++ w).toList.length ≤ 91 := by
      simp only [String.toList_append, List.length_append]
      have : "arraycopy: ".toList.length = 11 := by decide
      omega
    omega
theorem cf_some {a b c : Int32} {n k : Nat} (h : ¬ (0 ≤ a.toInt ∧ 0 ≤ b.toInt ∧ 0 ≤ c.toInt ∧ a.toInt + c.toInt ≤ n ∧ b.toInt + c.toInt ≤ k)) : ∃ w, copyFault .short .short n k a b c = some w := by
  have z : ∀ x : Int32, (x < 0 ↔ x.toInt < 0) := fun x => by rw [Int32.lt_iff_toInt_lt]; simp
  unfold copyFault
  split
  · exact ⟨_, rfl⟩
  · rename_i h1
    split
    · exact ⟨_, rfl⟩
    · rename_i h2
      split
      · exact ⟨_, rfl⟩
      · rename_i h3
        split
        · exact ⟨_, rfl⟩
        · rename_i h4
          split
          · exact ⟨_, rfl⟩
          · rename_i h5
            rw [z] at h1 h2 h3
            exact absurd ⟨by omega, by omega, by omega, by omega, by omega⟩ h
/-- a copy whose values fit -/
def i_copyS (t : Nat) (K : Tm) : Tm := fun ls st B S D => match st with
  | .inl n :: .inl dp :: .inr (.inr (some dst)) :: .inl sp :: .inr (.inr (some src)) :: r => catv r ≤ 8 ∧ ∃ ns nd : Nat, S.1 src = some (t, ns) ∧ S.1 dst = some (t, nd) ∧ ns < 60000000 ∧ nd < 60000000 ∧ 0 ≤ sp ∧ 0 ≤ dp ∧ 0 ≤ n ∧ sp + n ≤ ns ∧ dp + n ≤ nd ∧ (∀ j : Int, 0 ≤ j → j < n → okT t (D src (sp + j))) ∧ K ls r B S (cpD D src sp dst dp n)
  | _ => False
set_option maxHeartbeats 1000000 in
theorem vy_natAt {p : Program} {l : Launch} {e : Env} {R : Room} {s : State} {m₀ : MethodId} {args : Array Value} {below : List Frame} {meth : Method} {c : Code} {W : State} {locs : List Loc} {cells slots : Nat}
    (X : Stand p l e R s m₀ args below meth c W locs cells slots) (hexec : p.tables.exec = Jvm.exec) (htr : e.platform.stackTraces = false) {cls : String} {names : List String} {text : String}
    (hcls : Bundle.fit cls = true) (hnames : ∀ n ∈ names, Bundle.fit n = true) (hsoe : (cls == "java/lang/StackOverflowError") = false) (hoom : (cls == "java/lang/OutOfMemoryError") = false)
    (h : ∀ a ∈ Bundle.messageArmAtoms cls names, a.before args s = true)
    (hlocs : ∀ x ∈ locs, ∀ cell, s.heap[x.base]? = some cell → cell.vm.isStatics = false)
    (htext : (text == notModelled) = false) (hlimit : ¬ (stringBytes (stringToUtf16 text)).size > e.platform.arrayLengthLimit) (hheap : ¬ (stringBytes (stringToUtf16 text)).size * componentBytes .byte > e.platform.maxHeapBytes)
    {g : JFrame} (hg : g.method = m₀) (hsize : g.locals.size = c.maxLocals) {nf : NFrame} (hnf : nf.words = 0) (haw : nf.awaiting = false) (hlk : nf.locked = none)
    (hRframes : names.length + 5 < R.frames) (hRlocals : 2 * g.monitorRoom + (g.stack.map fun v => v.category).sum + 10240 ≤ R.locals) (hshort : 13 * names.length + 55 ≤ 10240)
    (hRcells : cells + 3 ≤ R.cells) (hRslots : slots + ((stringBytes (stringToUtf16 text)).size + 4 + 6) ≤ R.slots) (hlocks : meth.locks = false) :
    ∃ (S : State) (q : Addr) (ce : Cell), (∀ target, Steps p.tables e below ((S.setTop g).pushFrame (.throwing q)) target → Steps p.tables e below (W.setFrames (.throwNew cls (some text) none :: .native nf :: .java g :: below)) target) ∧
      Stand p l e R s m₀ args below meth c S locs (cells + 3) (slots + ((stringBytes (stringToUtf16 text)).size + 4 + 6)) ∧ S.heap[q]? = some ce ∧ s.vm.findClass cls = some ce.cls ∧ ce.vm = .none := by
  have howns : e.platform.frameOwnsMonitors = true := by rw [X.admits.platform]
  have hfin : e.platform.finalization = false := by rw [X.admits.platform]
  have hpl : e.platform.magicAccessors = ({} : Platform).magicAccessors := by rw [X.admits.platform]
  have a : ∀ x, x ∈ Bundle.messageArmAtoms cls names → x.holds args s none s [] = true := fun x hx => h x hx
  obtain ⟨T, Z0, L, -, Y⟩ := ThrowableC.of_atoms (args := args) howns hfin hpl (fun x hx => h x (by simp [Bundle.messageArmAtoms, hx]))
  obtain ⟨Z, M, LZ, LM, hnZ⟩ := Init0T.ofS_atoms (args := args) hpl L Y (fun x hx => h x (by simp [Bundle.messageArmAtoms, hx]))
  obtain ⟨P1, Ps, hlen, L1, hL, hP1m, hlink1, hlink⟩ := Bundle.chainS (args := args) hpl hnZ names cls hcls hnames (fun x hx => h x (by simp [Bundle.messageArmAtoms, hx]))
  obtain ⟨Zs, LZs, hn4, hfitv, hfitc⟩ := StringT.of_atoms (args := args) (fun x hx => h x (by simp [Bundle.messageArmAtoms, hx]))
  have hfound : s.vm.findClass cls = some P1.m.cls := findClass_of_methodNamed hP1m
  obtain ⟨c1, kX, hc1, hk, hord, -, -, hn6⟩ := Cond.instantiable_spec (a (.instantiable cls 6) (by simp [Bundle.messageArmAtoms]))
  cases Option.some.inj (hc1.symm.trans hfound)
  have hinit := Cond.initialized_spec hfound hk (a (.initialized cls) (by simp [Bundle.messageArmAtoms]))
  have hctor : kX.findMethod "<init>" "(Ljava/lang/String;)V" = some P1.m.idx := findMethod_of_methodNamed hP1m hk
  have hsel0 : selectMethod e.platform s.vm P1.m.cls T.fill0 = .method T.fill0 := by
    obtain ⟨c2, r2, m2, q1, q2, q3, q4, -⟩ := Cond.selects_spec (a (.selects cls Bundle.tFill0 Bundle.tFill0) (by simp [Bundle.messageArmAtoms]))
    cases Option.some.inj (q1.symm.trans hfound)
    cases Option.some.inj (q2.symm.trans (State.methodFound?_of_named Y.fill0 (by decide)))
    cases Option.some.inj (q3.symm.trans Y.fill0)
    rw [Launch.admits_selectMethod X.admits]; exact q4
  have hselF : selectMethod e.platform s.vm P1.m.cls T.fill = .method T.fill := by
    obtain ⟨c2, r2, m2, q1, q2, q3, q4, -⟩ := Cond.selects_spec (a (.selects cls Bundle.tFill Bundle.tFill) (by simp [Bundle.messageArmAtoms]))
    cases Option.some.inj (q1.symm.trans hfound)
    cases Option.some.inj (q2.symm.trans (State.methodFound?_of_named Y.fill (by decide)))
    cases Option.some.inj (q3.symm.trans Y.fill)
    rw [Launch.admits_selectMethod X.admits]; exact q4
  obtain ⟨cellS0, hcS0, hiss⟩ := Y.statics
  obtain ⟨u0, hu0⟩ := Cond.staticRefV Y.unassigned L.unassignedStatic L.statics hcS0 hiss (a (.isRef (.static Bundle.tN "UNASSIGNED_STACK" Bundle.steD)) (by simp [Bundle.messageArmAtoms]))
  obtain ⟨sen, hsen⟩ := Cond.staticRefV Y.sentinel L.sentinelStatic L.statics hcS0 hiss (a (.isRef (.static Bundle.tN "SUPPRESSED_SENTINEL" Bundle.listD)) (by simp [Bundle.messageArmAtoms]))
  obtain ⟨ci198, i198, fB, hk198, hg198, ha198, hsB, -, hnB, htB, hffB⟩ := Cond.ownField (t := .object "java/lang/Object") Y.found L.cls (by decide +kernel) (a (.fieldLink Bundle.tN 198 Bundle.tN "backtrace" "Ljava/lang/Object;") (by simp [Bundle.messageArmAtoms])) (a (.lays Bundle.tN Bundle.tN "backtrace" "Ljava/lang/Object;") (by simp [Bundle.messageArmAtoms])) e.platform hpl
  obtain ⟨cellS, hcS', heS, -, hkeep⟩ := X.same.2.2.2.2.2 T.aS cellS0 hcS0
  have hcellS : W.heap[T.aS]? = some cellS := hcS'
  have hout' : ∀ i, (⟨T.aS, i⟩ : Loc) ∉ locs := fun i hmem => by
    have := hlocs _ hmem cellS0 hcS0
    rw [hiss] at this; cases this
  have hknownS : cellS.vm ≠ .unknown := by
    rw [heS]; intro hu
    rw [show cellS0.vm = .unknown from hu] at hiss
    cases hiss
  have hvU : cellS.slots[T.fUnassigned.slot]? = some u0.v := by rw [hkeep _ (hout' _)]; exact hu0
  have hvSen : cellS.slots[T.fSentinel.slot]? = some sen.v := by rw [hkeep _ (hout' _)]; exact hsen
  obtain ⟨iM, hffM⟩ := Y.msg
  obtain ⟨tyC, dC, hdC, hdnC⟩ := Cond.laysAt hfound hk Y.cause (a (.lays cls Bundle.tN "cause" "Ljava/lang/Throwable;") (by simp [Bundle.messageArmAtoms]))
  obtain ⟨tyS, dS, hdS, hdnS⟩ := Cond.laysAt hfound hk Y.stack (a (.lays cls Bundle.tN "stackTrace" Bundle.steD) (by simp [Bundle.messageArmAtoms]))
  obtain ⟨tyP, dP, hdP, hdnP⟩ := Cond.laysAt hfound hk Y.supp (a (.lays cls Bundle.tN "suppressedExceptions" Bundle.listD) (by simp [Bundle.messageArmAtoms]))
  obtain ⟨tyM, dM, hdM, hdnM⟩ := Cond.laysAt hfound hk hffM (a (.lays cls Bundle.tN "detailMessage" "Ljava/lang/String;") (by simp [Bundle.messageArmAtoms]))
  obtain ⟨tyB, dB, hdB, hdnB⟩ := Cond.laysAt hfound hk hffB (a (.lays cls Bundle.tN "backtrace" "Ljava/lang/Object;") (by simp [Bundle.messageArmAtoms]))
  have bC := Cond.laysApart hdB hdC hdnB hdnC (by rw [hnB, Y.causeName]; decide)
  have bS := Cond.laysApart hdB hdS hdnB hdnS (by rw [hnB, Y.stackName]; decide)
  have bP := Cond.laysApart hdB hdP hdnB hdnP (by rw [hnB, Y.suppName]; decide)
  have hbk : ((preparedCellV T.toThrowableT (freshCell P1.m.cls kX) (W.heap.size + 2) u0 sen).withEntry W.cur).slots[fB.slot]? = some .null := by
    have := fresh_default (c := P1.m.cls) tyB
    rw [htB] at this
    simpa [preparedCellV, Cell.setSlot, Cell.withEntry, Array.getElem?_setIfInBounds, bC, bS, bP, bC.symm, bS.symm, bP.symm, defaultValue] using this
  have tkC := Takes.of_laid (v := .ref (W.heap.size + 2)) hk hord tyC (by rw [Y.causeType]; rfl)
  have tkS := Takes.of_laid (v := u0.v) hk hord tyS (by rw [Y.stackType]; exact fits_refV_array _ u0)
  have tkP := Takes.of_laid (v := sen.v) hk hord tyP (by rw [Y.suppType]; exact fits_refV_object _ sen)
  have tkM := Takes.of_laid (v := .ref (W.heap.size + 1)) hk hord tyM (by rw [Y.msgType]; rfl)
  have hskip : SkipFacts T e.platform s (fun u => u) u0 ((preparedCellV T.toThrowableT (freshCell P1.m.cls kX) (W.heap.size + 2) u0 sen).withEntry W.cur) := ⟨{ ci198 := ci198, i198 := i198, fBack := fB }, ⟨hk198, hg198, ha198, hsB⟩, hbk, fun _ _ => rfl⟩
  have ha0 : W.heap.size + 2 < (withThrown W Zs text P1.m.cls kX).heap.size := by
    rw [(withThrown_facts e.platform W Zs text P1.m.cls kX).2.2.1]; omega
  obtain ⟨vm', X5, st, -⟩ := X.nativeThrowsMessageColdBareV hexec hsize hnf T L Z LZ M LM Zs LZs P1 L1 Ps hL hlink1 hlink hsoe hoom hfound hk hinit hord hctor htext hlimit hheap
    (hfitv _) (hfitc _) hsel0 hselF hcellS hknownS hvU hvSen tkC tkS tkP tkM Y.objLocals hskip (fun _ _ hA hW _ hroom _ hrest => L.nativeOff p htr hA hW hroom hrest)
    (by rw [hlen]; exact hRframes) hRlocals (by rw [hlen]; exact hshort) (by omega) (by rw [hn4, hn6]; omega)
  have ha : (W.heap.size + 2) < ((withThrown W Zs text P1.m.cls kX).setVm vm').heap.size := ha0
  obtain ⟨g₁, hfrM⟩ := X5.frames_eq
  have hU : ((((withThrown W Zs text P1.m.cls kX).setVm vm').setCell (W.heap.size + 2) (plainBareV T.toThrowableT (freshCell P1.m.cls kX) (W.heap.size + 2) u0 sen (.ref (W.heap.size + 1)))).setTop g).pushFrame (.throwing (W.heap.size + 2)) = (((withThrown W Zs text P1.m.cls kX).setVm vm').setCell (W.heap.size + 2) (plainBareV T.toThrowableT (freshCell P1.m.cls kX) (W.heap.size + 2) u0 sen (.ref (W.heap.size + 1)))).setFrames (.throwing (W.heap.size + 2) :: .java g :: below) := by
    rw [State.pushFrame, State.frames_setTop _ hfrM, State.setTop_of_frames _ hfrM, State.setFrames_setFrames]
  have b1 : (bytesOf Zs.cB (stringToUtf16 text)).slots.size = (stringBytes (stringToUtf16 text)).size := by
    rw [(Cell.writeAll_facts _ _).2.2]; simp [bytes0]
  have b2 : (stringAt Zs.cS Zs.kS Zs.fv Zs.fc (stringToUtf16 text) W.heap.size).slots.size = 4 := by simp [string0, Cell.setSlot, hn4]
  have b3 : (freshCell P1.m.cls kX).slots.size = 6 := by simp [hn6]
  rw [b1, b2, b3] at X5
  have e9 : slots + (stringBytes (stringToUtf16 text)).size + 4 + 6 = slots + ((stringBytes (stringToUtf16 text)).size + 4 + 6) := by omega
  rw [e9] at X5
  refine ⟨((withThrown W Zs text P1.m.cls kX).setVm vm').setCell (W.heap.size + 2) (plainBareV T.toThrowableT (freshCell P1.m.cls kX) (W.heap.size + 2) u0 sen (.ref (W.heap.size + 1))), W.heap.size + 2, _, fun target ht => st.trans ?_,
    X5.forget (fun y hy => ?_), heapAt_setCell_self _ ha, hfound, rfl⟩
  · refine Steps.throwingLeavesNative ⟨X5.here.running, X5.here.runnable, X5.here.alone⟩ (State.cur_lt_of_frames hfrM) ⟨[.java g], rfl⟩ haw hlk ?_
    rw [← hU]; exact ht
  · simp only [List.mem_cons, List.not_mem_nil, or_false] at hy
    have hge : s.heap.size ≤ W.heap.size := X.same.2.1
    rcases hy with rfl | rfl | rfl | rfl | rfl <;> exact Nat.le_trans hge (Nat.le_add_right _ 2)
section SM
variable {p : Program} {l : Launch} {e : Env} {R : Room} {s : State} {m : MethodId} {args : Array Value} {below : List Frame} {meth : Method} {c : Code} {G : pmG} {lo : Nat} {H0 : Heap} {nL : Nat} {cl : List vw_C} {ft : Nat → Nat → Bool} {kt : List (Nat × FieldType)} {Ts : List Cond} {own : String} {cc : ByteArray} {Qf : State → Prop} {K J Hn : Tm} {pc : Nat}
theorem sm_copyS (F : pmF p s m args c G nL cl kt Ts own cc) {t idx : Nat} {ty : FieldType} (ht0 : 100 ≤ t) (ht : t < 104) (hkt : (t, ty) ∈ kt) (hrk : refKind ty = false) (hfit : ∀ x : Int, okT t x → fits ty (.int (Int32.ofInt x)) = true) (q1 : Cond.methodLink own idx arraycopyName ∈ Ts) (q2 : Cond.native arraycopyName ∈ Ts) (q3 : Cond.static arraycopyName ∈ Ts) (q4 : Cond.initialized "java/lang/System" ∈ Ts) (hfr : 1 ≤ R.frames) (hlc : 8 + (nativeFrameWords "java/lang/System" "arraycopy" 5 + 11) ≤ R.locals) (d : decode cc pc = .ok (.invokestatic idx, 3)) (h : pm_le K (pmV p l e R s m args below meth c G lo H0 nL cl ft Qf (pc + 3))) : pm_le (i_copyS t K) (pmV p l e R s m args below meth c G lo H0 nL cl ft Qf pc) := by
  intro ls st B S D k H locs la cells slots hc hs hR hL hl hv
  unfold i_copyS at k
  split at k
  · rename_i n dp dst sp src r
    obtain ⟨hr, ns, nd, hSs, hSd, hns, hnd, h1, h2, h3, h4, h5, hok, k⟩ := k
    simp only [List.forall_mem_cons] at hv
    obtain ⟨v1, v2, -, v4, -, v6⟩ := hv
    obtain ⟨a1, a2, a3⟩ := nn32 v1 h3
    obtain ⟨b1, b2, b3⟩ := nn32 v2 h2
    obtain ⟨c1, c2, c3⟩ := nn32 v4 h1
    obtain ⟨hlos, gs, gs2, -⟩ := hR.arr hSs ht0
    obtain ⟨hlod, gd, gd2, -⟩ := hR.arr hSd ht0
    have es : pmAv t S D src = fun j => .int (Int32.ofInt (D src j)) := funext fun j => by simp only [pmAv]; rw [if_pos ht]
    have ed : pmAv t S D dst = fun j => .int (Int32.ofInt (D dst j)) := funext fun j => by simp only [pmAv]; rw [if_pos ht]
    rw [es] at gs
    rw [ed] at gd
    obtain ⟨-, k0, hk0, cm0, hkk0⟩ := (F.2.2 _ _ hkt).1 ns (fun j => .int (Int32.ofInt (D src j)))
    intro T hT Y
    have hslot : ∀ j, j < ns → (arrV (G.2 t) ns (fun j => .int (Int32.ofInt (D src j)))).slots[j]? = some (.int (Int32.ofInt (D src j))) := fun j hj => by simp [arrV, hj]
    obtain ⟨vm', Y', step⟩ := Y.arraycopy F.1.1 F.1.2.2.2.1 (F.1.2.2.2.2 _ q1) (F.1.2.2.2.2 _ q2) (F.1.2.2.2.2 _ q3) (F.1.2.2.2.2 _ q4) (src := src) (dst := dst) (cs := arrV (G.2 t) ns (fun j => .int (Int32.ofInt (D src j)))) (cd := arrV (G.2 t) nd (fun j => .int (Int32.ofInt (D dst j)))) (srcPos := Int32.ofInt sp) (destPos := Int32.ofInt dp) (n := Int32.ofInt n) (by rw [hT]; exact gs) (by rw [hT]; exact gd)
      (fun _ h => by cases h) (fun _ h => by cases h) (fun h => by cases h) (fun h => by cases h) hk0 hk0 hkk0 hkk0 (by simp [hrk]) c1 b1 a1
      (by rw [c2, a2, arrV_size]; omega) (by rw [b2, a2, arrV_size]; omega)
      (fun vm₁ _ i hi => by
        rw [a3] at hi
        rw [c3]
        have e : (arrV (G.2 t) ns (fun j => .int (Int32.ofInt (D src j)))).slots.getD (sp.toNat + i) .null = .int (Int32.ofInt (D src (sp.toNat + i : Nat))) := by
          rw [Array.getD_eq_getD_getElem?, hslot _ (by omega)]; rfl
        rw [e]
        have h9 := hok (i : Int) (by omega) (by omega)
        rw [show sp + (i : Int) = ((sp.toNat + i : Nat) : Int) by omega] at h9
        exact ⟨hfit _ h9, trivial⟩)
      (g := F0 m pc la (.int (Int32.ofInt n) :: .int (Int32.ofInt dp) :: .ref dst :: .int (Int32.ofInt sp) :: .ref src :: r.map cv)) rfl (by rw [F.1.2.2.1]; exact hl.1) (rest := r.map cv) rfl (by rw [F.1.2.1]; exact d) hfr (by rw [catv_eq]; simp only [JFrame.monitorRoom]; simp; omega)
    have e1 : copied (arrV (G.2 t) ns (fun j => .int (Int32.ofInt (D src j)))) (arrV (G.2 t) nd (fun j => .int (Int32.ofInt (D dst j)))) (Int32.ofInt sp) (Int32.ofInt dp) (Int32.ofInt n) = arrV (G.2 t) nd (fun j => .int (va_cpy (fun j => Int32.ofInt (D src j)) (fun j => Int32.ofInt (D dst j)) sp.toNat dp.toNat n.toNat j)) := by
      have := va_copiedX (fun z => .int z) (arrV (G.2 t) ns (fun j => .int (Int32.ofInt (D src j)))) (G.2 t) (n1 := nd) (dp := dp.toNat) (fun j => Int32.ofInt (D src j)) (fun j => Int32.ofInt (D dst j)) hslot (sp := sp.toNat) (n := n.toNat) (by omega)
      rw [← this]
      unfold copied
      rw [a3, b3, c3]
    rw [e1] at Y' step
    have e2 : (fun j => Value.int (va_cpy (fun j => Int32.ofInt (D src j)) (fun j => Int32.ofInt (D dst j)) sp.toNat dp.toNat n.toNat j)) = pmAv t S (cpD D src sp dst dp n) dst := funext fun j => by
      simp only [pmAv, va_cpy, cpD, true_and]
      rw [if_pos ht]
      by_cases hj : dp.toNat ≤ j ∧ j < dp.toNat + n.toNat
      · rw [if_pos hj, if_pos (by omega)]
        congr 3
        omega
      · rw [if_neg hj, if_neg (by omega)]
    rw [e2] at Y' step
    have hlt : dst < H.size := (Array.getElem?_eq_some_iff.mp gd).1
    have hheap : ((T.setVm vm').setCell dst (arrV (G.2 t) nd (pmAv t S (cpD D src sp dst dp n) dst))).heap = H.setIfInBounds dst (arrV (G.2 t) nd (pmAv t S (cpD D src sp dst dp n) dst)) := by rw [← hT]; rfl
    have hR1 : pmR G cl ft lo H0 S (cpD D src sp dst dp n) (H.setIfInBounds dst (arrV (G.2 t) nd (pmAv t S (cpD D src sp dst dp n) dst))) := by
      refine hR.put hlod (by simp) (fun q hq => by simp [Array.getElem?_setIfInBounds, Ne.symm hq]) rfl rfl (fun b i hb => by simp [cpD, hb]) (fun _ _ _ => rfl) fun q hq => ?_
      cases hSd.symm.trans hq
      refine ⟨fun h1 => absurd h1 (by simp only; omega), fun _ => ⟨by simp [Array.getElem?_setIfInBounds, hlt], fun _ j hj => ?_, fun h1 => absurd h1 (by simp only; omega)⟩⟩
      simp only [cpD, true_and]
      split
      · rename_i q
        have := gs2 ht (sp + ((j : Int) - dp)).toNat (by simp only at hj; omega)
        rwa [show (((sp + ((j : Int) - dp)).toNat : Nat) : Int) = sp + ((j : Int) - dp) by omega] at this
      · exact gd2 ht j hj
    obtain ⟨t', st', q⟩ := h ls r B S (cpD D src sp dst dp n) k _ _ la cells slots hc hs hR1 (fun q hq => by
      rcases List.mem_append.mp hq with g | g
      · exact hL q g
      · obtain ⟨z, -, hz⟩ := List.mem_map.mp g
        rw [← hz]; exact hlod) hl v6 _ hheap Y'
    exact ⟨t', step t' st', q⟩
  · exact k.elim
theorem fits_sh {x : Int} (h : okT 102 x) : fits .short (.int (Int32.ofInt x)) = true := by
  have h1 := h.2.1 rfl
  have h2 := t32 (x := x) (by unfold inI; omega)
  have h3 : -32768 ≤ Int32.ofInt x ∧ Int32.ofInt x ≤ 32767 := by
    rw [Int32.le_iff_toInt_le, Int32.le_iff_toInt_le, h2]
    exact ⟨by show (-32768 : Int) ≤ x; omega, by show x ≤ (32767 : Int); omega⟩
  simp [fits, h3]
set_option maxHeartbeats 4000000 in
theorem sm_copyX {NW : List Cond} {FW : List (String × MethodName × MethodName)} {XE : State → Prop} {XW : List Cond} {XC : List (String × String)} {XF : List (String × MethodName × MethodName)} {Hn : Tm} (F : pmF p s m args c G nL cl kt Ts own cc) (X : pmN NW FW XE lo s) (hE : pmE XW XC XF lo H0 s) (hst : l.stackTraces = false) (hlocks : meth.locks = false) {names : List String} {hpc : Nat}
    (hnames : ∀ n ∈ names, Bundle.fit n = true) (hat : ∀ w ∈ vy_atM "java/lang/ArrayIndexOutOfBoundsException" names, w.before args s = true) (hgood : ∀ w ∈ vy_atM "java/lang/ArrayIndexOutOfBoundsException" names, vy_ot w = true) (hfr : names.length + 5 < R.frames) (hlc : 10300 ≤ R.locals) (hshort : 13 * names.length + 55 ≤ 10240) (hH : pmH own args s c pc hpc "java/lang/ArrayIndexOutOfBoundsException") (hx : pm_le Hn (pmV p l e R s m args below meth c G lo H0 nL cl ft Qf hpc))
    {idx : Nat} (hkt : (102, .short) ∈ kt) (q1 : Cond.methodLink own idx arraycopyName ∈ Ts) (q2 : Cond.native arraycopyName ∈ Ts) (q3 : Cond.static arraycopyName ∈ Ts) (q4 : Cond.initialized "java/lang/System" ∈ Ts) (o1 : vy_ot (Cond.methodLink own idx arraycopyName) = true) (d : decode cc pc = .ok (.invokestatic idx, 3)) (h : pm_le K (pmV p l e R s m args below meth c G lo H0 nL cl ft Qf (pc + 3))) : pm_le (i_copyX 102 K Hn) (pmV p l e R s m args below meth c G lo H0 nL cl ft Qf pc) := by
  intro ls st B S D k H locs la cells slots hc hs hR hL hl hv
  unfold i_copyX at k
  split at k
  · rename_i n dp dst sp src r
    obtain ⟨hr, ns, nd, hSs, hSd, hns, hnd, ka, kb⟩ := k
    rcases Classical.em (0 ≤ sp ∧ 0 ≤ dp ∧ 0 ≤ n ∧ sp + n ≤ ns ∧ dp + n ≤ nd) with g | g
    · obtain ⟨kc, kd⟩ := ka g.1 g.2.1 g.2.2.1 g.2.2.2.1 g.2.2.2.2
      exact sm_copyS (K := K) F (by decide) (by decide) hkt rfl (fun x hx => fits_sh hx) q1 q2 q3 q4 (by omega) (by
        have : nativeFrameWords "java/lang/System" "arraycopy" 5 ≤ 10000 := by decide +kernel
        omega) d h ls (.inl n :: .inl dp :: .inr (.inr (some dst)) :: .inl sp :: .inr (.inr (some src)) :: r) B S D ⟨hr, ns, nd, hSs, hSd, hns, hnd, g.1, g.2.1, g.2.2.1, g.2.2.2.1, g.2.2.2.2, kc, kd⟩ H locs la cells slots hc hs hR hL hl hv
    · obtain ⟨b1, b2, hB, kb2⟩ := kb g
      subst hB
      simp only at hc hs
      simp only [List.forall_mem_cons] at hv
      obtain ⟨v1, v2, -, v4, -, v6⟩ := hv
      have i1 := t32 v1
      have i2 := t32 v2
      have i4 := t32 v4
      obtain ⟨hlos, gs, -, -⟩ := hR.arr hSs (by decide)
      obtain ⟨hlod, gd, -, -⟩ := hR.arr hSd (by decide)
      obtain ⟨-, k0, hk0, cm0, hkk0⟩ := (F.2.2 _ _ hkt).1 ns (pmAv 102 S D src)
      obtain ⟨w, hw⟩ := cf_some (a := Int32.ofInt sp) (b := Int32.ofInt dp) (c := Int32.ofInt n) (n := ns) (k := nd) (by rw [i1, i2, i4]; exact g)
      obtain ⟨tx1, tx2⟩ := cf_text (cf_show hns hnd hw)
      obtain ⟨pre, suf, x, nm, e1, e2, e3, e4, e5, e6, e7⟩ := hH
      intro T hT X9
      obtain ⟨hS, hold⟩ := pm_old X9 (by rw [hT]; exact hR) hL X.2.2.2
      rw [hT] at hS
      have z0 : ∀ a : Nat, a < H0.size → ¬ lo ≤ a → s.heap[a]? = H0[a]? := fun a _ h2 => hold a (by omega)
      have hU := hE.2.2.2.1.kept z0
      have hN := hE.2.2.2.2.kept z0
      have htr : e.platform.stackTraces = false := (show e.platform.stackTraces = l.stackTraces by rw [X9.admits.platform]).trans hst
      have Y := vy_rebase X9 (R' := { frames := R.frames, locals := R.locals, cells := 3, slots := 610 }) (Nat.le_refl _) (Nat.le_refl _) (by show cells + 3 ≤ R.cells; omega) (by show slots + 610 ≤ R.slots; omega)
      obtain ⟨s', hs'⟩ : ∃ z, z = (T.setVm s.vm).setFrames (.invoking m args :: below) := ⟨_, rfl⟩
      rw [← hs'] at Y
      have hvm : s'.vm = s.vm := by rw [hs']; rfl
      have hhp : s'.heap = H := by rw [hs']; exact hT
      have hW0 : s.WarmedH s'.vm := by rw [hvm]; exact State.WarmedH.refl s
      have mv : ∀ w, vy_ot w = true → w.before args s = true → w.before args s' = true := fun w hg hw => vy_ot_at hW0 hvm.symm hg hw
      have hat' : ∀ w ∈ vy_atM "java/lang/ArrayIndexOutOfBoundsException" names, w.before args s' = true := fun w hw => mv w (hgood w hw) (hat w hw)
      have hU' : vy_Zq Bundle.tN "UNASSIGNED_STACK" Bundle.steD (fun q => lo ≤ q) s' s'.heap := by rw [hhp]; exact vy_Zq.moved hW0.alike (hU.kept hS.2.1)
      have hN' : vy_Zq Bundle.tN "SUPPRESSED_SENTINEL" Bundle.listD (fun q => lo ≤ q) s' s'.heap := by rw [hhp]; exact vy_Zq.moved hW0.alike (hN.kept hS.2.1)
      have hown' : s'.vm.findClass own = some m.cls := by rw [hvm]; exact F.1.2.2.2.1
      obtain ⟨rN, kS, methS, hnS, hmS, hkS, N⟩ := NativeOf.of_static (mv _ (by decide +kernel) (F.1.2.2.2.2 _ q2)) (mv _ (by decide +kernel) (F.1.2.2.2.2 _ q3)) (ps := [.object "java/lang/Object", .int, .object "java/lang/Object", .int, .int]) (ret := none) (by decide +kernel)
      have hinitS : kS.init = .initialized := Cond.initialized_spec (findClass_of_methodNamed hnS) hkS (mv _ (by decide +kernel) (F.1.2.2.2.2 _ q4))
      have hsize : la.size = c.maxLocals := by rw [F.1.2.2.1]; exact hl.1
      obtain ⟨vm₁, X', step⟩ := Y.invokestatic F.1.1 hown' (mv _ o1 (F.1.2.2.2.2 _ q1)) hnS hmS N.static hkS hinitS (by decide) (g := F0 m pc la (.int (Int32.ofInt n) :: .int (Int32.ofInt dp) :: .ref dst :: .int (Int32.ofInt sp) :: .ref src :: r.map cv)) rfl (argsL := [.ref src, .int (Int32.ofInt sp), .ref dst, .int (Int32.ofInt dp), .int (Int32.ofInt n)]) (rest := r.map cv) (by rw [N.sig]; rfl) rfl (by rw [F.1.2.1]; exact d)
      have hcat := catv_eq r
      obtain ⟨S1, q, ce, st1, Z, hce, hcl', hv'⟩ := vy_natAt X' F.1.1 htr (cls := "java/lang/ArrayIndexOutOfBoundsException") (names := names) (text := "arraycopy: " ++ w) (by decide +kernel) hnames (by decide +kernel) (by decide +kernel) (vy_own hat' (vy_isRefq hU'.1) (vy_isRefq hN'.1) hU'.2.word hN'.2.word) (fun x hx => nomatch hx) tx1
        (by rw [Launch.admits_arrayLengthLimit X9.admits]; omega) (by rw [Launch.admits_maxHeapBytes X9.admits]; simp only [componentBytes]; omega)
        (g := F0 m pc la (r.map cv)) rfl hsize (nf := { method := rN, args := #[.ref src, .int (Int32.ofInt sp), .ref dst, .int (Int32.ofInt dp), .int (Int32.ofInt n)], locked := none }) rfl rfl rfl hfr (by show 2 * 0 + ((r.map cv).map fun v => v.category).sum + 10240 ≤ R.locals; omega) hshort (by show 0 + 3 ≤ 3; omega) (by show 0 + (_ + 4 + 6) ≤ 610; omega) hlocks
      obtain ⟨f1, f2⟩ := vy_frame Z.same
      rw [hhp] at f1 f2
      have f2' : ∀ q : Nat, q < H.size → S1.heap[q]? = H[q]? := fun q hq => f2 q hq (fun z hz => nomatch hz)
      subst hs'
      have X5 := vy_back9 X9 Y Z
      have X6 : Stand p l e R s m args below meth c S1 locs (cells + 3) (slots + 610) := { X5 with same := X5.same.mono (by omega) (by omega) }
      have hcl : s.vm.findClass "java/lang/ArrayIndexOutOfBoundsException" = some ce.cls := hcl'
      have hend : vy_W p l e R s m args below meth c S1.heap locs (cells + 3) (slots + 610) Qf (F0 m pc la (r.map cv)) q := by
        refine vy_catch F.1.2.2.2.1 pre x suf e1 e2 e3 e4 e5 e6 hce hv' hcl ?_
        rw [e7]
        exact hx ls _ (b1, b2) (S.1, S.2.1, S1.heap.size) D (kb2 S1.heap.size q (by rw [← hR.1]; exact f1)) S1.heap locs la (cells + 3) (slots + 610) (by simp only; omega) (by simp only; omega) (hR.grow f1 f2') hL hl (by simp [okv])
      obtain ⟨t, a1, bq⟩ := hend S1 rfl X6
      refine ⟨t, step t (fun acts => ?_), bq⟩
      have hA' := X'.warmed.alike
      obtain ⟨kS', N'⟩ := N.alike hA'
      obtain ⟨k0', hk0', he0⟩ := hA'.2.2 _ _ hk0
      obtain ⟨g₀, hfr0⟩ := X'.frames_eq
      have hU2 : (((T.setVm vm₁).setTop (F0 m pc la (r.map cv))).pushFrame (.native { method := rN, args := #[.ref src, .int (Int32.ofInt sp), .ref dst, .int (Int32.ofInt dp), .int (Int32.ofInt n)], locked := none })) = (T.setVm vm₁).setFrames (.native { method := rN, args := #[.ref src, .int (Int32.ofInt sp), .ref dst, .int (Int32.ofInt dp), .int (Int32.ofInt n)], locked := none } :: .java (F0 m pc la (r.map cv)) :: below) := by
        rw [State.pushFrame, State.frames_setTop _ hfr0, State.setTop_of_frames _ hfr0, State.setFrames_setFrames]
      have hcur : (T.setVm vm₁).cur < (T.setVm vm₁).threads.size := State.cur_lt_of_frames hfr0
      have hseen : seenByNative methS #[.ref src, .int (Int32.ofInt sp), .ref dst, .int (Int32.ofInt dp), .int (Int32.ofInt n)] = #[.ref src, .int (Int32.ofInt sp), .ref dst, .int (Int32.ofInt dp), .int (Int32.ofInt n)] := by
        simp [seenByNative, N.static, N.sig, narrow]
      refine Steps.nativeThrowsNote (g := F0 m pc la (r.map cv)) (row := arraycopyRow) (cls := "java/lang/ArrayIndexOutOfBoundsException") (msg := some ("arraycopy: " ++ w)) (T := fun u => u) X'.here acts N'.cls N'.meth N'.boot N'.native N'.noCode N'.noLock
        (by rw [N'.className, N'.name, N'.desc]; exact arraycopy_row p)
        (by rw [N'.className, N'.name]; exact X'.notFull (g := F0 m pc la (r.map cv)) hsize (vars := nativeFrameWords "java/lang/System" "arraycopy" 5) (by show 1 ≤ R.frames; omega) (by
          show 2 * 0 + ((r.map cv).map fun v => v.category).sum + (nativeFrameWords "java/lang/System" "arraycopy" 5 + 11) ≤ R.locals
          have : nativeFrameWords "java/lang/System" "arraycopy" 5 ≤ 10000 := by decide +kernel
          omega)) ?_ ?_
      · intro E hE
        rw [hseen] at hE ⊢
        rw [arraycopyRow_sem]
        refine Jvm.W.arraycopy_bounds (cs := arrV (G.2 102) ns (pmAv 102 S D src)) (cd := arrV (G.2 102) nd (pmAv 102 S D dst)) (ks := k0') (kd := k0') (sComp := cm0) (dComp := cm0) (sType := .short) (dType := .short) (what := w) (by show T.heap[src]? = _; rw [hT]; exact gs) (by show T.heap[dst]? = _; rw [hT]; exact gd) (fun _ h => by cases h) (fun _ h => by cases h) hk0' hk0' (by rw [he0]; exact hkk0) (by rw [he0]; exact hkk0) (by decide) ?_ (hE _)
        rw [arrV_size, arrV_size]; exact hw
      · rw [hseen]
        rw [hU2, State.pushFrame, State.frames_setFrames _ hcur, State.setFrames_setFrames]
        exact st1 t a1
  · exact k.elim
end SM
