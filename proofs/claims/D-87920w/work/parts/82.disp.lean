/-! SIM: calls along the hierarchy: inherited, overridden, of the super class, through an interface -/
set_option maxRecDepth 100000
set_option linter.unusedVariables false
theorem lw_U {own : String} {idx : Nat} {C owner : String} {x y : MethodName} {b : ByteArray} {L : Nat} {r : Option FieldType} (h1 : Cond.methodLink own idx x ∈ lw_all) (h2 : Cond.sameMethod x.cls owner x.name x.desc ∈ lw_all) (h3 : Cond.selects C x y ∈ lw_all) (h4 : Cond.instanceMethod y ∈ lw_all) (h5 : Cond.initialized y.cls ∈ lw_all) (h6 : Cond.code y b L r ∈ lw_all) : GoodIn lw_all (va_wsU own idx C owner x y (ws_ y b L r)) :=
  lw_app (List.forall_mem_cons.mpr ⟨h1, List.forall_mem_cons.mpr ⟨h2, List.forall_mem_cons.mpr ⟨h3, List.forall_mem_cons.mpr ⟨h4, List.forall_mem_cons.mpr ⟨h5, List.forall_mem_nil _⟩⟩⟩⟩⟩) (lw_meth h6)
theorem lw_O {own : String} {idx : Nat} {C owner : String} {x y : MethodName} {b : ByteArray} {L : Nat} {r : Option FieldType} (h1 : Cond.methodLink own idx x ∈ lw_all) (h2 : Cond.sameMethod x.cls owner x.name x.desc ∈ lw_all) (h0 : Cond.instanceMethod ⟨owner, x.name, x.desc⟩ ∈ lw_all) (h3 : Cond.selects C x y ∈ lw_all) (h4 : Cond.instanceMethod y ∈ lw_all) (h5 : Cond.initialized y.cls ∈ lw_all) (h6 : Cond.code y b L r ∈ lw_all) : GoodIn lw_all (va_wsO own idx C owner x y (ws_ y b L r)) :=
  lw_app (List.forall_mem_cons.mpr ⟨h1, List.forall_mem_cons.mpr ⟨h2, List.forall_mem_cons.mpr ⟨h0, List.forall_mem_cons.mpr ⟨h3, List.forall_mem_cons.mpr ⟨h4, List.forall_mem_cons.mpr ⟨h5, List.forall_mem_nil _⟩⟩⟩⟩⟩⟩) (lw_meth h6)
theorem lw_F {own : String} {idx : Nat} {C : String} {x y : MethodName} {b : ByteArray} {L : Nat} {r : Option FieldType} (h1 : Cond.methodLink own idx x ∈ lw_all) (h3 : Cond.selects C x y ∈ lw_all) (h4 : Cond.instanceMethod y ∈ lw_all) (h5 : Cond.initialized y.cls ∈ lw_all) (h6 : Cond.code y b L r ∈ lw_all) : GoodIn lw_all (va_wsF own idx C x y (ws_ y b L r)) :=
  lw_app (List.forall_mem_cons.mpr ⟨h1, List.forall_mem_cons.mpr ⟨h3, List.forall_mem_cons.mpr ⟨h4, List.forall_mem_cons.mpr ⟨h5, List.forall_mem_nil _⟩⟩⟩⟩) (lw_meth h6)
/-- one of several -/
def i_any (fs : List Tm) : Tm := fun ls st B S D => ∃ f, f ∈ fs ∧ f ls st B S D
theorem sm_any {fs : List Tm} {V : Tm} (h : ∀ f ∈ fs, pm_le f V) : pm_le (i_any fs) V := fun ls st B S D k => by
  obtain ⟨f, h1, h2⟩ := k
  exact h f h1 ls st B S D h2
section SM
variable {p : Program} {l : Launch} {e : Env} {R : Room} {s : State} {m : MethodId} {args : Array Value} {below : List Frame} {meth : Method} {c : Code} {G : pmG} {lo : Nat} {H0 : Heap} {nL : Nat} {cl : List vw_C} {ft : Nat → Nat → Bool} {kt : List (Nat × FieldType)} {NW : List Cond} {FW : List (String × MethodName × MethodName)} {XE : State → Prop} {XN : String} {Ts : List Cond} {own : String} {cc : ByteArray} {Qf : State → Prop} {K J Hn : Tm} {pc : Nat}
variable {y : MethodName} {ws : List Cond} {fr lc w index maxL n : Nat} {P : Prg} {ret : Option FieldType} {bytes : ByteArray} {host : String}
theorem sm_callU (F : pmF p s m args c G nL cl kt Ts own cc) (X : pmN NW FW XE lo s) (hM : pmMet l G cl ft kt NW FW XE XN lo H0 y ws fr lc w P) {ci : Nat} {C owner : String} {x : MethodName} {T : u_T} {N : Nat} {ty : Nat → FieldType} (hC : pmC Ts cl ft ci C T N ty) (cw : ∀ m1 m2, va_CU R s args own C owner index x y bytes maxL ret ws { frames := fr, cells := m1, slots := m2, locals := lc } m1 m2 n) (d : decode cc pc = .ok (.invokevirtual index, 3)) (h : pm_le K (pmV p l e R s m args below meth c G lo H0 nL cl ft Qf (pc + 3))) (hX : pmX p l e R s m args below meth c G lo H0 nL cl ft XN Qf pc Hn) : pm_le (i_recv (i_call K P (n + 1) w Hn) ci n) (pmV p l e R s m args below meth c G lo H0 nL cl ft Qf pc) := by
  intro ls st B S D k H locs la cells slots hc hs hR hL hl hv
  obtain ⟨⟨b, hb, hbS⟩, ⟨hg1, hg2, hg3⟩, b1, b2, m1, m2, rfl, k⟩ := k
  obtain ⟨As, h1, h2, h3⟩ := st_splitV hb
  obtain ⟨ok1, ok2⟩ := okv_sub hg1 hv
  have hst : st.map cv = (As.map cv).reverse ++ .ref b :: (dropv st (n + 1)).map cv := by
    conv => lhs; rw [h3]
    simp [cv, va_rf]
  have hm := hM _ _ _ _ m1 m2 hg2 k
  refine pm_run F.2 h hX hc hs hL hl ok2 (fun _ _ _ _ q => q) (fun _ _ _ _ q => q) (vy_runU F.1 hm (cw m1 m2) ⟨pmPc.blind, pm_recv F.2 hR hC hbS, fun U hU hW => ⟨by rw [h1]; rfl, ok1, by rw [hU]; exact hR, pmK.moved hW.alike F.2, pmN.moved hW (by rw [hU]; exact hR.2.1) X⟩⟩ rfl (by simpa using h2) (by exact hl.1) hst (by simp only [JFrame.monitorRoom]; rw [catv_eq]; simpa using hg3) d ⟨by simp only at hc; omega, by simp only at hs; omega⟩)
/-- behind an interface's call: five bytes on -/
theorem pm_run5 {E : Ex} (hF : pmK G cl kt s) (h : pm_le K (pmV p l e R s m args below meth c G lo H0 nL cl ft Qf (pc + 5))) (hX : pmX p l e R s m args below meth c G lo H0 nL cl ft XN Qf pc Hn) {ls : List (Option PV)} {rst : List PV} {b1 b2 m1 m2 : Nat} {H : Heap} {locs : List Loc} {la : Array Slot} {cells slots : Nat} {st0 : List Value} {av : Array Value}
    (hc : cells + (b1 + m1) = R.cells) (hs : slots + (b2 + m2) = R.slots) (hL : ∀ q ∈ locs, lo ≤ q.base) (hl : LR la nL ls) (hv : ∀ v ∈ rst, okv v)
    (hE1 : ∀ o B S D, E (.inl o) B S D → K ls (pushO o rst) (b1, b2) S D) (hE2 : ∀ q B S D, E (.inr q) B S D → Hn ls [.inr (.inr (some q))] (b1, b2) S D)
    (hr : vy_Run5 p l e R s m args below meth c H locs cells slots m1 m2 (F0 m pc la st0) (rst.map cv) (pmQc G cl ft lo H0 E av) (pmXC G cl ft XN lo H0 E) (fun q => lo ≤ q)) : W p l e R s m args below meth c H locs cells slots Qf (F0 m pc la st0) := by
  intro T hT X
  have hL2 : ∀ {L : List Loc}, (∀ q ∈ L, lo ≤ q.base) → ∀ q ∈ locs ++ L, lo ≤ q.base := fun hL1 q hq => by
    rcases List.mem_append.mp hq with g | g
    · exact hL q g
    · exact hL1 q g
  rcases hr T hT X with ⟨v, st1, t, T', L, h0, X', hL1, e1, e2, ⟨o, B, S, D, g1, g2, g3, g4⟩, st⟩ | ⟨q, st1, t, T', L, En, ce, h0, X', hL1, e1, e2, ⟨B, S, D, g1, g3, g4⟩, hq, hvm, hcls, st⟩
  · have hve := Outcome.returned.inj g1
    subst hve
    have hst : (Option.map cv o).toList ++ rst.map cv = (pushO o rst).map cv := by cases o <;> rfl
    obtain ⟨t1, a1, a2⟩ := h ls (pushO o rst) (b1, b2) S D (hE1 o B S D g3) T'.heap (locs ++ L) la (cells + m1) (slots + m2) (by simp only; omega) (by simp only; omega) (by rw [e1]; exact g4) (hL2 hL1) hl (by cases o with
      | none => exact hv
      | some v => intro u hu; rcases List.mem_cons.mp hu with q | q
                  · rw [q]; exact g2
                  · exact hv u q) T' rfl X'
    exact ⟨t1, st _ (by rw [hst]; exact a1), a2⟩
  · subst g1
    obtain ⟨t1, a1, a2⟩ := hX q ls (b1, b2) S D T'.heap (locs ++ L) la (cells + m1) (slots + m2) (rst.map cv) ce (hE2 q B S D g3) (by simp only; omega) (by simp only; omega) (by rw [e1]; exact g4) (hL2 hL1) hl (by rw [e1]; exact hq) hvm hcls T' rfl X'
    exact ⟨t1, st.trans a1, a2⟩
theorem sm_callF (F : pmF p s m args c G nL cl kt Ts own cc) (X : pmN NW FW XE lo s) (hM : pmMet l G cl ft kt NW FW XE XN lo H0 y ws fr lc w P) {ci count : Nat} {C : String} {x : MethodName} {T : u_T} {N : Nat} {ty : Nat → FieldType} (hC : pmC Ts cl ft ci C T N ty) (cw : ∀ m1 m2, va_CI R s args own C index x y bytes maxL ret ws { frames := fr, cells := m1, slots := m2, locals := lc } m1 m2 n) (d : decode cc pc = .ok (.invokeinterface index count, 5)) (h : pm_le K (pmV p l e R s m args below meth c G lo H0 nL cl ft Qf (pc + 5))) (hX : pmX p l e R s m args below meth c G lo H0 nL cl ft XN Qf pc Hn) : pm_le (i_recv (i_call K P (n + 1) w Hn) ci n) (pmV p l e R s m args below meth c G lo H0 nL cl ft Qf pc) := by
  intro ls st B S D k H locs la cells slots hc hs hR hL hl hv
  obtain ⟨⟨b, hb, hbS⟩, ⟨hg1, hg2, hg3⟩, b1, b2, m1, m2, rfl, k⟩ := k
  obtain ⟨As, h1, h2, h3⟩ := st_splitV hb
  obtain ⟨ok1, ok2⟩ := okv_sub hg1 hv
  have hst : st.map cv = (As.map cv).reverse ++ .ref b :: (dropv st (n + 1)).map cv := by
    conv => lhs; rw [h3]
    simp [cv, va_rf]
  have hm := hM _ _ _ _ m1 m2 hg2 k
  have hat : ClassAt s C (G.1.1 ci) := (F.2.1 ci _ hC.2.1).2
  refine pm_run5 F.2 h hX hc hs hL hl ok2 (fun _ _ _ _ q => q) (fun _ _ _ _ q => q) (vy_runF hat F.1 hm (cw m1 m2) ⟨pmPc.blind, pm_recv F.2 hR hC hbS, fun U hU hW => ⟨by rw [h1]; rfl, ok1, by rw [hU]; exact hR, pmK.moved hW.alike F.2, pmN.moved hW (by rw [hU]; exact hR.2.1) X⟩⟩ rfl (by simpa using h2) (by exact hl.1) hst (by simp only [JFrame.monitorRoom]; rw [catv_eq]; simpa using hg3) d ⟨by simp only at hc; omega, by simp only at hs; omega⟩)
/-- a super call of what the super class has, declared there or above it -/
theorem vz_callSU {T : State} {locs : List Loc} {cells slots : Nat} (X : Stand p l e R s m args below meth c T locs cells slots) (hexec : p.tables.exec = Jvm.exec) {owner : String} {x : MethodName}
    (hown : s.vm.findClass own = some m.cls) (hlink : (Cond.methodLink own index x).before args s = true) (hsame : (Cond.sameMethod x.cls owner x.name x.desc).before args s = true) (hsup : (Cond.superclass own x.cls).before args s = true) (hsub : ∀ a b, s.vm.findClass x.cls = some a → s.vm.findClass owner = some b → s.vm.isSubclass a b = true)
    (hinst : (Cond.instanceMethod ⟨owner, x.name, x.desc⟩).before args s = true) (hcode : (Cond.code ⟨owner, x.name, x.desc⟩ bytes maxL ret).before args s = true) (hno : x.name ≠ "<init>")
    {W9 : Nat} {Pre : Pt → Array Value → Prop} {Post : Pt → Array Value → Option Value → Pt → Prop} {PostX : Pt → Array Value → Addr → Pt → Prop} (hK : vy_Back l R p e below s args ⟨owner, x.name, x.desc⟩ 3 W9 Pre Post PostX)
    {b : Addr} {cellB : Cell} {kB : Class} (hcell : T.heap[b]? = some cellB) (hobj : cellB.vm.isStatics = false) (hkB : s.vm.classes[cellB.cls]? = some kB)
    {g : JFrame} (hg : g.method = m) (hsize : g.locals.size = c.maxLocals) {argsL rest : List Value} (hlen : ∀ sig, parseMethodDescriptor x.desc = some sig → argsL.length = sig.parameters.length)
    (hstack : g.stack = argsL.reverse ++ .ref b :: rest) (hW : 2 * g.monitorRoom + (rest.map fun v => v.category).sum ≤ W9) (hdg : decode c.code g.pc = .ok (.invokespecial index, 3))
    (hpre : ∀ vm₁, s.WarmedH vm₁ → Pre ⟨T.setVm vm₁, locs, cells, slots⟩ (Value.ref b :: argsL).toArray) :
    (∃ (v : Option Value) (vm₁ : Vm) (B : Pt), s.WarmedH vm₁ ∧ Stand p l e R s m args below meth c B.U B.locs B.cells B.slots ∧ Post ⟨T.setVm vm₁, locs, cells, slots⟩ (Value.ref b :: argsL).toArray v B ∧
      ∀ target, Steps p.tables e below (B.U.setTop { g with pc := g.pc + 3, stack := v.toList ++ rest }) target → Steps p.tables e below (T.setTop g) target) ∨
    (∃ (q : Addr) (vm₁ : Vm) (B : Pt), s.WarmedH vm₁ ∧ Stand p l e R s m args below meth c B.U B.locs B.cells B.slots ∧ PostX ⟨T.setVm vm₁, locs, cells, slots⟩ (Value.ref b :: argsL).toArray q B ∧
      Steps p.tables e below (T.setTop g) ((B.U.setTop { g with stack := rest }).pushFrame (.throwing q))) := by
  obtain ⟨mk, methM, hnamed, hmethM, hstM, habM⟩ := Cond.instanceMethod_spec hinst
  obtain ⟨methM', cM, hmethM', -, -, -, -, -, -, hsigM⟩ := Cond.code_spec hnamed hcode
  cases hmethM.symm.trans hmethM'
  obtain ⟨ps, dk, kp, hps, hdk, hkp, hsuper, -, -, hnid⟩ := Cond.superclass_spec hown hsup
  obtain ⟨vm₁, X₁, hstep₁⟩ := X.invokespecialUp hexec hown hlink hsame hnamed hmethM hstM habM hno hdk hnid hps hsuper (hsub _ _ hps (findClass_of_methodNamed hnamed)) (a := b) (cell := cellB) hcell
    (fun z h => by rw [h] at hobj; cases hobj) hkB (g := g) hg (argsL := argsL) (rest := rest) (hlen _ hsigM) hstack hdg
  rcases hK m meth c ⟨T.setVm vm₁, locs, cells, slots⟩ { g with stack := rest } (.invokespecial index) mk (Value.ref b :: argsL).toArray X₁ hg hsize hdg hW (X₁.named hnamed) (hpre vm₁ X₁.warmed) with ⟨v, B, X', hpost, hsteps⟩ | ⟨q, B, X', hpost, hsteps⟩
  · exact Or.inl ⟨v, vm₁, B, X₁.warmed, X', hpost, fun target h => hstep₁ _ (by rw [doInvoke_state]; exact hsteps.trans h)⟩
  · exact Or.inr ⟨q, vm₁, B, X₁.warmed, X', hpost, hstep₁ _ (by rw [doInvoke_state]; exact hsteps)⟩
/-- its words -/
def vz_CS (R : Room) (s : State) (args : Array Value) (own owner : String) (index : Nat) (x : MethodName) (bytes : ByteArray) (maxL : Nat) (ret : Option FieldType) (ws : List Cond) (rm : Room) (mc ms n : Nat) : Prop :=
  (rm.cells = mc ∧ rm.slots = ms ∧ rm.frames + 1 ≤ R.frames ∧ 8 + (maxL + 11) + rm.locals ≤ R.locals ∧ (∀ w ∈ ws, ∀ (a' : Array Value) (U : State), s.WarmedH U.vm → w.before a' U = true) ∧ Cond.code ⟨owner, x.name, x.desc⟩ bytes maxL ret ∈ ws) ∧
  (Cond.methodLink own index x).before args s = true ∧ (Cond.sameMethod x.cls owner x.name x.desc).before args s = true ∧ (Cond.superclass own x.cls).before args s = true ∧ (∀ a b, s.vm.findClass x.cls = some a → s.vm.findClass owner = some b → s.vm.isSubclass a b = true) ∧ (Cond.instanceMethod ⟨owner, x.name, x.desc⟩).before args s = true ∧ (Cond.initialized owner).before args s = true ∧ (Cond.code ⟨owner, x.name, x.desc⟩ bytes maxL ret).before args s = true ∧ x.name ≠ "<init>" ∧ (∀ sig, parseMethodDescriptor x.desc = some sig → n = sig.parameters.length)
theorem vz_cwSU {own owner : String} {index maxL mc ms fr lc : Nat} {x : MethodName} {bytes : ByteArray} {ret : Option FieldType} (n : Nat) (ht : ∀ w ∈ lw_all, w.before args s = true) (h1 : Cond.methodLink own index x ∈ lw_all) (h2 : Cond.sameMethod x.cls owner x.name x.desc ∈ lw_all) (h3 : Cond.superclass own x.cls ∈ lw_all) (h4 : Cond.instanceMethod ⟨owner, x.name, x.desc⟩ ∈ lw_all) (h5 : Cond.initialized owner ∈ lw_all) (h6 : Cond.code ⟨owner, x.name, x.desc⟩ bytes maxL ret ∈ lw_all) (hsub : ∀ a b, s.vm.findClass x.cls = some a → s.vm.findClass owner = some b → s.vm.isSubclass a b = true)
    (hd : x.name ≠ "<init>" ∧ (parseMethodDescriptor x.desc).map (fun d => d.parameters.length) = some n) (hR : fr + 1 ≤ R.frames ∧ 8 + (maxL + 11) + lc ≤ R.locals) : vz_CS R s args own owner index x bytes maxL ret (ws_ ⟨owner, x.name, x.desc⟩ bytes maxL ret) { frames := fr, cells := mc, slots := ms, locals := lc } mc ms n := by
  have hG := lw_meth h6
  refine ⟨⟨rfl, rfl, hR.1, hR.2, pay_in ht hG, List.mem_cons_self⟩, ht _ h1, ht _ h2, ht _ h3, hsub, ht _ h4, ht _ h5, ht _ h6, hd.1, fun sig h => ?_⟩
  have h2 := hd.2
  rw [h] at h2
  exact (Option.some.inj h2).symm
theorem vz_runSU {owner : String} {x : MethodName} {rm : Room} {Pc : Array Value → State → Prop} {Qc : Array Value → State → Outcome → State → Prop} {XC : Nat → String → State → State → Prop} {free : Addr → Prop} {C : String} {cC : ClassId} {b : Addr} {As rest : List Value} {g : JFrame} {mc ms : Nat} {H : Heap} {locs : List Loc} {cells slots : Nat}
    (hat : ClassAt s C cC) (S : CallFix p m c cc nL s args Ts own) (hM : vy_Met l ⟨owner, x.name, x.desc⟩ ws rm Pc Qc XC mc ms free) (cw : vz_CS R s args own owner index x bytes maxL ret ws rm mc ms n) (hp : PreV s H C b Pc As)
    (hg : g.method = m) (hn : As.length = n) (hsize : g.locals.size = nL) (hstack : g.stack = As.reverse ++ .ref b :: rest) (hW : 2 * g.monitorRoom + (rest.map fun v => v.category).sum ≤ 8) (hdg : decode cc g.pc = .ok (.invokespecial index, 3)) (hf : cells + mc ≤ R.cells ∧ slots + ms ≤ R.slots) :
    vy_Run p l e R s m args below meth c H locs cells slots mc ms g rest (Qc (Value.ref b :: As).toArray) XC free := by
  obtain ⟨⟨hrc, hrs, hfr, hlo, hws, hcw⟩, hl1, hl2, hl3, hsub, hl4, hini, hcode, hno, hlen⟩ := cw
  have hK : vy_Back l R p e below s args ⟨owner, x.name, x.desc⟩ 3 8 (PreOf R mc ms Pc) (PostOf Qc mc ms free) (vy_Post XC mc ms free) := vy_back (bytes := bytes) (maxL := maxL) (ret := ret) hM hp.1 hrc hrs hfr hlo hws hcw (fun a' U hW => word_at hW (Or.inl (by first | rfl | simp [Cond.onTables, Cond.keeps, Cond.steady])) hini)
  obtain ⟨hx, hb, hml, ho, -⟩ := S
  obtain ⟨-, ⟨cellB, hcB, hoB, hclB⟩, hPc⟩ := hp
  obtain ⟨hfc, kB, hkB, -⟩ := hat
  cases hfc.symm.trans hclB
  intro T hT X
  rcases vz_callSU X hx (bytes := bytes) (maxL := maxL) (ret := ret) ho hl1 hl2 hl3 hsub hl4 hcode hno hK (by rw [hT]; exact hcB) hoB hkB hg (hsize.trans hml.symm) (argsL := As) (rest := rest) (fun sig h => hn.trans (hlen sig h)) hstack hW (by rw [hb]; exact hdg)
    (fun vm₁ hW₁ => ⟨hf.1, hf.2, hPc (T.setVm vm₁) hT hW₁⟩) with ⟨v, vm₁, ⟨U', l2, c2, s2⟩, hW₁, X', ⟨g', mk, t, L, e1, e2, hq, h1, hL, h2, h3⟩, st⟩ | ⟨q, vm₁, ⟨U', l2, c2, s2⟩, hW₁, X', ⟨g', mk, t, L, E, ce, e1, e2, hq, hce, hcv, hcl, h1, hL, h2, h3⟩, st⟩
  · dsimp only [Pt.U, Pt.locs, Pt.cells, Pt.slots] at X' e1 e2 h1 h2 h3 st
    subst h1; subst h2; subst h3
    exact Or.inl ⟨v, (T.setVm vm₁).calling g' mk (Value.ref b :: As).toArray, t, U', L, hT, X', hL, e1, e2, hq, st⟩
  · dsimp only [Pt.U, Pt.locs, Pt.cells, Pt.slots] at X' e1 e2 h1 h2 h3 st hcl
    subst h1; subst h2; subst h3
    exact Or.inr ⟨q, (T.setVm vm₁).calling g' mk (Value.ref b :: As).toArray, t, U', L, E, ce, hT, X', hL, e1, e2, hq, hce, hcv, vy_cls hW₁ hcl, st⟩
theorem sm_callSU {owner : String} {x : MethodName} (F : pmF p s m args c G nL cl kt Ts own cc) (X : pmN NW FW XE lo s) (hM : pmMet l G cl ft kt NW FW XE XN lo H0 ⟨owner, x.name, x.desc⟩ ws fr lc w P) {ci : Nat} {C : String} {T : u_T} {N : Nat} {ty : Nat → FieldType} (hC : pmC Ts cl ft ci C T N ty) (cw : ∀ m1 m2, vz_CS R s args own owner index x bytes maxL ret ws { frames := fr, cells := m1, slots := m2, locals := lc } m1 m2 n) (d : decode cc pc = .ok (.invokespecial index, 3)) (h : pm_le K (pmV p l e R s m args below meth c G lo H0 nL cl ft Qf (pc + 3))) (hX : pmX p l e R s m args below meth c G lo H0 nL cl ft XN Qf pc Hn) : pm_le (i_recv (i_call K P (n + 1) w Hn) ci n) (pmV p l e R s m args below meth c G lo H0 nL cl ft Qf pc) := by
  intro ls st B S D k H locs la cells slots hc hs hR hL hl hv
  obtain ⟨⟨b, hb, hbS⟩, ⟨hg1, hg2, hg3⟩, b1, b2, m1, m2, rfl, k⟩ := k
  obtain ⟨As, h1, h2, h3⟩ := st_splitV hb
  obtain ⟨ok1, ok2⟩ := okv_sub hg1 hv
  have hst : st.map cv = (As.map cv).reverse ++ .ref b :: (dropv st (n + 1)).map cv := by
    conv => lhs; rw [h3]
    simp [cv, va_rf]
  have hm := hM _ _ _ _ m1 m2 hg2 k
  have hat : ClassAt s C (G.1.1 ci) := (F.2.1 ci _ hC.2.1).2
  refine pm_run F.2 h hX hc hs hL hl ok2 (fun _ _ _ _ q => q) (fun _ _ _ _ q => q) (vz_runSU hat F.1 hm (cw m1 m2) ⟨pmPc.blind, pm_recv F.2 hR hC hbS, fun U hU hW => ⟨by rw [h1]; rfl, ok1, by rw [hU]; exact hR, pmK.moved hW.alike F.2, pmN.moved hW (by rw [hU]; exact hR.2.1) X⟩⟩ rfl (by simpa using h2) (by exact hl.1) hst (by simp only [JFrame.monitorRoom]; rw [catv_eq]; simpa using hg3) d ⟨by simp only at hc; omega, by simp only at hs; omega⟩)
end SM
