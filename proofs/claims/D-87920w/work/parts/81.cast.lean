/-! SIM: casts that fail, and their text -/
set_option maxRecDepth 100000
set_option linter.unusedVariables false
theorem vz_castNo {p : Program} {l : Launch} {e : Env} {R : Room} {s : State} {m : MethodId} {args : Array Value} {below : List Frame} {meth : Method} {c : Code} {T : State} {locs : List Loc} {cells slots : Nat} (X : Stand p l e R s m args below meth c T locs cells slots) (hexec : p.tables.exec = Jvm.exec)
    {own name : String} {index : Nat} (hown : s.vm.findClass own = some m.cls) (hlink : (Cond.classLink own index name).before args s = true)
    {a : Addr} {cell : Cell} {cT : ClassId} {ks : Class} (hcell : T.heap[a]? = some cell) (hobj : ∀ k, cell.vm ≠ .statics k) (hks : s.vm.classes[cell.cls]? = some ks) (hcT : s.vm.findClass name = some cT) (hasg : s.vm.assignable cell.cls cT = false)
    {g : JFrame} (hg : g.method = m) {rest : List Value} (hstack : g.stack = .ref a :: rest) (hdg : decode c.code g.pc = .ok (.checkcast index, 3)) :
    ∃ (vm' : Vm) (ks' kt' : Class), s.WarmedH vm' ∧ Stand p l e R s m args below meth c (T.setVm vm') locs cells slots ∧ vm'.classes[cell.cls]? = some ks' ∧ vm'.classes[cT]? = some kt' ∧
      ∀ target, Steps p.tables e below (((T.setVm vm').setTop g).pushFrame (.throwNew "java/lang/ClassCastException" (some (Op.checkcast.message vm' ks' kt')) none)) target → Steps p.tables e below (T.setTop g) target := by
  have hpl : e.platform.magicAccessors = ({} : Platform).magicAccessors := by rw [X.admits.platform]
  obtain ⟨c', hc', hcl⟩ := Cond.classLink_spec hown hlink e.platform hpl
  cases hcT.symm.trans hc'
  obtain ⟨dk, _, _, kt, hd, _, _, _, _, hkt, _, hopen⟩ := hcl.here
  have hcl₀ := X.warmed.classLinks hcl
  have hW' : s.WarmedH (T.vm.noted m.cls index (.cls cT)) := X.warmed.noted hd hopen (State.rightAt_cls hcl)
  obtain ⟨ks', hks', -⟩ := hW'.alike.2.2 _ _ hks
  obtain ⟨kt', hkt', -⟩ := hW'.alike.2.2 _ _ hkt
  refine ⟨_, ks', kt', hW', X.noted hW', hks', hkt', fun target hrest => ?_⟩
  subst hg
  jvm_step X.here [hexec, hdg, checkcast.wp_cold (e := e) (s := T) (f := g) X.here.top hstack (resolveClass_links e.toSetting hcl₀) hcl₀.ready,
    checkcast.wp_ready (e := e) (s := T.setVm (T.vm.noted g.method.cls index (.cls cT))) (f := g) X.here.top hcl₀.ready hstack]
  refine ⟨cell, hcell, hobj, ks', hks', kt', hkt', ?_⟩
  have h1 : (T.vm.noted g.method.cls index (Resolved.cls cT)).assignable cell.cls cT = false := by rw [hW'.alike.assignable]; exact hasg
  simp only [h1]
  exact hrest
/-- whichever module of the bootstrap loader's holds the unnamed package is java.base -/
def xMod (U : State) : Prop := ∀ m, m ∈ U.vm.modules → m.loader.isSome = true ∨ m.name = "java.base" ∨ m.packages.contains "" = false
theorem xMod.moved {s U : State} (h : s.vm.Alike U.vm) (k : xMod s) : xMod U := fun m hm => by
  have e : U.vm.modules = s.vm.modules := by rw [h.1]
  exact k m (e ▸ hm)
theorem xfind {vm : Vm} {n : String} {c : ClassId} (h : vm.findClass n = some c) {k : Class} (hk : vm.classes[c]? = some k) : k.name = n ∧ k.hidden = none ∧ k.loader = none := by
  obtain ⟨hlt, hp, _⟩ := Array.findIdx?_eq_some_iff_getElem.mp h
  have e : k = vm.classes[c] := by
    rw [Array.getElem?_eq_getElem hlt] at hk
    exact (Option.some.inj hk).symm
  simp only [Bool.and_eq_true, beq_iff_eq, Option.isNone_iff_eq_none] at hp
  rw [e]
  exact ⟨hp.1.1.1, hp.1.1.2, hp.2⟩
theorem xhome {vm : Vm} (hm : ∀ m, m ∈ vm.modules → m.loader.isSome = true ∨ m.name = "java.base" ∨ m.packages.contains "" = false) {k : Class} (hl : k.loader = none) (hp : packageOf k.name = "") : (vm.home k).toList.length ≤ 50 := by
  have hmod : ∀ m, vm.moduleOf k = some m → m.name = "java.base" := by
    intro m h
    unfold Vm.moduleOf at h
    split at h
    · have := List.find?_some h
      simpa using this
    · have h1 := List.find?_some h
      have h2 := List.mem_of_find?_eq_some h
      simp only [Bool.and_eq_true, beq_iff_eq, hl, hp] at h1
      rcases hm m h2 with q | q | q
      · rw [h1.1] at q; cases q
      · exact q
      · rw [h1.2] at q; cases q
  unfold Vm.home
  simp only [String.toList_append, List.length_append, hl]
  have a1 : (vm.loaderName none).toList.length = 11 := by
    have : vm.loaderName none = "'bootstrap'" := rfl
    rw [this]; decide
  have a2 : " of loader ".toList.length = 11 := by decide
  rw [a1, a2]
  cases hq : vm.moduleOf k with
  | none =>
    have : "unnamed module".toList.length = 14 := by decide
    simp only [this]; omega
  | some m =>
    show ("module " ++ m.name).toList.length + 11 + 11 ≤ 50
    rw [hmod m hq]
    have a3 : ("module " ++ "java.base").toList.length = 16 := by decide
    rw [a3]; omega
theorem cc_text {vm : Vm} (hm : ∀ m, m ∈ vm.modules → m.loader.isSome = true ∨ m.name = "java.base" ∨ m.packages.contains "" = false) {n1 n2 : String} {c1 c2 : ClassId} {k1 k2 : Class} (f1 : vm.findClass n1 = some c1) (f2 : vm.findClass n2 = some c2) (e1 : vm.classes[c1]? = some k1) (e2 : vm.classes[c2]? = some k2) (p1 : packageOf n1 = "") (p2 : packageOf n2 = "") (l1 : (dotted n1).toList.length ≤ 20) (l2 : (dotted n2).toList.length ≤ 20) :
    ((Op.checkcast.message vm k1 k2) == notModelled) = false ∧ (stringBytes (stringToUtf16 (Op.checkcast.message vm k1 k2))).size ≤ 960 := by
  obtain ⟨a1, a2, a3⟩ := xfind f1 e1
  obtain ⟨b1, b2, b3⟩ := xfind f2 e2
  have s1 : k1.shown = dotted n1 := by unfold Class.shown; rw [a2, a1]
  have s2 : k2.shown = dotted n2 := by unfold Class.shown; rw [b2, b1]
  have h1 := xhome hm a3 (by rw [a1]; exact p1)
  have h2 := xhome hm b3 (by rw [b1]; exact p2)
  have hh : (vm.homes k1 k2).toList.length ≤ 160 := by
    unfold Vm.homes
    split
    · show (toString k1.shown ++ toString " and " ++ toString k2.shown ++ toString " are in " ++ toString (vm.home k1)).toList.length ≤ 160
      rw [s1, s2]
      simp only [String.toList_append, List.length_append]
      have c1 : (toString " and ").toList.length = 5 := by decide
      have c2 : (toString " are in ").toList.length = 8 := by decide
      have d1 : (toString (dotted n1)).toList.length ≤ 20 := l1
      have d2 : (toString (dotted n2)).toList.length ≤ 20 := l2
      have d3 : (toString (vm.home k1)).toList.length ≤ 50 := h1
      omega
    · show (toString k1.shown ++ toString " is in " ++ toString (vm.home k1) ++ toString "; " ++ toString k2.shown ++ toString " is in " ++ toString (vm.home k2)).toList.length ≤ 160
      rw [s1, s2]
      simp only [String.toList_append, List.length_append]
      have c1 : (toString " is in ").toList.length = 7 := by decide
      have c2 : (toString "; ").toList.length = 2 := by decide
      have d1 : (toString (dotted n1)).toList.length ≤ 20 := l1
      have d2 : (toString (dotted n2)).toList.length ≤ 20 := l2
      have d3 : (toString (vm.home k1)).toList.length ≤ 50 := h1
      have d4 : (toString (vm.home k2)).toList.length ≤ 50 := h2
      omega
  have em : Op.checkcast.message vm k1 k2 = toString "class " ++ toString k1.shown ++ toString " cannot be cast to class " ++ toString k2.shown ++ toString " (" ++ toString (vm.homes k1 k2) ++ toString ")" := rfl
  have hlen : (Op.checkcast.message vm k1 k2).toList.length ≤ 235 := by
    rw [em, s1, s2]
    simp only [String.toList_append, List.length_append]
    have c1 : (toString "class ").toList.length = 6 := by decide
    have c2 : (toString " cannot be cast to class ").toList.length = 25 := by decide
    have c3 : (toString " (").toList.length = 2 := by decide
    have c4 : (toString ")").toList.length = 1 := by decide
    have d1 : (toString (dotted n1)).toList.length ≤ 20 := l1
    have d2 : (toString (dotted n2)).toList.length ≤ 20 := l2
    have d3 : (toString (vm.homes k1 k2)).toList.length ≤ 160 := hh
    omega
  refine ⟨?_, ?_⟩
  · rw [beq_eq_false_iff_ne]
    intro h
    have h2 := congrArg String.toList h
    rw [em] at h2
    have h4 : notModelled.toList = '\u0000' :: " a message that is not modelled".toList := by decide
    have h5 : (toString "class ").toList = 'c' :: "lass ".toList := by decide
    simp only [String.toList_append, h4, h5, List.cons_append] at h2
    simp at h2
  · have b1 := stringBytes_size_le (stringToUtf16 (Op.checkcast.message vm k1 k2))
    have b2 := utf16_size_le (Op.checkcast.message vm k1 k2)
    omega
section SM
variable {p : Program} {l : Launch} {e : Env} {R : Room} {s : State} {m : MethodId} {args : Array Value} {below : List Frame} {meth : Method} {c : Code} {G : pmG} {lo : Nat} {H0 : Heap} {nL : Nat} {cl : List vw_C} {ft : Nat → Nat → Bool} {kt : List (Nat × FieldType)} {NW : List Cond} {FW : List (String × MethodName × MethodName)} {XE : State → Prop} {XN : String} {Ts : List Cond} {own : String} {cc : ByteArray} {Qf : State → Prop} {K J Hn : Tm} {pc : Nat}
variable {XW : List Cond} {XC : List (String × String)} {XF : List (String × MethodName × MethodName)}
/-- checkcast: null and the kinds ok go on, the kinds bad go to the handler -/
def i_cast (ok bad : List Nat) (K Hn : Tm) : Tm := fun ls st B S D => match st with
  | .inr (.inr none) :: r => K ls (.inr (.inr none) :: r) B S D
  | .inr (.inr (some a)) :: r => ∃ ci, S.1 a = some (ci, 0) ∧ ((ci ∈ ok ∧ K ls (.inr (.inr (some a)) :: r) B S D) ∨ (ci ∈ bad ∧ catv r ≤ 7 ∧ i_vm 3 970 Hn ls r B S D))
  | _ => False
/-- instanceof -/
def i_inst (ok bad : List Nat) (K : Tm) : Tm := fun ls st B S D => match st with
  | .inr (.inr none) :: r => K ls (.inl 0 :: r) B S D
  | .inr (.inr (some a)) :: r => ∃ ci, S.1 a = some (ci, 0) ∧ ((ci ∈ ok ∧ K ls (.inl 1 :: r) B S D) ∨ (ci ∈ bad ∧ K ls (.inl 0 :: r) B S D))
  | _ => False
/-- the names of the kinds -/
def xcl (Ts : List Cond) (cl : List vw_C) (ft : Nat → Nat → Bool) (nmf : Nat → String) (L : List Nat) : Prop := ∀ ci, ci ∈ L → ∃ T N ty, pmC Ts cl ft ci (nmf ci) T N ty
theorem sm_cast0 (F : pmF p s m args c G nL cl kt Ts own cc) {nmf : Nat → String} {ok : List Nat} {index : Nat} {nm : String} (hok : xcl Ts cl ft nmf ok) (hlink : (Cond.classLink own index nm) ∈ Ts) (hcast : ∀ ci, ci ∈ ok → nmf ci = nm ∨ va_Nw (.castable (nmf ci) nm) s) (d : decode cc pc = .ok (.checkcast index, 3)) (h : pm_le K (pmV p l e R s m args below meth c G lo H0 nL cl ft Qf (pc + 3))) : pm_le (i_cast ok [] K i_none) (pmV p l e R s m args below meth c G lo H0 nL cl ft Qf pc) := by
  intro ls st B S D k H locs la cells slots hc hs hR hL hl hv
  unfold i_cast at k
  split at k
  · rename_i r
    exact lv_castN F.1.1 F.1.2.1 d (h ls (.inr (.inr none) :: r) B S D k H locs la cells slots hc hs hR hL hl hv)
  · rename_i a r
    obtain ⟨ci, hS1, ⟨hci, k⟩ | ⟨hci, -⟩⟩ := k
    · obtain ⟨T, N, ty, hC⟩ := hok ci hci
      have hrec := pm_recv F.2 hR hC hS1
      have kk := h ls (.inr (.inr (some a)) :: r) B S D k H locs la cells slots hc hs hR hL hl hv
      rcases hcast ci hci with q | q
      · rw [q] at hrec
        exact va_castE F.1.1 F.1.2.1 F.1.2.2.2.1 (F.1.2.2.2.2 _ hlink) hrec d kk
      · exact va_castY F.1.1 F.1.2.1 F.1.2.2.2.1 (F.1.2.2.2.2 _ hlink) q hrec d kk
    · exact (List.not_mem_nil hci).elim
  · exact k.elim
theorem sm_castX (F : pmF p s m args c G nL cl kt Ts own cc) (X : pmN NW FW XE lo s) (hE : pmE XW XC XF lo H0 s) (hM : xMod s) (hst : l.stackTraces = false) (hlocks : meth.locks = false) {names : List String} {hpc : Nat}
    (hnames : ∀ n ∈ names, Bundle.fit n = true) (hat : ∀ w ∈ vy_atM "java/lang/ClassCastException" names, w.before args s = true) (hgood : ∀ w ∈ vy_atM "java/lang/ClassCastException" names, vy_ot w = true) (hfr : names.length + 4 < R.frames) (hlc : 10248 ≤ R.locals) (hshort : 13 * names.length + 55 ≤ 10240) (hH : pmH own args s c pc hpc "java/lang/ClassCastException") (hx : pm_le Hn (pmV p l e R s m args below meth c G lo H0 nL cl ft Qf hpc))
    {nmf : Nat → String} {ok bad : List Nat} {index : Nat} {nm : String} (hok : xcl Ts cl ft nmf ok) (hbad : xcl Ts cl ft nmf bad) (hlink : (Cond.classLink own index nm) ∈ Ts) (hcast : ∀ ci, ci ∈ ok → nmf ci = nm ∨ va_Nw (.castable (nmf ci) nm) s) (hno : ∀ ci, ci ∈ bad → va_Nc (nmf ci) nm s ∧ packageOf (nmf ci) = "" ∧ (dotted (nmf ci)).toList.length ≤ 20) (pn : packageOf nm = "" ∧ (dotted nm).toList.length ≤ 20)
    (d : decode cc pc = .ok (.checkcast index, 3)) (h : pm_le K (pmV p l e R s m args below meth c G lo H0 nL cl ft Qf (pc + 3))) : pm_le (i_cast ok bad K Hn) (pmV p l e R s m args below meth c G lo H0 nL cl ft Qf pc) := by
  intro ls st B S D k H locs la cells slots hc hs hR hL hl hv
  unfold i_cast at k
  split at k
  · rename_i r
    exact sm_cast0 (l := l) F hok hlink hcast d h ls (.inr (.inr none) :: r) B S D k H locs la cells slots hc hs hR hL hl hv
  · rename_i a r
    obtain ⟨ci, hS1, ⟨hci, k⟩ | ⟨hci, hr, k⟩⟩ := k
    · exact sm_cast0 (l := l) F hok hlink hcast d h ls (.inr (.inr (some a)) :: r) B S D ⟨ci, hS1, Or.inl ⟨hci, k⟩⟩ H locs la cells slots hc hs hR hL hl hv
    · obtain ⟨T1, N, ty, hC⟩ := hbad ci hci
      obtain ⟨cell, r1, r2, r3⟩ := pm_recv F.2 hR hC hS1
      obtain ⟨⟨c1, c2, n1, n2, n3⟩, p1, l1⟩ := hno ci hci
      cases n1.symm.trans r3
      obtain ⟨ks, hks, -⟩ := Vm.findClass_spec n1
      intro T hT Y
      obtain ⟨vm', ks', kt', hW, Y', g1, g2, st⟩ := vz_castNo Y F.1.1 F.1.2.2.2.1 (F.1.2.2.2.2 _ hlink) (by rw [hT]; exact r1) (fun q e => by rw [e] at r2; cases r2) hks n2 n3 (g := F0 m pc la (.ref a :: r.map cv)) rfl (rest := r.map cv) rfl (by rw [F.1.2.1]; exact d)
      have hM' : ∀ m, m ∈ vm'.modules → m.loader.isSome = true ∨ m.name = "java.base" ∨ m.packages.contains "" = false := fun m hm => by
        have e : vm'.modules = s.vm.modules := by rw [hW.alike.1]
        exact hM m (e ▸ hm)
      obtain ⟨t1, t2⟩ := cc_text hM' (by rw [hW.alike.findClass]; exact n1) (by rw [hW.alike.findClass]; exact n2) g1 g2 p1 pn.1 l1 pn.2
      obtain ⟨t', st', q⟩ := pm_vm (rest := .inr (.inr (some a)) :: r) F X hE hst hlocks (cls := "java/lang/ClassCastException") (by decide +kernel) hnames (by decide +kernel) (by decide +kernel) hat hgood (by omega) hfr hlc hshort hH hx k hc hs hR hL hl (by simp only [catv, isL]; simp; omega) t1 t2 (T.setVm vm') hT Y'
      exact ⟨t', st _ st', q⟩
  · exact k.elim
theorem sm_inst (F : pmF p s m args c G nL cl kt Ts own cc) {nmf : Nat → String} {ok bad : List Nat} {index : Nat} {nm : String} (hok : xcl Ts cl ft nmf ok) (hbad : xcl Ts cl ft nmf bad) (hlink : (Cond.classLink own index nm) ∈ Ts) (hcast : ∀ ci, ci ∈ ok → nmf ci = nm ∨ va_Nw (.castable (nmf ci) nm) s) (hno : ∀ ci, ci ∈ bad → va_Nc (nmf ci) nm s)
    (d : decode cc pc = .ok (.instanceof index, 3)) (h : pm_le K (pmV p l e R s m args below meth c G lo H0 nL cl ft Qf (pc + 3))) : pm_le (i_inst ok bad K) (pmV p l e R s m args below meth c G lo H0 nL cl ft Qf pc) := by
  intro ls st B S D k H locs la cells slots hc hs hR hL hl hv
  unfold i_inst at k
  split at k
  · rename_i r
    exact lv_instN F.1.1 F.1.2.1 d (h ls (.inl 0 :: r) B S D k H locs la cells slots hc hs hR hL hl (by simp only [List.forall_mem_cons] at hv ⊢; exact ⟨by unfold okv inI; omega, hv.2⟩))
  · rename_i a r
    have hv1 : ∀ z : Int, inI z → ∀ v ∈ (.inl z :: r : List PV), okv v := fun z hz => by
      simp only [List.forall_mem_cons] at hv ⊢; exact ⟨hz, hv.2⟩
    obtain ⟨ci, hS1, ⟨hci, k⟩ | ⟨hci, k⟩⟩ := k
    · obtain ⟨T, N, ty, hC⟩ := hok ci hci
      have hrec := pm_recv F.2 hR hC hS1
      have kk := h ls (.inl 1 :: r) B S D k H locs la cells slots hc hs hR hL hl (hv1 1 (by unfold inI; omega))
      rcases hcast ci hci with q | q
      · rw [q] at hrec
        exact va_instE F.1.1 F.1.2.1 F.1.2.2.2.1 (F.1.2.2.2.2 _ hlink) hrec d kk
      · exact va_instY F.1.1 F.1.2.1 F.1.2.2.2.1 (F.1.2.2.2.2 _ hlink) q hrec d kk
    · obtain ⟨T, N, ty, hC⟩ := hbad ci hci
      have hrec := pm_recv F.2 hR hC hS1
      have kk := h ls (.inl 0 :: r) B S D k H locs la cells slots hc hs hR hL hl (hv1 0 (by unfold inI; omega))
      exact va_instNo F.1.1 F.1.2.1 F.1.2.2.2.1 (F.1.2.2.2.2 _ hlink) (hno ci hci) hrec d kk
  · exact k.elim
end SM
