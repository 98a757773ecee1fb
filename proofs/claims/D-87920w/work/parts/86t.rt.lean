/-! SIM: RuntimeException's constructor on a new Failure (no stack traces) -/
set_option maxRecDepth 100000
set_option linter.unusedVariables false
section SM
variable {p : Program} {l : Launch} {e : Env} {R : Room} {s : State} {m : MethodId} {args : Array Value} {below : List Frame} {meth : Method} {c : Code} {G : pmG} {lo : Nat} {H0 : Heap} {nL : Nat} {XE : State → Prop} {cc : ByteArray} {Qf : State → Prop} {K J Hn : Tm} {pc : Nat} {Z : Nat → Nat}
theorem refv_opt (u : RefV) : ∃ o : Option Nat, u.v = va_rf o := by
  obtain ⟨v, ok⟩ := u
  cases v with
  | null => exact ⟨none, rfl⟩
  | ref a => exact ⟨some a, rfl⟩
  | _ => simp [Value.isRef] at ok
theorem takes_of {cell : Cell} {cF : ClassId} {kF : Class} {f : Field} {v w : Value} (h1 : cell.cls = cF) (h2 : cell.vm = .none) (hk : s.vm.classes[cF]? = some kF) (hord : kF.kind = .ordinary) (hty : kF.instanceTypes[f.slot]? = some f.type) (hv : fits f.type v = true) (hs : cell.slots[f.slot]? = some w) : Takes s cell f v := by
  refine ⟨(Array.getElem?_eq_some_iff.mp hs).1, ?_⟩
  rw [h1, h2]
  simp [State.fitsSlot, State.slotType?, hk, hord, hty, hv]
theorem slot_of {o n d : String} {i : Nat} {x : ClassId × Class × Nat × Field} (h : SlotIs s o n d i) (hx : s.fieldFound? o n d = some x) : x.2.2.2.slot = i := by
  obtain ⟨cf, kf, fi, fd, h1, h2⟩ := h
  cases h1.symm.trans hx
  exact h2
set_option maxHeartbeats 4000000 in
theorem sm_rtinit (F : pmF p s m args c G nL pmcl pmkt lw_all "IdealCourt$Failure" cc) (X : pmN pmNW pmFW XE lo s) (hE : ∀ U, XE U → xE lo H0 Z U) (hstt : l.stackTraces = false) (hfr : 8 ≤ R.frames) (hlc : 300 ≤ R.locals) (d : decode cc pc = .ok (.invokespecial 3, 3)) (h : pm_le K (pmV p l e R s m args below meth c G lo H0 nL pmcl pmft Qf (pc + 3))) : pm_le (i_rtinit K) (pmV p l e R s m args below meth c G lo H0 nL pmcl pmft Qf pc) := by
  intro ls st B S D k H locs la cells slots hc hs hR hL hl hv
  unfold i_rtinit at k
  split at k
  · rename_i a r
    obtain ⟨h8, hS1, hbt, k⟩ := k
    simp only [List.forall_mem_cons] at hv
    have hEx := hE _ X.2.2.1
    intro W hT Y
    obtain ⟨hS, hold⟩ := pm_old Y (by rw [hT]; exact hR) hL X.2.2.2
    have z0 : ∀ a : Nat, a < H0.size → ¬ lo ≤ a → s.heap[a]? = H0[a]? := fun a _ h2 => hold a (by omega)
    have hU := hEx.1.2.2.2.1.kept z0
    have hN := hEx.1.2.2.2.2.kept z0
    have hw : ∀ w ∈ rtAtoms, w.before args s = true := vy_own (at_RT F.1.2.2.2.2 hEx.1.1) (vy_isRefq hU.1) (vy_isRefq hN.1) hU.2.word hN.2.word
    have a' : ∀ x, x ∈ rtAtoms → x.holds args s none s [] = true := fun x hx => hw x hx
    have htr : e.platform.stackTraces = false := (show e.platform.stackTraces = l.stackTraces by rw [Y.admits.platform]).trans hstt
    have howns : e.platform.frameOwnsMonitors = true := by rw [Y.admits.platform]
    have hfin : e.platform.finalization = false := by rw [Y.admits.platform]
    have hpl : e.platform.magicAccessors = ({} : Platform).magicAccessors := by rw [Y.admits.platform]
    -- the object
    obtain ⟨hlo, hlt, hO, -⟩ := hR.2.2.2 a _ hS1
    obtain ⟨r1, hr1, ⟨cell, q1, q2, q3, q4⟩, hrng, hmon⟩ := hO (by decide)
    have e1 : r1 = (RX14, TX14, 7) := Option.some.inj (hr1.symm.trans (by rfl))
    subst e1
    obtain ⟨hSl, hfc, kF, hkF, hord⟩ := F.2.1 14 _ (show pmcl[14]? = some (RX14, TX14, 7) by rfl)
    simp only at q4 hSl
    rw [← q2] at hfc hkF
    obtain ⟨T, Zt, L, LZ, T9⟩ := ThrowableC.of_atoms (args := args) howns hfin hpl (fun x hx => hw x (by simp only [rtAtoms, List.mem_append]; exact Or.inl (Or.inl hx)))
    obtain ⟨P1, Ps, hlen, L1, hPs, hP1m, hlink1, hlink⟩ := Bundle.chain0 (args := args) hpl T9.init0 ["java/lang/Exception"] "java/lang/RuntimeException" (by decide) (by decide) (fun x hx => hw x (by simp only [rtAtoms, List.mem_append]; exact Or.inl (Or.inr hx)))
    have hlen1 : Ps.length = 1 := hlen
    have mem : ∀ x ∈ ([.methodLink "IdealCourt$Failure" 3 (Bundle.init0 "java/lang/RuntimeException"), .instantiable "IdealCourt$Failure" 7, .selects "IdealCourt$Failure" Bundle.tFill0 Bundle.tFill0, .selects "IdealCourt$Failure" Bundle.tFill Bundle.tFill, .lays "IdealCourt$Failure" Bundle.tN "cause" "Ljava/lang/Throwable;", .lays "IdealCourt$Failure" Bundle.tN "stackTrace" Bundle.steD, .lays "IdealCourt$Failure" Bundle.tN "suppressedExceptions" Bundle.listD, .lays "IdealCourt$Failure" Bundle.tN "detailMessage" "Ljava/lang/String;", .isRef (.static Bundle.tN "UNASSIGNED_STACK" Bundle.steD), .isRef (.static Bundle.tN "SUPPRESSED_SENTINEL" Bundle.listD), .fieldLink Bundle.tN 198 Bundle.tN "backtrace" "Ljava/lang/Object;", .lays Bundle.tN Bundle.tN "backtrace" "Ljava/lang/Object;", .lays "IdealCourt$Failure" Bundle.tN "backtrace" "Ljava/lang/Object;"] : List Cond), x ∈ rtAtoms := fun x hx => by
      simp only [rtAtoms, List.mem_append]; exact Or.inr hx
    have hsel0 : selectMethod e.platform s.vm cell.cls T.fill0 = .method T.fill0 := by
      obtain ⟨c2, r2, m2, g1, g2, g3, g4, -⟩ := Cond.selects_spec (a' (.selects "IdealCourt$Failure" Bundle.tFill0 Bundle.tFill0) (mem _ (by simp)))
      cases Option.some.inj (g1.symm.trans hfc)
      cases Option.some.inj (g2.symm.trans (State.methodFound?_of_named T9.fill0 (by decide)))
      cases Option.some.inj (g3.symm.trans T9.fill0)
      rw [Launch.admits_selectMethod Y.admits]; exact g4
    have hselF : selectMethod e.platform s.vm cell.cls T.fill = .method T.fill := by
      obtain ⟨c2, r2, m2, g1, g2, g3, g4, -⟩ := Cond.selects_spec (a' (.selects "IdealCourt$Failure" Bundle.tFill Bundle.tFill) (mem _ (by simp)))
      cases Option.some.inj (g1.symm.trans hfc)
      cases Option.some.inj (g2.symm.trans (State.methodFound?_of_named T9.fill (by decide)))
      cases Option.some.inj (g3.symm.trans T9.fill)
      rw [Launch.admits_selectMethod Y.admits]; exact g4
    obtain ⟨cellS0, hcS0, hiss⟩ := T9.statics
    obtain ⟨u0, hu0⟩ := Cond.staticRefV T9.unassigned L.unassignedStatic L.statics hcS0 hiss (a' (.isRef (.static Bundle.tN "UNASSIGNED_STACK" Bundle.steD)) (mem _ (by simp)))
    obtain ⟨sen, hsen⟩ := Cond.staticRefV T9.sentinel L.sentinelStatic L.statics hcS0 hiss (a' (.isRef (.static Bundle.tN "SUPPRESSED_SENTINEL" Bundle.listD)) (mem _ (by simp)))
    -- the statics' cell lies below
    have hSlo : T.aS < lo := by
      have hz : ∀ v, va_Z Bundle.tN "UNASSIGNED_STACK" Bundle.steD v (fun q => lo ≤ q) s s.heap → T.aS < lo := fun v hz => by
        obtain ⟨cf, kf, fi, f, aa, ce, z1, z2, z3, z4, z5, z6, z7, z8⟩ := hz
        have z9 := Option.some.inj (T9.unassigned.symm.trans z1)
        simp only [Prod.mk.injEq] at z9
        obtain ⟨-, z9, -⟩ := z9
        rw [← z9] at z4
        have z10 : T.aS = aa := Option.some.inj (L.statics.symm.trans z4)
        rw [z10]; exact Nat.not_le.mp z8
      rcases hU.1 with hz1 | ⟨t, hz1⟩
      · exact hz _ hz1
      · exact hz _ hz1
    have hcellS : W.heap[T.aS]? = some cellS0 := by
      rw [hT, hR.2.2.1 _ hSlo, ← hold _ hSlo]; exact hcS0
    have hknownS : cellS0.vm ≠ .unknown := by
      intro hu
      rw [hu] at hiss
      cases hiss
    have hneS : T.aS ≠ a := Nat.ne_of_lt (Nat.lt_of_lt_of_le hSlo hlo)
    -- the fields
    obtain ⟨iM, hffM⟩ := T9.msg
    obtain ⟨ci198, i198, fB, hk198, hg198, ha198, hsB, -, hnB, htB, hffB⟩ := Cond.ownField (t := .object "java/lang/Object") T9.found L.cls (by decide +kernel) (a' (.fieldLink Bundle.tN 198 Bundle.tN "backtrace" "Ljava/lang/Object;") (mem _ (by simp))) (a' (.lays Bundle.tN Bundle.tN "backtrace" "Ljava/lang/Object;") (mem _ (by simp))) e.platform hpl
    obtain ⟨tyC, dC, hdC, hdnC⟩ := Cond.laysAt hfc hkF T9.cause (a' (.lays "IdealCourt$Failure" Bundle.tN "cause" "Ljava/lang/Throwable;") (mem _ (by simp)))
    obtain ⟨tyS, dS, hdS, hdnS⟩ := Cond.laysAt hfc hkF T9.stack (a' (.lays "IdealCourt$Failure" Bundle.tN "stackTrace" Bundle.steD) (mem _ (by simp)))
    obtain ⟨tyP, dP, hdP, hdnP⟩ := Cond.laysAt hfc hkF T9.supp (a' (.lays "IdealCourt$Failure" Bundle.tN "suppressedExceptions" Bundle.listD) (mem _ (by simp)))
    have s0 : T.fCause.slot = G.1.2 14 0 := slot_of (hSl 0 (by decide)) T9.cause
    have s1 : T.fStack.slot = G.1.2 14 1 := slot_of (hSl 1 (by decide)) T9.stack
    have s2 : T.fSupp.slot = G.1.2 14 2 := slot_of (hSl 2 (by decide)) T9.supp
    have s4 : fB.slot = G.1.2 14 4 := slot_of (hSl 4 (by decide)) hffB
    have hap := pm_apart F.1.2.2.2.2 F.2 cls_14
    have p0 := q4 0 (by decide)
    have p1 := q4 1 (by decide)
    have p2 := q4 2 (by decide)
    have p4 := q4 4 (by decide)
    rw [show pmFv pmft S D a 14 4 = .null by
      show (if pmft 14 4 = true then va_rf (S.2.1 a ((4 : Nat) : Int)) else _) = _
      rw [if_pos (by decide), show ((4 : Nat) : Int) = 4 from rfl, hbt]; rfl] at p4
    have n40 := hap 4 0 (by decide) (by decide) (by decide)
    have n41 := hap 4 1 (by decide) (by decide) (by decide)
    have n42 := hap 4 2 (by decide) (by decide) (by decide)
    have hskip : SkipFacts T e.platform s (fun u => u) u0 ((preparedCellV T.toThrowableT cell a u0 sen).withEntry W.cur) :=
      ⟨{ ci198 := ci198, i198 := i198, fBack := fB }, ⟨hk198, hg198, ha198, hsB⟩, by
        simp only [preparedCellV, Cell.setSlot, Cell.withEntry, s0, s1, s2, s4]
        simpa [Array.getElem?_setIfInBounds, n40, n41, n42, n40.symm, n41.symm, n42.symm] using p4, fun _ _ => rfl⟩
    obtain ⟨tm, methC, cdC, kC, vm₁, hnC, -, -, -, -, -, -, -, hW₁, st1⟩ := Steps.initCold (tb := p.tables) (e := e) (below := below) (s := s) (U := W) Y.here F.1.1 Y.warmed hpl F.1.2.2.2.1 (t := Bundle.init0 "java/lang/RuntimeException") rfl rfl (by decide)
      (a' (.methodLink "IdealCourt$Failure" 3 (Bundle.init0 "java/lang/RuntimeException")) (mem _ (by simp))) (hw (.instanceMethod (Bundle.init0 "java/lang/RuntimeException")) (by simp [rtAtoms, Bundle.chain0Atoms, Bundle.passAtoms])) (bytes := Bundle.five) (maxL := 1) (hw (.code (Bundle.init0 "java/lang/RuntimeException") Bundle.five 1 none) (by simp [rtAtoms, Bundle.chain0Atoms, Bundle.passAtoms]))
      (f := F0 m pc la (.ref a :: r.map cv)) rfl (a := a) (rest := r.map cv) rfl (by rw [F.1.2.1]; exact d)
    cases Option.some.inj (hnC.symm.trans hP1m)
    have X₁ := Y.noted hW₁
    obtain ⟨vm₂, X₂, st2⟩ := X₁.ctorPlainOffV F.1.1 (g := F0 m pc la (r.map cv)) rfl (by rw [F.1.2.2.1]; exact hl.1) T L Zt LZ (P1 :: Ps)
      (fun P hP => by rcases List.mem_cons.mp hP with rfl | hP; exact L1; exact hPs P hP) ⟨hlink1, hlink⟩ (u0 := u0) (sen := sen) (self := a) (cell := cell) (cellS := cellS0)
      (by show W.heap[a]? = _; rw [hT]; exact q1) (fun _ => by rw [q3]; simp) (by rw [q3]; simp) (hmon cell q1).1 (hmon cell q1).2 hsel0 hselF hcellS hneS hknownS hu0 hsen
      (takes_of rfl q3 hkF hord tyC (by rw [T9.causeType]; rfl) (by rw [s0]; exact p0)) (takes_of rfl q3 hkF hord tyS (by rw [T9.stackType]; exact fits_refV_array _ u0) (by rw [s1]; exact p1)) (takes_of rfl q3 hkF hord tyP (by rw [T9.suppType]; exact fits_refV_object _ sen) (by rw [s2]; exact p2)) T9.objLocals hskip htr [] (by rw [F.1.2.1]; exact d)
      (by simp only [List.length_cons, hlen1]; omega) (by
        show 2 * 0 + ((r.map cv).map fun v => v.category).sum + (13 * (P1 :: Ps).length + 41) ≤ R.locals
        rw [catv_eq]
        simp only [List.length_cons, hlen1]
        omega)
    obtain ⟨o1, ho1⟩ := refv_opt u0
    obtain ⟨o2, ho2⟩ := refv_opt sen
    -- the heap behind it
    obtain ⟨S', hS'⟩ : ∃ S' : Stat, S' = (S.1, (fun b i => if b = a then (if i = 0 then some a else if i = 1 then o1 else if i = 2 then o2 else S.2.1 b i) else S.2.1 b i), S.2.2) := ⟨_, rfl⟩
    have hne : ∀ b i, b ≠ a → S'.2.1 b i = S.2.1 b i := fun b i hb => by rw [hS']; simp only [if_neg hb]
    have kk := k S' (by rw [hS']) (by rw [hS']) hne
    have hlt' : a < W.heap.size := by rw [hT]; exact hlt
    obtain ⟨ce, hce⟩ : ∃ ce, ce = (preparedCellV T.toThrowableT cell a u0 sen).setSlot T.fStack.slot u0.v := ⟨_, rfl⟩
    rw [← hce] at X₂ st2
    have hh : (((W.setVm vm₁).setVm vm₂).setCell a ce).heap = H.setIfInBounds a ce := by rw [← hT]; rfl
    have hh1 : (H.setIfInBounds a ce)[a]? = some ce := by simp [Array.getElem?_setIfInBounds, hlt]
    have hh2 : ∀ q : Nat, q ≠ a → (H.setIfInBounds a ce)[q]? = H[q]? := fun q hq => by simp [Array.getElem?_setIfInBounds, Ne.symm hq]
    have hR1 : pmR G pmcl pmft lo H0 S' D (H.setIfInBounds a ce) := by
      refine hR.put hlo (by simp) hh2 (by rw [hS']) (by rw [hS']) (fun b i _ => rfl) hne fun q hq => ?_
      have eq1 := Option.some.inj (hS1.symm.trans hq)
      subst eq1
      refine ⟨fun _ => ⟨_, cls_14.2.1, ?_, hrng, fun x hx => ?_⟩, fun h100 => absurd h100 (by decide)⟩
      · have t1 := t_set q4 hap (k := 0) (by decide) (.ref a)
        have t2 := t_set t1 hap (k := 1) (by decide) u0.v
        have t3 := t_set t2 hap (k := 2) (by decide) sen.v
        have t4 := t_set t3 hap (k := 1) (by decide) u0.v
        rw [← s0, ← s1, ← s2] at t4
        have t5 : t_OB a (G.1.1 14) 7 (G.1.2 14) (H.setIfInBounds a ce) (updV (updV (updV (updV (pmFv pmft S D a 14) 0 (.ref a)) 1 u0.v) 2 sen.v) 1 u0.v) := ⟨ce, hh1, by rw [hce]; exact q2, by rw [hce]; exact q3, by rw [hce]; exact t4⟩
        refine t5.to fun j hj => ?_
        have j7 : j = 0 ∨ j = 1 ∨ j = 2 ∨ j = 3 ∨ j = 4 ∨ j = 5 ∨ j = 6 := by
          have : j < 7 := hj
          omega
        rw [ho1, ho2, hS']
        rcases j7 with rfl | rfl | rfl | rfl | rfl | rfl | rfl <;> simp [updV, pmFv, pmft, pmfl, va_rf]
      · have hx2 := Option.some.inj (hx.symm.trans hh1)
        rw [hx2, hce]
        exact hmon cell q1
    obtain ⟨t, a1, b1⟩ := h ls r B S' D kk (H.setIfInBounds a ce) (locs ++ [⟨a, T.fCause.slot⟩, ⟨a, T.fStack.slot⟩, ⟨a, T.fSupp.slot⟩, ⟨a, T.fStack.slot⟩]) la cells slots hc hs hR1 (fun q hq => by
      rcases List.mem_append.mp hq with g | g
      · exact hL q g
      · simp only [List.mem_cons, List.not_mem_nil, or_false] at g
        rcases g with rfl | rfl | rfl | rfl <;> exact hlo) hl hv.2 _ hh X₂
    refine ⟨t, st1 _ (fun acts => ?_), b1⟩
    rw [doInvoke_state]
    exact st2 _ a1
  · exact k.elim
end SM
