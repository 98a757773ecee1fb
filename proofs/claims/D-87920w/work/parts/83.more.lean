/-! SIM: arrays of arrays, many at once; an interface's call on null; subclasses -/
set_option maxRecDepth 100000
set_option linter.unusedVariables false
/-- below by a cast that holds -/
theorem xsub {s : State} {args : Array Value} {x owner up : String} (h1 : (Cond.superclass x up).before args s = true) {up2 : String} (h2 : (Cond.superclass owner up2).before args s = true) (hc : va_Nw (.castable x owner) s) : ∀ a b, s.vm.findClass x = some a → s.vm.findClass owner = some b → s.vm.isSubclass a b = true := by
  intro a b ha hb
  obtain ⟨-, k1, -, -, hk1, -, -, ho1, -, -⟩ := Cond.superclass_spec ha h1
  obtain ⟨-, k2, -, -, hk2, -, -, ho2, -, hn2⟩ := Cond.superclass_spec hb h2
  obtain ⟨c3, c4, hc3, hc4, hasg⟩ := Cond.castable_spec (va_Nw.use (A := args) rfl hc)
  cases hc3.symm.trans ha
  cases hc4.symm.trans hb
  exact isSubclass_of_assignable hk1 hk2 ho1 ho2 hn2 hasg
/-- arrays over arrays, along the run -/
def xAA (t : FieldType) (U : State) : Prop := (Cond.arrayOver (.array t)).before #[] U = true
theorem xAA.use {t : FieldType} {A : Array Value} {U : State} (h : xAA t U) : (Cond.arrayOver (.array t)).before A U = true := h
theorem xAA.moved {t : FieldType} {u U : State} (hvm : u.vm.Alike U.vm) (h : xAA t u) : xAA t U := by
  obtain ⟨comp, c, k, h1, h2, h3, h4, h5⟩ := arrayOverA_spec h
  obtain ⟨k', hk', he⟩ := hvm.2.2 _ _ h3
  have hi : (U.vm.classes.findIdx? fun (x : Class) => match x.kind with | .array component _ => component == comp | _ => false) = some c := by
    have e1 := va_idx_bare u.vm comp
    have e2 := va_idx_bare U.vm comp
    first | rw [hvm.bare_eq] at e1 | rw [← hvm.bare_eq] at e1
    exact (e2.symm.trans e1).trans h2
  have hkind : k'.kind = .array comp (.array t) := by rw [he]; exact h4
  have f1 : U.vm.findClass (FieldType.array t).toString = some comp := by rw [hvm.findClass]; exact h1
  have f2 : U.vm.findClass ("[" ++ (FieldType.array t).toString) = some c := by rw [hvm.findClass]; exact h5
  unfold xAA Cond.before Cond.holds
  simp only [Cond.value]
  rw [f1, Option.bind_some]
  refine (congrArg (fun o : Option Nat => (o.bind (fun c => (U.vm.classes[c]?).map fun (k : Class) => match k.kind with | .array _ ty => decide (ty = FieldType.array t) && decide (U.vm.findClass ("[" ++ (FieldType.array t).toString) = some c) | _ => false) == some true)) hi).trans ?_
  simp [hk', hkind, f2]
section SM
variable {p : Program} {l : Launch} {e : Env} {R : Room} {s : State} {m : MethodId} {args : Array Value} {below : List Frame} {meth : Method} {c : Code} {G : pmG} {lo : Nat} {H0 : Heap} {nL : Nat} {cl : List vw_C} {ft : Nat → Nat → Bool} {kt : List (Nat × FieldType)} {NW : List Cond} {FW : List (String × MethodName × MethodName)} {XE : State → Prop} {XN : String} {Ts : List Cond} {own : String} {cc : ByteArray} {Qf : State → Prop} {K J Hn : Tm} {pc : Nat}
variable {XW : List Cond} {XC : List (String × String)} {XF : List (String × MethodName × MethodName)}
/-- null goes to the handler, an object on -/
def i_nullX (nb : Nat) (K Hn : Tm) : Tm := fun ls st B S D => match st with
  | .inr (.inr none) :: r => catv r ≤ 8 ∧ i_vm 1 nb Hn ls r B S D
  | .inr (.inr (some a)) :: r => K ls (.inr (.inr (some a)) :: r) B S D
  | _ => False
theorem sm_nullF (F : pmF p s m args c G nL cl kt Ts own cc) (X : pmN NW FW XE lo s) (hE : pmE XW XC XF lo H0 s) (hst : l.stackTraces = false) (hlocks : meth.locks = false) {nb hpc : Nat}
    (hat : ∀ w ∈ vy_atN nb, w.before args s = true) (hgood : ∀ w ∈ vy_atN nb, vy_ot w = true) (hfr : 7 < R.frames) (hlc : 10248 ≤ R.locals) (hH : pmH own args s c pc hpc "java/lang/NullPointerException") (hx : pm_le Hn (pmV p l e R s m args below meth c G lo H0 nL cl ft Qf hpc))
    {index count : Nat} {x y : MethodName} {C : String} (hlink : Cond.methodLink own index x ∈ Ts) (hF : va_Fw C x y s) (hxn : x.cls ≠ "java/lang/invoke/MethodHandle" ∧ x.cls ≠ "java/lang/invoke/VarHandle") (hlen : (parseMethodDescriptor x.desc).map (fun d => d.parameters.length) = some 0)
    (d : decode cc pc = .ok (.invokeinterface index count, 5)) (h : pm_le K (pmV p l e R s m args below meth c G lo H0 nL cl ft Qf pc)) : pm_le (i_nullX nb K Hn) (pmV p l e R s m args below meth c G lo H0 nL cl ft Qf pc) := by
  intro ls st B S D k H locs la cells slots hc hs hR hL hl hv
  unfold i_nullX at k
  split at k
  · rename_i r
    obtain ⟨hr, k⟩ := k
    intro T hT Y
    obtain ⟨r0, rm, hn, hrm, hstR, hsigR⟩ := Cond.declares_spec (va_any (A' := args) rfl hF.1)
    obtain ⟨cL, kL, r1, hcL, hkL, hiL, hfoundL, hn1⟩ := Cond.interfaceMethod_spec (va_any (A' := args) rfl hF.2.1)
    cases hn.symm.trans hn1
    have hr0cls : r0.cls = cL := Option.some.inj ((findClass_of_methodNamed hn).symm.trans hcL)
    have hl9 : ([] : List Value).length = rm.sig.parameters.length := by
      rw [hsigR] at hlen
      exact (Option.some.inj hlen).symm
    obtain ⟨vm', Y', st1⟩ := Y.invokeinterfaceNull F.1.1 F.1.2.2.2.1 (F.1.2.2.2.2 _ hlink) hn hrm hstR (by rw [hr0cls]; exact hkL) hiL hxn (g := F0 m pc la (.null :: r.map cv)) rfl (argsL := []) (rest := r.map cv) hl9 rfl (by rw [F.1.2.1]; exact d)
    obtain ⟨t, st2, q⟩ := pm_npe (rest := r) F X hE hst hlocks hat hgood hfr hlc hH hx k hc hs hR hL hl hr (T.setVm vm') hT Y'
    exact ⟨t, st1 t st2, q⟩
  · rename_i a r
    exact h ls (.inr (.inr (some a)) :: r) B S D k H locs la cells slots hc hs hR hL hl hv
  · exact k.elim
/-- a new array of arrays -/
theorem sm_newqA (F : pmF p s m args c G nL cl kt Ts own cc) {t idx : Nat} {u : FieldType} (ht0 : 104 < t) (hkt : (t, .array u) ∈ kt) (q1 : Cond.classLink own idx (FieldType.array u).toString ∈ Ts) (q2 : xAA u s) (d : decode cc pc = .ok (.anewarray idx, 3)) (h : pm_le K (pmV p l e R s m args below meth c G lo H0 nL cl ft Qf (pc + 3))) : pm_le (i_newa K t) (pmV p l e R s m args below meth c G lo H0 nL cl ft Qf pc) := by
  intro ls st B S D k H locs la cells slots hc hs hR hL hl hv
  unfold i_newa at k
  split at k
  · rename_i x r
    obtain ⟨b1, b2, n, rfl, hn, rfl, k⟩ := k
    simp only at hc hs
    have hcn := clampN hn
    refine W.anewA F.1.1 F.1.2.1 F.1.2.2.2.1 (F.1.2.2.2.2 _ q1) q2.use rfl d rfl (fun q => by have := (z_lt (inI_nat hn)).mp q; omega) (by rw [hcn]; omega) (by omega) (by omega) fun cA kA comp f1 f2 f3 f4 => ?_
    have hz : H.size = S.2.2 := hR.1
    have hcA : cA = G.2 t := Option.some.inj (f1.symm.trans (F.2.2 _ _ hkt).2)
    subst hcA
    have hR1 : pmR G cl ft lo H0 (mkS S t n) (mkD S D) (H.push { cls := G.2 t, slots := Array.replicate (Int32.ofInt (n : Int)).toNatClampNeg .null, vm := .none }) := by
      refine hR.push (by rw [Array.size_push]) (fun q hq => by rw [Array.getElem?_push, if_neg (Nat.ne_of_lt hq)]) t n ⟨fun h100 => absurd ht0 (by simp only at h100; omega), fun _ => ⟨?_, fun h1 => absurd h1 (by omega), fun h1 => absurd h1 (by omega)⟩⟩
      rw [← hz, Array.getElem?_push_size, hcn, arrV_new]
      congr 2
      funext j
      simp only [pmAv]
      rw [if_neg (by omega), if_neg (by omega)]
      simp [mkS, hz, va_rf]
    have hk := h _ _ _ _ _ k _ locs la (cells + 1) (slots + n) (by simp only; omega) (by simp only; omega) hR1 hL hl (by simp only [List.forall_mem_cons] at hv ⊢; exact ⟨trivial, hv.2⟩)
    rw [hz, show slots + (Int32.ofInt (n : Int)).toNatClampNeg = slots + n by rw [hcn]]
    exact hk
  · exact k.elim
/-- an array into an array of arrays -/
theorem sm_stA (F : pmF p s m args c G nL cl kt Ts own cc) {t t1 : Nat} {u : FieldType} (ht0 : 104 < t) (ht1 : 100 ≤ t1) (hkt : (t, .array u) ∈ kt) (hkt1 : (t1, u) ∈ kt) (hu : va_RA s (G.2 t1) u → s.vm.findClass (FieldType.array u).toString = some (G.2 t1)) (q2 : xAA u s) (d : decode cc pc = .ok (.aastore, 1)) (h : pm_le K (pmV p l e R s m args below meth c G lo H0 nL cl ft Qf (pc + 1))) : pm_le (i_stR K t [t1]) (pmV p l e R s m args below meth c G lo H0 nL cl ft Qf pc) := by
  intro ls st B S D k H locs la cells slots hc hs hR hL hl hv
  unfold i_stR at k
  split at k
  · rename_i v i a r
    obtain ⟨n, c1, m1, hS1, hSv, hcm, hi0, hi1, k⟩ := k
    simp only [List.mem_singleton] at hcm
    subst hcm
    simp only [List.forall_mem_cons] at hv
    obtain ⟨hlo, g1, g2, g3⟩ := hR.arr hS1 (by omega)
    have hcl := clampI hi0 hi1 hv.2.1
    obtain ⟨j, rfl⟩ := Int.eq_ofNat_of_zero_le hi0
    have hj : j < n := by omega
    have hjc : (Int32.ofInt (j : Int)).toNatClampNeg = j := by rw [hcl]; rfl
    obtain ⟨hlov, p1, -, -⟩ := hR.arr hSv ht1
    obtain ⟨comp, cA, kA, f1, f2, f3, f4, f5⟩ := arrayOverA_spec (q2.use (A := args))
    have hcA : cA = G.2 t := Option.some.inj (f5.symm.trans (F.2.2 _ _ hkt).2)
    subst hcA
    have hcomp : comp = G.2 c1 := Option.some.inj (f1.symm.trans (hu (F.2.2 _ _ hkt1).2))
    subst hcomp
    obtain ⟨kC, hkC, -⟩ := Vm.findClass_spec f1
    refine W.aast F.1.1 F.1.2.1 g1 (fun q h => by cases h) (fun h => by cases h) f3 f4 rfl hkC ⟨fun q => absurd ((z_lt hv.2.1).mp q) (by omega), by rw [arrV_size, hjc]; exact hj⟩ p1 (fun q h => by cases h) hkC (va_asg _ _) rfl rfl d fun H1 e1 e2 e3 => ?_
    rw [hjc] at e1 ⊢
    refine h _ _ _ _ _ k H1 _ la cells slots hc hs (hR.puta hS1 (by omega) hj e1 e2 e3 rfl rfl (fun b i hb => rfl) (fun b i hb => ?_) ?_ ⟨fun h1 => absurd h1 (by omega), fun h1 => absurd h1 (by omega)⟩) ?_ hl hv.2.2.2
    · simp only [setR, pmur, if_neg hb]
    · simp only [pmAv]
      rw [if_neg (by omega), if_neg (by omega)]
      simp [setR, pmur, va_rf]
    · intro q hq
      rcases List.mem_append.mp hq with g | g
      · exact hL q g
      · rw [List.mem_singleton.mp g]; exact hlo
  · exact k.elim
/-- an object of a subclass into an array -/
theorem sm_stS (F : pmF p s m args c G nL cl kt Ts own cc) {t ci : Nat} {C C' : String} {T : u_T} {N : Nat} {ty : Nat → FieldType} (hC : pmC Ts cl ft ci C' T N ty) (hcast : va_Nw (.castable C' C) s) (ht0 : 104 < t) (hkt : (t, .object C) ∈ kt) (d : decode cc pc = .ok (.aastore, 1)) (h : pm_le K (pmV p l e R s m args below meth c G lo H0 nL cl ft Qf (pc + 1))) : pm_le (i_stR K t [ci]) (pmV p l e R s m args below meth c G lo H0 nL cl ft Qf pc) := by
  intro ls st B S D k H locs la cells slots hc hs hR hL hl hv
  unfold i_stR at k
  split at k
  · rename_i v i a r
    obtain ⟨n, c1, m1, hS1, hSv, hcm, hi0, hi1, k⟩ := k
    simp only [List.mem_singleton] at hcm
    subst hcm
    simp only [List.forall_mem_cons] at hv
    obtain ⟨hlo, g1, g2, g3⟩ := hR.arr hS1 (by omega)
    have hcl := clampI hi0 hi1 hv.2.1
    obtain ⟨j, rfl⟩ := Int.eq_ofNat_of_zero_le hi0
    have hj : j < n := by omega
    have hjc : (Int32.ofInt (j : Int)).toNatClampNeg = j := by rw [hcl]; rfl
    obtain ⟨hlov, hltv, hO, -⟩ := hR.2.2.2 v _ hSv
    obtain ⟨r1, hr1, ⟨cell, p1, p2, p3, -⟩, -⟩ := hO hC.1
    have e1 := Option.some.inj (hr1.symm.trans hC.2.1)
    subst e1
    have hcls := (F.2.1 c1 _ hC.2.1).2
    obtain ⟨kA, comp, k1, k2, k3, -⟩ := (F.2.2 _ _ hkt).2
    obtain ⟨c3, c4, hc3, hc4, hasg⟩ := Cond.castable_spec (va_Nw.use (A := args) rfl hcast)
    cases hc3.symm.trans hcls.1
    cases hc4.symm.trans k3
    obtain ⟨kC, hkC, -⟩ := hcls.2
    obtain ⟨kD, hkD, -⟩ := Vm.findClass_spec k3
    refine W.aast F.1.1 F.1.2.1 g1 (fun q h => by cases h) (fun h => by cases h) k1 k2 rfl hkD ⟨fun q => absurd ((z_lt hv.2.1).mp q) (by omega), by rw [arrV_size, hjc]; exact hj⟩ p1 (fun q h => by rw [p3] at h; cases h) (by rw [p2]; exact hkC) (by rw [p2]; exact hasg) rfl rfl d fun H1 e1 e2 e3 => ?_
    rw [hjc] at e1 ⊢
    refine h _ _ _ _ _ k H1 _ la cells slots hc hs (hR.puta hS1 (by omega) hj e1 e2 e3 rfl rfl (fun b i hb => rfl) (fun b i hb => ?_) ?_ ⟨fun h1 => absurd h1 (by omega), fun h1 => absurd h1 (by omega)⟩) ?_ hl hv.2.2.2
    · simp only [setR, pmur, if_neg hb]
    · simp only [pmAv]
      rw [if_neg (by omega), if_neg (by omega)]
      simp [setR, pmur, va_rf]
    · intro q hq
      rcases List.mem_append.mp hq with g | g
      · exact hL q g
      · rw [List.mem_singleton.mp g]; exact hlo
  · exact k.elim
end SM
