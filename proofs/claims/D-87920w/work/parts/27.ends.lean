/-! SIM: calls of each kind, ends, the start -/
set_option maxRecDepth 100000
set_option linter.unusedVariables false
section SM
variable {p : Program} {l : Launch} {e : Env} {R : Room} {s : State} {m : MethodId} {args : Array Value} {below : List Frame} {meth : Method} {c : Code} {G : pmG} {lo : Nat} {H0 : Heap} {nL : Nat} {cl : List vw_C} {ft : Nat → Nat → Bool} {kt : List (Nat × FieldType)} {NW : List Cond} {FW : List (String × MethodName × MethodName)} {XE : State → Prop} {XN : String} {Ts : List Cond} {own : String} {cc : ByteArray} {Qf : State → Prop} {K J Hn : Tm} {pc : Nat}
variable {y : MethodName} {ws : List Cond} {fr lc w index maxL n : Nat} {P : Prg} {ret : Option FieldType} {bytes : ByteArray} {host : String}
theorem sm_callV (F : pmF p s m args c G nL cl kt Ts own cc) (X : pmN NW FW XE lo s) (hM : pmMet l G cl ft kt NW FW XE XN lo H0 y ws fr lc w P) {ci : Nat} {C : String} {T : u_T} {N : Nat} {ty : Nat → FieldType} (hC : pmC Ts cl ft ci C T N ty) (cw : ∀ m1 m2, CallW R s args own C index y bytes maxL ret ws { frames := fr, cells := m1, slots := m2, locals := lc } m1 m2 n) (d : decode cc pc = .ok (.invokevirtual index, 3)) (h : pm_le K (pmV p l e R s m args below meth c G lo H0 nL cl ft Qf (pc + 3))) (hX : pmX p l e R s m args below meth c G lo H0 nL cl ft XN Qf pc Hn) : pm_le (i_recv (i_call K P (n + 1) w Hn) ci n) (pmV p l e R s m args below meth c G lo H0 nL cl ft Qf pc) := by
  intro ls st B S D k H locs la cells slots hc hs hR hL hl hv
  obtain ⟨⟨b, hb, hbS⟩, ⟨hg1, hg2, hg3⟩, b1, b2, m1, m2, rfl, k⟩ := k
  obtain ⟨As, h1, h2, h3⟩ := st_splitV hb
  obtain ⟨ok1, ok2⟩ := okv_sub hg1 hv
  have hst : st.map cv = (As.map cv).reverse ++ .ref b :: (dropv st (n + 1)).map cv := by
    conv => lhs; rw [h3]
    simp [cv, va_rf]
  have hm := hM _ _ _ _ m1 m2 hg2 k
  refine pm_run F.2 h hX hc hs hL hl ok2 (fun _ _ _ _ q => q) (fun _ _ _ _ q => q) (vy_runV F.1 hm (cw m1 m2) ⟨pmPc.blind, pm_recv F.2 hR hC hbS, fun U hU hW => ⟨by rw [h1]; rfl, ok1, by rw [hU]; exact hR, pmK.moved hW.alike F.2, pmN.moved hW (by rw [hU]; exact hR.2.1) X⟩⟩ rfl (by simpa using h2) (by exact hl.1) hst (by simp only [JFrame.monitorRoom]; rw [catv_eq]; simpa using hg3) d ⟨by simp only at hc; omega, by simp only at hs; omega⟩)
theorem sm_callVX (F : pmF p s m args c G nL cl kt Ts own cc) (X : pmN NW FW XE lo s) (hM : pmMet l G cl ft kt NW FW XE XN lo H0 y ws fr lc w P) {ci : Nat} {C : String} {T : u_T} {N : Nat} {ty : Nat → FieldType} (hC : pmC Ts cl ft ci C T N ty) {hh : List (Nat × Nat × Nat × Nat)} (cw : ∀ m1 m2, vy_CVW R s args own C index y bytes maxL ret hh ws { frames := fr, cells := m1, slots := m2, locals := lc } m1 m2 n) (d : decode cc pc = .ok (.invokevirtual index, 3)) (h : pm_le K (pmV p l e R s m args below meth c G lo H0 nL cl ft Qf (pc + 3))) (hX : pmX p l e R s m args below meth c G lo H0 nL cl ft XN Qf pc Hn) : pm_le (i_recv (i_call K P (n + 1) w Hn) ci n) (pmV p l e R s m args below meth c G lo H0 nL cl ft Qf pc) := by
  intro ls st B S D k H locs la cells slots hc hs hR hL hl hv
  obtain ⟨⟨b, hb, hbS⟩, ⟨hg1, hg2, hg3⟩, b1, b2, m1, m2, rfl, k⟩ := k
  obtain ⟨As, h1, h2, h3⟩ := st_splitV hb
  obtain ⟨ok1, ok2⟩ := okv_sub hg1 hv
  have hst : st.map cv = (As.map cv).reverse ++ .ref b :: (dropv st (n + 1)).map cv := by
    conv => lhs; rw [h3]
    simp [cv, va_rf]
  have hm := hM _ _ _ _ m1 m2 hg2 k
  refine pm_run F.2 h hX hc hs hL hl ok2 (fun _ _ _ _ q => q) (fun _ _ _ _ q => q) (vy_runVX F.1 hm (cw m1 m2) ⟨pmPc.blind, pm_recv F.2 hR hC hbS, fun U hU hW => ⟨by rw [h1]; rfl, ok1, by rw [hU]; exact hR, pmK.moved hW.alike F.2, pmN.moved hW (by rw [hU]; exact hR.2.1) X⟩⟩ rfl (by simpa using h2) (by exact hl.1) hst (by simp only [JFrame.monitorRoom]; rw [catv_eq]; simpa using hg3) d ⟨by simp only at hc; omega, by simp only at hs; omega⟩)
theorem sm_callVN (F : pmF p s m args c G nL cl kt Ts own cc) (X : pmN NW FW XE lo s) (hM : pmMet l G cl ft kt NW FW XE XN lo H0 y ws fr lc w P) {ci : Nat} {C : String} {T : u_T} {N : Nat} {ty : Nat → FieldType} (hC : pmC Ts cl ft ci C T N ty) (cw : ∀ m1 m2, va_CN R s args own index y host bytes maxL ret ws { frames := fr, cells := m1, slots := m2, locals := lc } m1 m2 n ∧ (Cond.instanceMethod y).before args s = true ∧ (Cond.selects C y y).before args s = true) (d : decode cc pc = .ok (.invokevirtual index, 3)) (h : pm_le K (pmV p l e R s m args below meth c G lo H0 nL cl ft Qf (pc + 3))) (hX : pmX p l e R s m args below meth c G lo H0 nL cl ft XN Qf pc Hn) : pm_le (i_recv (i_call K P (n + 1) w Hn) ci n) (pmV p l e R s m args below meth c G lo H0 nL cl ft Qf pc) := by
  intro ls st B S D k H locs la cells slots hc hs hR hL hl hv
  obtain ⟨⟨b, hb, hbS⟩, ⟨hg1, hg2, hg3⟩, b1, b2, m1, m2, rfl, k⟩ := k
  obtain ⟨As, h1, h2, h3⟩ := st_splitV hb
  obtain ⟨ok1, ok2⟩ := okv_sub hg1 hv
  have hst : st.map cv = (As.map cv).reverse ++ .ref b :: (dropv st (n + 1)).map cv := by
    conv => lhs; rw [h3]
    simp [cv, va_rf]
  have hm := hM _ _ _ _ m1 m2 hg2 k
  refine pm_run F.2 h hX hc hs hL hl ok2 (fun _ _ _ _ q => q) (fun _ _ _ _ q => q) (vy_runVN F.1 hm (cw m1 m2) ⟨pmPc.blind, pm_recv F.2 hR hC hbS, fun U hU hW => ⟨by rw [h1]; rfl, ok1, by rw [hU]; exact hR, pmK.moved hW.alike F.2, pmN.moved hW (by rw [hU]; exact hR.2.1) X⟩⟩ rfl (by simpa using h2) (by exact hl.1) hst (by simp only [JFrame.monitorRoom]; rw [catv_eq]; simpa using hg3) d ⟨by simp only at hc; omega, by simp only at hs; omega⟩)
theorem sm_callS (F : pmF p s m args c G nL cl kt Ts own cc) (X : pmN NW FW XE lo s) (hM : pmMet l G cl ft kt NW FW XE XN lo H0 y ws fr lc w P) (cw : ∀ m1 m2, CallB R s args own index y bytes maxL ret ws { frames := fr, cells := m1, slots := m2, locals := lc } m1 m2 n ∧ (Cond.static y).before args s = true) (d : decode cc pc = .ok (.invokestatic index, 3)) (h : pm_le K (pmV p l e R s m args below meth c G lo H0 nL cl ft Qf (pc + 3))) (hX : pmX p l e R s m args below meth c G lo H0 nL cl ft XN Qf pc Hn) : pm_le (i_call K P n w Hn) (pmV p l e R s m args below meth c G lo H0 nL cl ft Qf pc) := by
  intro ls st B S D k H locs la cells slots hc hs hR hL hl hv
  obtain ⟨⟨hg1, hg2, hg3⟩, b1, b2, m1, m2, rfl, k⟩ := k
  obtain ⟨ok1, ok2⟩ := okv_sub hg1 hv
  have hst : st.map cv = ((takev st n []).map cv).reverse ++ (dropv st n).map cv := by
    conv => lhs; rw [st_split hg1]
    simp
  have hm := hM _ _ _ _ m1 m2 hg2 k
  refine pm_run F.2 h hX hc hs hL hl ok2 (fun _ _ _ _ q => q) (fun _ _ _ _ q => q) (vy_runS F.1 hm (cw m1 m2) ⟨pmPc.blind, fun U hU hW => ⟨rfl, ok1, by rw [hU]; exact hR, pmK.moved hW.alike F.2, pmN.moved hW (by rw [hU]; exact hR.2.1) X⟩⟩ rfl (by rw [List.length_map, takev_eq n st [] hg1]; simp; omega) (by exact hl.1) hst (by simp only [JFrame.monitorRoom]; rw [catv_eq]; simpa using hg3) d ⟨by simp only at hc; omega, by simp only at hs; omega⟩)
theorem sm_callSX (F : pmF p s m args c G nL cl kt Ts own cc) (X : pmN NW FW XE lo s) (hM : pmMet l G cl ft kt NW FW XE XN lo H0 y ws fr lc w P) {hh : List (Nat × Nat × Nat × Nat)} (cw : ∀ m1 m2, vy_CSW R s args own index y bytes maxL ret hh ws { frames := fr, cells := m1, slots := m2, locals := lc } m1 m2 n) (d : decode cc pc = .ok (.invokestatic index, 3)) (h : pm_le K (pmV p l e R s m args below meth c G lo H0 nL cl ft Qf (pc + 3))) (hX : pmX p l e R s m args below meth c G lo H0 nL cl ft XN Qf pc Hn) : pm_le (i_call K P n w Hn) (pmV p l e R s m args below meth c G lo H0 nL cl ft Qf pc) := by
  intro ls st B S D k H locs la cells slots hc hs hR hL hl hv
  obtain ⟨⟨hg1, hg2, hg3⟩, b1, b2, m1, m2, rfl, k⟩ := k
  obtain ⟨ok1, ok2⟩ := okv_sub hg1 hv
  have hst : st.map cv = ((takev st n []).map cv).reverse ++ (dropv st n).map cv := by
    conv => lhs; rw [st_split hg1]
    simp
  have hm := hM _ _ _ _ m1 m2 hg2 k
  refine pm_run F.2 h hX hc hs hL hl ok2 (fun _ _ _ _ q => q) (fun _ _ _ _ q => q) (vy_runSX F.1 hm (cw m1 m2) ⟨pmPc.blind, fun U hU hW => ⟨rfl, ok1, by rw [hU]; exact hR, pmK.moved hW.alike F.2, pmN.moved hW (by rw [hU]; exact hR.2.1) X⟩⟩ rfl (by rw [List.length_map, takev_eq n st [] hg1]; simp; omega) (by exact hl.1) hst (by simp only [JFrame.monitorRoom]; rw [catv_eq]; simpa using hg3) d ⟨by simp only at hc; omega, by simp only at hs; omega⟩)
theorem sm_callSN (F : pmF p s m args c G nL cl kt Ts own cc) (X : pmN NW FW XE lo s) (hM : pmMet l G cl ft kt NW FW XE XN lo H0 y ws fr lc w P) (cw : ∀ m1 m2, va_CN R s args own index y host bytes maxL ret ws { frames := fr, cells := m1, slots := m2, locals := lc } m1 m2 n ∧ (Cond.static y).before args s = true ∧ True) (d : decode cc pc = .ok (.invokestatic index, 3)) (h : pm_le K (pmV p l e R s m args below meth c G lo H0 nL cl ft Qf (pc + 3))) (hX : pmX p l e R s m args below meth c G lo H0 nL cl ft XN Qf pc Hn) : pm_le (i_call K P n w Hn) (pmV p l e R s m args below meth c G lo H0 nL cl ft Qf pc) := by
  intro ls st B S D k H locs la cells slots hc hs hR hL hl hv
  obtain ⟨⟨hg1, hg2, hg3⟩, b1, b2, m1, m2, rfl, k⟩ := k
  obtain ⟨ok1, ok2⟩ := okv_sub hg1 hv
  have hst : st.map cv = ((takev st n []).map cv).reverse ++ (dropv st n).map cv := by
    conv => lhs; rw [st_split hg1]
    simp
  have hm := hM _ _ _ _ m1 m2 hg2 k
  refine pm_run F.2 h hX hc hs hL hl ok2 (fun _ _ _ _ q => q) (fun _ _ _ _ q => q) (vy_runSN F.1 hm (cw m1 m2) ⟨pmPc.blind, fun U hU hW => ⟨rfl, ok1, by rw [hU]; exact hR, pmK.moved hW.alike F.2, pmN.moved hW (by rw [hU]; exact hR.2.1) X⟩⟩ rfl (by rw [List.length_map, takev_eq n st [] hg1]; simp; omega) (by exact hl.1) hst (by simp only [JFrame.monitorRoom]; rw [catv_eq]; simpa using hg3) d ⟨by simp only at hc; omega, by simp only at hs; omega⟩)
theorem sm_callI (F : pmF p s m args c G nL cl kt Ts own cc) (X : pmN NW FW XE lo s) (hM : pmMet l G cl ft kt NW FW XE XN lo H0 y ws fr lc w P) {ci : Nat} (cw : ∀ m1 m2, CallB R s args own index y bytes maxL none ws { frames := fr, cells := m1, slots := m2, locals := lc } m1 m2 n ∧ y.name = "<init>" ∧ (Cond.instanceMethod y).before args s = true) (d : decode cc pc = .ok (.invokespecial index, 3)) (h : pm_le K (pmV p l e R s m args below meth c G lo H0 nL cl ft Qf (pc + 3))) (hX : pmX p l e R s m args below meth c G lo H0 nL cl ft XN Qf pc Hn) : pm_le (i_recv (i_call K P (n + 1) w Hn) ci n) (pmV p l e R s m args below meth c G lo H0 nL cl ft Qf pc) := by
  intro ls st B S D k H locs la cells slots hc hs hR hL hl hv
  obtain ⟨⟨b, hb, hbS⟩, ⟨hg1, hg2, hg3⟩, b1, b2, m1, m2, rfl, k⟩ := k
  obtain ⟨As, h1, h2, h3⟩ := st_splitV hb
  obtain ⟨ok1, ok2⟩ := okv_sub hg1 hv
  have hst : st.map cv = (As.map cv).reverse ++ .ref b :: (dropv st (n + 1)).map cv := by
    conv => lhs; rw [h3]
    simp [cv, va_rf]
  have hm := hM _ _ _ _ m1 m2 hg2 k
  refine pm_run F.2 h hX hc hs hL hl ok2 (fun _ _ _ _ q => q) (fun _ _ _ _ q => q) (vy_runI F.1 hm (cw m1 m2) ⟨pmPc.blind, fun U hU hW => ⟨by rw [h1]; rfl, ok1, by rw [hU]; exact hR, pmK.moved hW.alike F.2, pmN.moved hW (by rw [hU]; exact hR.2.1) X⟩⟩ rfl (by simpa using h2) (by exact hl.1) hst (by simp only [JFrame.monitorRoom]; rw [catv_eq]; simpa using hg3) d ⟨by simp only at hc; omega, by simp only at hs; omega⟩)
theorem sm_callIN (F : pmF p s m args c G nL cl kt Ts own cc) (X : pmN NW FW XE lo s) (hM : pmMet l G cl ft kt NW FW XE XN lo H0 y ws fr lc w P) {ci : Nat} (cw : ∀ m1 m2, va_CN R s args own index y host bytes maxL none ws { frames := fr, cells := m1, slots := m2, locals := lc } m1 m2 n ∧ y.name = "<init>" ∧ (Cond.instanceMethod y).before args s = true) (d : decode cc pc = .ok (.invokespecial index, 3)) (h : pm_le K (pmV p l e R s m args below meth c G lo H0 nL cl ft Qf (pc + 3))) (hX : pmX p l e R s m args below meth c G lo H0 nL cl ft XN Qf pc Hn) : pm_le (i_recv (i_call K P (n + 1) w Hn) ci n) (pmV p l e R s m args below meth c G lo H0 nL cl ft Qf pc) := by
  intro ls st B S D k H locs la cells slots hc hs hR hL hl hv
  obtain ⟨⟨b, hb, hbS⟩, ⟨hg1, hg2, hg3⟩, b1, b2, m1, m2, rfl, k⟩ := k
  obtain ⟨As, h1, h2, h3⟩ := st_splitV hb
  obtain ⟨ok1, ok2⟩ := okv_sub hg1 hv
  have hst : st.map cv = (As.map cv).reverse ++ .ref b :: (dropv st (n + 1)).map cv := by
    conv => lhs; rw [h3]
    simp [cv, va_rf]
  have hm := hM _ _ _ _ m1 m2 hg2 k
  refine pm_run F.2 h hX hc hs hL hl ok2 (fun _ _ _ _ q => q) (fun _ _ _ _ q => q) (vy_runIN F.1 hm (cw m1 m2) ⟨pmPc.blind, fun U hU hW => ⟨by rw [h1]; rfl, ok1, by rw [hU]; exact hR, pmK.moved hW.alike F.2, pmN.moved hW (by rw [hU]; exact hR.2.1) X⟩⟩ rfl (by simpa using h2) (by exact hl.1) hst (by simp only [JFrame.monitorRoom]; rw [catv_eq]; simpa using hg3) d ⟨by simp only at hc; omega, by simp only at hs; omega⟩)
theorem sm_iret {E : Ex} (F : pmF p s m args c G nL cl kt Ts own cc) (hr : meth.sig.returnType = some .int) (hlocks : meth.locks = false) (d : decode cc pc = .ok (.ireturn, 1)) : pm_le (i_iret E) (pmV p l e R s m args below meth c G lo H0 nL cl ft (vy_MQ below (pmQc G cl ft lo H0 E) (pmXC G cl ft XN lo H0 E) args s R.cells R.slots (fun q => lo ≤ q)) pc) := by
  intro ls st B S D k H locs la cells slots hc hs hR hL hl hv
  unfold i_iret at k
  split at k
  · rename_i x
    refine W.widen (k := R.cells) (n := R.slots) (by omega) (by omega) (vy_ret (W.iret (v := Int32.ofInt x) F.1.1 F.1.2.1 hr (fun t ht hW => ⟨some (.inl x), B, S, D, rfl, hv _ List.mem_cons_self, k, by rw [ht]; exact hR⟩) hL d hlocks))
  · exact k.elim
theorem sm_zret {E : Ex} (F : pmF p s m args c G nL cl kt Ts own cc) (hr : meth.sig.returnType = some .boolean) (hlocks : meth.locks = false) (d : decode cc pc = .ok (.ireturn, 1)) : pm_le (i_zret E) (pmV p l e R s m args below meth c G lo H0 nL cl ft (vy_MQ below (pmQc G cl ft lo H0 E) (pmXC G cl ft XN lo H0 E) args s R.cells R.slots (fun q => lo ≤ q)) pc) := by
  intro ls st B S D k H locs la cells slots hc hs hR hL hl hv
  unfold i_zret at k
  split at k
  · rename_i x
    obtain ⟨hx, k⟩ := k
    refine W.widen (k := R.cells) (n := R.slots) (by omega) (by omega) (vy_ret (W.zret (v := Int32.ofInt x) F.1.1 F.1.2.1 hr (nar_z hx) (fun t ht hW => ⟨some (.inl x), B, S, D, rfl, hv _ List.mem_cons_self, k, by rw [ht]; exact hR⟩) hL d hlocks))
  · exact k.elim
theorem sm_lret {E : Ex} (F : pmF p s m args c G nL cl kt Ts own cc) (hr : meth.sig.returnType = some .long) (hlocks : meth.locks = false) (d : decode cc pc = .ok (.lreturn, 1)) : pm_le (i_lret E) (pmV p l e R s m args below meth c G lo H0 nL cl ft (vy_MQ below (pmQc G cl ft lo H0 E) (pmXC G cl ft XN lo H0 E) args s R.cells R.slots (fun q => lo ≤ q)) pc) := by
  intro ls st B S D k H locs la cells slots hc hs hR hL hl hv
  unfold i_lret at k
  split at k
  · rename_i x
    refine W.widen (k := R.cells) (n := R.slots) (by omega) (by omega) (vy_ret (W.lret (v := Int64.ofInt x) F.1.1 F.1.2.1 hr (fun t ht hW => ⟨some (.inr (.inl x)), B, S, D, rfl, hv _ List.mem_cons_self, k, by rw [ht]; exact hR⟩) hL d hlocks))
  · exact k.elim
theorem sm_aret {E : Ex} (F : pmF p s m args c G nL cl kt Ts own cc) {rt : FieldType} (hr : meth.sig.returnType = some rt) (hrt : (∃ n, rt = .object n) ∨ ∃ t, rt = .array t) (hlocks : meth.locks = false) (d : decode cc pc = .ok (.areturn, 1)) : pm_le (i_aret E) (pmV p l e R s m args below meth c G lo H0 nL cl ft (vy_MQ below (pmQc G cl ft lo H0 E) (pmXC G cl ft XN lo H0 E) args s R.cells R.slots (fun q => lo ≤ q)) pc) := by
  intro ls st B S D k H locs la cells slots hc hs hR hL hl hv
  unfold i_aret at k
  split at k
  · rename_i x
    refine W.widen (k := R.cells) (n := R.slots) (by omega) (by omega) (vy_ret (W.aret (v := va_rf x) F.1.1 F.1.2.1 hr hrt (by cases x <;> simp [va_rf]) (fun t ht hW => ⟨some (.inr (.inr x)), B, S, D, rfl, trivial, k, by rw [ht]; exact hR⟩) hL d hlocks))
  · exact k.elim
theorem sm_vret {E : Ex} (F : pmF p s m args c G nL cl kt Ts own cc) (hr : meth.sig.returnType = none) (hlocks : meth.locks = false) (d : decode cc pc = .ok (.return_, 1)) : pm_le (i_vret E) (pmV p l e R s m args below meth c G lo H0 nL cl ft (vy_MQ below (pmQc G cl ft lo H0 E) (pmXC G cl ft XN lo H0 E) args s R.cells R.slots (fun q => lo ≤ q)) pc) := by
  intro ls st B S D k H locs la cells slots hc hs hR hL hl hv
  unfold i_vret at k
  split at k
  · refine W.widen (k := R.cells) (n := R.slots) (by omega) (by omega) (vy_ret (W.vret F.1.1 F.1.2.1 hr (fun t ht hW => ⟨none, B, S, D, rfl, trivial, k, by rw [ht]; exact hR⟩) hL d hlocks))
  · exact k.elim
theorem sx_out {E : Ex} (hlocks : meth.locks = false) (hout : ∀ x ∈ c.exceptionTable.toList, covers x pc = false) : pmX p l e R s m args below meth c G lo H0 nL cl ft XN (vy_MQ below (pmQc G cl ft lo H0 E) (pmXC G cl ft XN lo H0 E) args s R.cells R.slots (fun q => lo ≤ q)) pc (i_raise E) := by
  intro q ls B S D H locs la cells slots rest ce k hc hs hR hL hl hq hvm hcls
  exact vy_out hout hlocks hq hvm hcls (fun t ht hW => ⟨B, S, D, rfl, k, by rw [ht]; exact hR⟩) hL (by omega) (by omega)
theorem sx_catch (F : pmF p s m args c G nL cl kt Ts own cc) {nm : String} (pre : List ExceptionTableEntry) (x : ExceptionTableEntry) (suf : List ExceptionTableEntry) (hsplit : c.exceptionTable.toList = pre ++ x :: suf) (hpass : ∀ z ∈ pre, covers z pc = false ∨ (z.catchType ≠ 0 ∧ ∃ nm : String, (Cond.classLink own z.catchType nm).before args s = true ∧ va_Nc XN nm s)) (hx : covers x pc = true) (h0 : x.catchType ≠ 0) (hlink : (Cond.classLink own x.catchType nm).before args s = true) (hcast : (Cond.castable XN nm).before args s = true) (h : pm_le J (pmV p l e R s m args below meth c G lo H0 nL cl ft Qf x.handlerPc)) : pmX p l e R s m args below meth c G lo H0 nL cl ft XN Qf pc J := by
  intro q ls B S D H locs la cells slots rest ce k hc hs hR hL hl hq hvm hcls
  exact vy_catch F.1.2.2.2.1 pre x suf hsplit hpass hx h0 hlink hcast hq hvm hcls (h ls _ B S D k H locs la cells slots hc hs hR hL hl (by simp [okv]))
theorem sm_athrow (F : pmF p s m args c G nL cl kt Ts own cc) {ci : Nat} {T : u_T} {N : Nat} {ty : Nat → FieldType} (hC : pmC Ts cl ft ci XN T N ty) (d : decode cc pc = .ok (.athrow, 1)) (hX : pmX p l e R s m args below meth c G lo H0 nL cl ft XN Qf pc Hn) : pm_le (i_throw ci Hn) (pmV p l e R s m args below meth c G lo H0 nL cl ft Qf pc) := by
  intro ls st B S D k H locs la cells slots hc hs hR hL hl hv
  unfold i_throw at k
  split at k
  · rename_i a r
    obtain ⟨hS1, k⟩ := k
    obtain ⟨cell, h1, h2, h3⟩ := pm_recv F.2 hR hC hS1
    obtain ⟨hlo, hlt, hO, -⟩ := hR.2.2.2 a _ hS1
    obtain ⟨r1, hr1, ⟨cell', q1, q2, q3, -⟩, -⟩ := hO hC.1
    have ec := Option.some.inj (q1.symm.trans h1)
    subst ec
    exact vy_athrow F.1.1 F.1.2.1 d (hX a ls B S D H locs la cells slots _ cell' k hc hs hR hL hl h1 q3 h3)
  · exact k.elim
/-- a contract out of the walk -/
theorem pmMet.of {Ts : List Cond} {maxL : Nat} (hy : plainFor y = true) (hw : w ≤ maxL) (sim : ∀ (p : Program) (e : Env) (s : State) (m : MethodId) (args : Array Value) (below : List Frame) (meth : Method) (c : Code) (R : Room) (E : Ex), R.frames = fr → R.locals = lc → pmF p s m args c G maxL cl kt Ts y.cls cc → pmN NW FW XE lo s → meth.sig.returnType = ret → meth.locks = false → (∀ x ∈ c.exceptionTable.toList, False) → meth.name = y.name → pm_le (Wp P E 0) (pmV p l e R s m args below meth c G lo H0 maxL cl ft (vy_MQ below (pmQc G cl ft lo H0 E) (pmXC G cl ft XN lo H0 E) args s R.cells R.slots (fun q => lo ≤ q)) 0)) : pmMet l G cl ft kt NW FW XE XN lo H0 y (Cond.code y cc maxL ret :: Ts) fr lc w P := by
  intro E av S D m1 m2 hav k
  refine vy_ofW (cc := cc) (maxL := maxL) (ret := ret) hy rfl ?_
  intro p e s m args below meth c s₁ B hml hexc hv
  obtain ⟨rfl, hok, hR, hK, hN⟩ := hv
  have hts := atoms_spec (ws := Cond.code y cc maxL ret :: Ts) B.pre
  have F : pmF p s m ((av.map cv).toArray) c G maxL cl kt Ts y.cls cc := ⟨⟨B.exec, B.bytes, hml, findClass_of_methodNamed B.named, fun w h => hts w (List.mem_cons_of_mem _ h)⟩, hK⟩
  have hl := lv_entry (av.map cv) (n := maxL) (by rw [slots_eq]; omega)
  rw [lg_entry_eq]
  refine sim p e s m _ below meth c _ E rfl rfl F hN B.returns B.notSynchronized hexc (name_of_methodNamed B.named B.method).1 (largs av) [] (m1, m2) S D k s.heap [] _ 0 0 (by simp [headSpec]) (by simp [headSpec]) hR (by simp) ⟨hl.1, hl.2.1, fun j v hj => ?_⟩ (by simp)
  obtain ⟨g1, g2⟩ := largs_mem av 0 j v hj
  have g3 := hl.2.2 _ g1
  simp only [Nat.zero_add] at g3
  exact ⟨g3, hok v g2⟩
theorem sm_objinit (F : pmF p s m args c G nL cl kt Ts own cc) (q1 : Cond.methodLink own index Lib.objectInit ∈ Ts) (q2 : Cond.instanceMethod Lib.objectInit ∈ Ts) (q3 : Cond.code Lib.objectInit ⟨#[0xb1]⟩ 1 none ∈ Ts) (hfr : 1 ≤ R.frames) (hlc : 20 ≤ R.locals) (d : decode cc pc = .ok (.invokespecial index, 3)) (h : pm_le K (pmV p l e R s m args below meth c G lo H0 nL cl ft Qf (pc + 3))) : pm_le (i_objinit K) (pmV p l e R s m args below meth c G lo H0 nL cl ft Qf pc) := by
  intro ls st B S D k H locs la cells slots hc hs hR hL hl hv
  unfold i_objinit at k
  split at k
  · rename_i a r
    obtain ⟨h8, k⟩ := k
    exact W.objInit F.1.1 F.1.2.1 F.1.2.2.2.1 (F.1.2.2.2.2 _ q1) (F.1.2.2.2.2 _ q2) (F.1.2.2.2.2 _ q3) rfl (by rw [F.1.2.2.1]; exact hl.1) rfl d hfr (by simp only [JFrame.monitorRoom]; rw [catv_eq]; simp; omega) (h _ _ _ _ _ k H locs la cells slots hc hs hR hL hl (fun v hm => hv v (List.mem_cons_of_mem _ hm)))
  · exact k.elim
/-- the same for a body with handlers -/
theorem pmMet.ofH {Ts : List Cond} {maxL : Nat} {hh : List (Nat × Nat × Nat × Nat)} (hy : plainFor y = true) (hw : w ≤ maxL) (sim : ∀ (p : Program) (e : Env) (s : State) (m : MethodId) (args : Array Value) (below : List Frame) (meth : Method) (c : Code) (R : Room) (E : Ex), R.frames = fr → R.locals = lc → pmF p s m args c G maxL cl kt Ts y.cls cc → pmN NW FW XE lo s → meth.sig.returnType = ret → meth.locks = false → c.exceptionTable.toList = tableOf hh → meth.name = y.name → pm_le (Wp P E 0) (pmV p l e R s m args below meth c G lo H0 maxL cl ft (vy_MQ below (pmQc G cl ft lo H0 E) (pmXC G cl ft XN lo H0 E) args s R.cells R.slots (fun q => lo ≤ q)) 0)) : pmMet l G cl ft kt NW FW XE XN lo H0 y (Cond.codeWith y cc maxL ret hh :: Ts) fr lc w P := by
  intro E av S D m1 m2 hav k
  refine vy_ofWH (cc := cc) (maxL := maxL) (ret := ret) (hh := hh) hy rfl ?_
  intro p e s m args below meth c s₁ B hml hv
  obtain ⟨rfl, hok, hR, hK, hN⟩ := hv
  have hts := atoms_spec (ws := Cond.codeWith y cc maxL ret hh :: Ts) B.pre
  have F : pmF p s m ((av.map cv).toArray) c G maxL cl kt Ts y.cls cc := ⟨⟨B.exec, B.bytes, hml, findClass_of_methodNamed B.named, fun w h => hts w (List.mem_cons_of_mem _ h)⟩, hK⟩
  have hl := lv_entry (av.map cv) (n := maxL) (by rw [slots_eq]; omega)
  rw [lg_entry_eq]
  refine sim p e s m _ below meth c _ E rfl rfl F hN B.returns B.notSynchronized (vy_table (x := y) B (hts _ List.mem_cons_self)) (name_of_methodNamed B.named B.method).1 (largs av) [] (m1, m2) S D k s.heap [] _ 0 0 (by simp [headSpec]) (by simp [headSpec]) hR (by simp) ⟨hl.1, hl.2.1, fun j v hj => ?_⟩ (by simp)
  obtain ⟨g1, g2⟩ := largs_mem av 0 j v hj
  have g3 := hl.2.2 _ g1
  simp only [Nat.zero_add] at g3
  exact ⟨g3, hok v g2⟩
end SM
