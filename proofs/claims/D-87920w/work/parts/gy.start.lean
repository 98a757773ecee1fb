/-! the start: what the Statement gives of the machine, as the contracts want it -/
set_option maxRecDepth 100000
set_option linter.unusedVariables false
section ST
variable {s : State} {args : Array Value}
theorem ra_prim {t : FieldType} (ht : ∀ C, t ≠ .object C) (h : (Cond.arrayClass t).before args s = true) : ∃ cA, ArrOfT s cA t ∧ va_RA s cA t := by
  obtain ⟨c, k, comp, h1, h2, h3⟩ := Cond.arrayClass_spec h
  refine ⟨c, fun n z => ⟨(fun k h => by cases h), k, h2, comp, h3⟩, ?_⟩
  cases t <;> first | exact h1 | exact absurd rfl (ht _)
theorem ra_obj {C : String} (h : (Cond.arrayOver (.object C)).before args s = true) : ∃ cA, ArrOfT s cA (.object C) ∧ va_RA s cA (.object C) := by
  obtain ⟨comp, c, k, h1, h2, h3, h4, h5⟩ := Cond.arrayOver_spec h
  exact ⟨c, fun n z => ⟨(fun k h => by cases h), k, h3, comp, h4⟩, k, comp, h3, h4, h1, h5⟩
theorem ra_arr {t : FieldType} (h : (Cond.arrayOver (.array t)).before args s = true) : ∃ cA, ArrOfT s cA (.array t) ∧ va_RA s cA (.array t) := by
  obtain ⟨comp, c, k, h1, h2, h3, h4⟩ := Cond.arrayOver_specA h
  exact ⟨c, fun n z => ⟨(fun k h => by cases h), k, h2, comp, h3⟩, h4⟩
theorem pmkt_one : ∀ q ∈ pmkt, ∀ r ∈ pmkt, q.1 = r.1 → q = r := by decide +kernel
theorem kt_start (hts : ∀ w ∈ lw_tbl, w.before args s = true) : ∃ A : Nat → ClassId, ∀ (k : Nat) (ty : FieldType), (k, ty) ∈ pmkt → ArrOfT s (A k) ty ∧ va_RA s (A k) ty := by
  have hall : ∀ q ∈ pmkt, ∃ cA, ArrOfT s cA q.2 ∧ va_RA s cA q.2 := (List.forall_mem_cons.mpr ⟨ra_prim (fun C h => by cases h) (hts _ (lw_all_tbl q163)), (List.forall_mem_cons.mpr ⟨ra_prim (fun C h => by cases h) (hts _ (lw_all_tbl q164)), (List.forall_mem_cons.mpr ⟨ra_prim (fun C h => by cases h) (hts _ (lw_all_tbl q165)), (List.forall_mem_cons.mpr ⟨ra_prim (fun C h => by cases h) (hts _ (lw_all_tbl q2024)), (List.forall_mem_cons.mpr ⟨ra_prim (fun C h => by cases h) (hts _ (lw_all_tbl q1709)), (List.forall_mem_cons.mpr ⟨ra_obj (hts _ (q323)), (List.forall_mem_cons.mpr ⟨ra_arr (hts _ (q396)), (List.forall_mem_cons.mpr ⟨ra_obj (hts _ (q478)), (List.forall_mem_cons.mpr ⟨ra_obj (hts _ (q433)), (List.forall_mem_cons.mpr ⟨ra_obj (hts _ (q448)), (List.forall_mem_cons.mpr ⟨ra_obj (hts _ (q480)), (List.forall_mem_cons.mpr ⟨ra_obj (hts _ (q144)), (List.forall_mem_cons.mpr ⟨ra_arr (hts _ (q152)), (List.forall_mem_cons.mpr ⟨ra_arr (hts _ (q154)), (List.forall_mem_cons.mpr ⟨ra_obj (hts _ (q1681)), (List.forall_mem_cons.mpr ⟨ra_arr (hts _ (q1743)), (List.forall_mem_cons.mpr ⟨ra_obj (hts _ (q1675)), (List.forall_mem_cons.mpr ⟨ra_arr (hts _ (q1677)), (List.forall_mem_nil _)⟩)⟩)⟩)⟩)⟩)⟩)⟩)⟩)⟩)⟩)⟩)⟩)⟩)⟩)⟩)⟩)⟩)⟩)
  have hf : ∀ k : Nat, ∃ cA : ClassId, ∀ ty : FieldType, (k, ty) ∈ pmkt → ArrOfT s cA ty ∧ va_RA s cA ty := by
    intro k
    by_cases h : ∃ ty, (k, ty) ∈ pmkt
    · obtain ⟨ty, hk⟩ := h
      obtain ⟨cA, hc⟩ := hall _ hk
      refine ⟨cA, fun ty' hk' => ?_⟩
      have e := pmkt_one _ hk _ hk' rfl
      cases e
      exact hc
    · exact ⟨0, fun ty hk => absurd ⟨ty, hk⟩ h⟩
  exact Classical.axiomOfChoice hf
theorem kn_one' (hts : ∀ w ∈ lw_all, w.before args s = true) {C : String} {T : u_T} {N n : Nat} (hin : ∀ w ∈ u_ws C T N, w ∈ lw_all) (hi : (Cond.instantiable C n).before args s = true) : ∃ x : ClassId × (Nat → Nat), u_Kn s C T N x.1 x.2 := by
  obtain ⟨c, i, h⟩ := u_known hts hin hi
  exact ⟨(c, i), h⟩
theorem cl_start (hts : ∀ w ∈ lw_tbl, w.before args s = true) : ∃ x : Nat → ClassId × (Nat → Nat), ∀ (k : Nat) (q : vw_C), pmcl[k]? = some q → u_Kn s q.1 q.2.1 q.2.2 (x k).1 (x k).2 := by
  have ha : ∀ w ∈ lw_all, w.before args s = true := fun w h => hts w (lw_all_tbl h)
  have kn_one : ∀ {C : String} {T : u_T} {N n : Nat}, (∀ w ∈ u_ws C T N, w ∈ lw_all) → (Cond.instantiable C n).before args s = true → ∃ x : ClassId × (Nat → Nat), u_Kn s C T N x.1 x.2 := fun hin hi => kn_one' ha hin hi
  have hall : ∀ q ∈ pmcl, ∃ x : ClassId × (Nat → Nat), u_Kn s q.1 q.2.1 q.2.2 x.1 x.2 := (List.forall_mem_cons.mpr ⟨kn_one in_X0 (hts _ (lw_all_tbl q136)), (List.forall_mem_cons.mpr ⟨kn_one in_X1 (hts _ (lw_all_tbl q146)), (List.forall_mem_cons.mpr ⟨kn_one in_X2 (hts _ (lw_all_tbl q167)), (List.forall_mem_cons.mpr ⟨kn_one in_X3 (hts _ (lw_all_tbl q173)), (List.forall_mem_cons.mpr ⟨kn_one in_X4 (hts _ (lw_all_tbl q224)), (List.forall_mem_cons.mpr ⟨kn_one in_X5 (hts _ (lw_all_tbl q230)), (List.forall_mem_cons.mpr ⟨kn_one in_X6 (hts _ (lw_all_tbl q246)), (List.forall_mem_cons.mpr ⟨kn_one in_X7 (hts _ (lw_all_tbl q316)), (List.forall_mem_cons.mpr ⟨kn_one in_X8 (hts _ (lw_all_tbl q390)), (List.forall_mem_cons.mpr ⟨kn_one in_X9 (hts _ (lw_all_tbl q435)), (List.forall_mem_cons.mpr ⟨kn_one in_X10 (hts _ (lw_all_tbl q450)), (List.forall_mem_cons.mpr ⟨kn_one in_X11 (hts _ (lw_all_tbl q458)), (List.forall_mem_cons.mpr ⟨kn_one in_X12 (hts _ (lw_all_tbl q466)), (List.forall_mem_cons.mpr ⟨kn_one in_X13 (hts _ (lw_all_tbl q481)), (List.forall_mem_cons.mpr ⟨kn_one in_X14 (hts _ (lw_all_tbl q509)), (List.forall_mem_cons.mpr ⟨kn_one in_X15 (hts _ (lw_all_tbl q592)), (List.forall_mem_cons.mpr ⟨kn_one in_X16 (hts _ (lw_all_tbl q1647)), (List.forall_mem_cons.mpr ⟨kn_one in_X17 (hts _ (lw_all_tbl q1653)), (List.forall_mem_cons.mpr ⟨kn_one in_X18 (hts _ (lw_all_tbl q1682)), (List.forall_mem_cons.mpr ⟨kn_one in_X19 (hts _ (lw_all_tbl q1711)), (List.forall_mem_nil _)⟩)⟩)⟩)⟩)⟩)⟩)⟩)⟩)⟩)⟩)⟩)⟩)⟩)⟩)⟩)⟩)⟩)⟩)⟩)⟩)
  have hf : ∀ k : Nat, ∃ x : ClassId × (Nat → Nat), ∀ q : vw_C, pmcl[k]? = some q → u_Kn s q.1 q.2.1 q.2.2 x.1 x.2 := by
    intro k
    cases h : pmcl[k]? with
    | none => exact ⟨(0, fun _ => 0), fun q hq => by cases hq⟩
    | some q =>
      obtain ⟨x, hx⟩ := hall q (List.mem_of_getElem? h)
      exact ⟨x, fun q' hq' => by cases hq'; exact hx⟩
  exact Classical.axiomOfChoice hf
theorem nw_start (hts : ∀ w ∈ lw_tbl, w.before args s = true) : ∀ w ∈ pmNW, nwk w = true ∧ va_Nw w s := (List.forall_mem_cons.mpr ⟨⟨rfl, va_Nw.of rfl (hts _ q156)⟩, (List.forall_mem_cons.mpr ⟨⟨rfl, va_Nw.of rfl (hts _ q179)⟩, (List.forall_mem_cons.mpr ⟨⟨rfl, va_Nw.of rfl (hts _ q180)⟩, (List.forall_mem_cons.mpr ⟨⟨rfl, va_Nw.of rfl (hts _ q181)⟩, (List.forall_mem_cons.mpr ⟨⟨rfl, va_Nw.of rfl (hts _ q182)⟩, (List.forall_mem_cons.mpr ⟨⟨rfl, va_Nw.of rfl (hts _ q183)⟩, (List.forall_mem_cons.mpr ⟨⟨rfl, va_Nw.of rfl (hts _ q184)⟩, (List.forall_mem_cons.mpr ⟨⟨rfl, va_Nw.of rfl (hts _ q186)⟩, (List.forall_mem_cons.mpr ⟨⟨rfl, va_Nw.of rfl (hts _ q187)⟩, (List.forall_mem_cons.mpr ⟨⟨rfl, va_Nw.of rfl (hts _ q188)⟩, (List.forall_mem_cons.mpr ⟨⟨rfl, va_Nw.of rfl (hts _ q189)⟩, (List.forall_mem_cons.mpr ⟨⟨rfl, va_Nw.of rfl (hts _ q191)⟩, (List.forall_mem_cons.mpr ⟨⟨rfl, va_Nw.of rfl (hts _ q192)⟩, (List.forall_mem_cons.mpr ⟨⟨rfl, va_Nw.of rfl (hts _ q193)⟩, (List.forall_mem_cons.mpr ⟨⟨rfl, va_Nw.of rfl (hts _ q194)⟩, (List.forall_mem_cons.mpr ⟨⟨rfl, va_Nw.of rfl (hts _ q195)⟩, (List.forall_mem_cons.mpr ⟨⟨rfl, va_Nw.of rfl (hts _ q196)⟩, (List.forall_mem_cons.mpr ⟨⟨rfl, va_Nw.of rfl (hts _ q231)⟩, (List.forall_mem_cons.mpr ⟨⟨rfl, va_Nw.of rfl (hts _ q239)⟩, (List.forall_mem_cons.mpr ⟨⟨rfl, va_Nw.of rfl (hts _ q260)⟩, (List.forall_mem_cons.mpr ⟨⟨rfl, va_Nw.of rfl (hts _ q261)⟩, (List.forall_mem_cons.mpr ⟨⟨rfl, va_Nw.of rfl (hts _ q262)⟩, (List.forall_mem_cons.mpr ⟨⟨rfl, va_Nw.of rfl (hts _ q264)⟩, (List.forall_mem_cons.mpr ⟨⟨rfl, va_Nw.of rfl (hts _ q265)⟩, (List.forall_mem_cons.mpr ⟨⟨rfl, va_Nw.of rfl (hts _ q266)⟩, (List.forall_mem_cons.mpr ⟨⟨rfl, va_Nw.of rfl (hts _ q323)⟩, (List.forall_mem_cons.mpr ⟨⟨rfl, va_Nw.of rfl (hts _ q340)⟩, (List.forall_mem_cons.mpr ⟨⟨rfl, va_Nw.of rfl (hts _ q342)⟩, (List.forall_mem_cons.mpr ⟨⟨rfl, va_Nw.of rfl (hts _ q477)⟩, (List.forall_mem_cons.mpr ⟨⟨rfl, va_Nw.of rfl (hts _ q482)⟩, (List.forall_mem_cons.mpr ⟨⟨rfl, va_Nw.of rfl (hts _ q493)⟩, (List.forall_mem_cons.mpr ⟨⟨rfl, va_Nw.of rfl (hts _ q497)⟩, (List.forall_mem_cons.mpr ⟨⟨rfl, va_Nw.of rfl (hts _ q510)⟩, (List.forall_mem_cons.mpr ⟨⟨rfl, va_Nw.of rfl (hts _ q576)⟩, (List.forall_mem_cons.mpr ⟨⟨rfl, va_Nw.of rfl (hts _ q597)⟩, (List.forall_mem_cons.mpr ⟨⟨rfl, va_Nw.of rfl (hts _ q598)⟩, (List.forall_mem_cons.mpr ⟨⟨rfl, va_Nw.of rfl (hts _ q599)⟩, (List.forall_mem_cons.mpr ⟨⟨rfl, va_Nw.of rfl (hts _ q1346)⟩, (List.forall_mem_cons.mpr ⟨⟨rfl, va_Nw.of rfl (hts _ q1659)⟩, (List.forall_mem_cons.mpr ⟨⟨rfl, va_Nw.of rfl (hts _ q1660)⟩, (List.forall_mem_cons.mpr ⟨⟨rfl, va_Nw.of rfl (hts _ q1662)⟩, (List.forall_mem_cons.mpr ⟨⟨rfl, va_Nw.of rfl (hts _ q1663)⟩, (List.forall_mem_cons.mpr ⟨⟨rfl, va_Nw.of rfl (hts _ q1664)⟩, (List.forall_mem_cons.mpr ⟨⟨rfl, va_Nw.of rfl (hts _ q1666)⟩, (List.forall_mem_cons.mpr ⟨⟨rfl, va_Nw.of rfl (hts _ q1675)⟩, (List.forall_mem_cons.mpr ⟨⟨rfl, va_Nw.of rfl (hts _ q1681)⟩, (List.forall_mem_cons.mpr ⟨⟨rfl, va_Nw.of rfl (hts _ q1683)⟩, (List.forall_mem_cons.mpr ⟨⟨rfl, va_Nw.of rfl (hts _ q1687)⟩, (List.forall_mem_cons.mpr ⟨⟨rfl, va_Nw.of rfl (hts _ q1689)⟩, (List.forall_mem_cons.mpr ⟨⟨rfl, va_Nw.of rfl (hts _ q1690)⟩, (List.forall_mem_cons.mpr ⟨⟨rfl, va_Nw.of rfl (hts _ q1692)⟩, (List.forall_mem_cons.mpr ⟨⟨rfl, va_Nw.of rfl (hts _ q1693)⟩, (List.forall_mem_cons.mpr ⟨⟨rfl, va_Nw.of rfl (hts _ q1695)⟩, (List.forall_mem_cons.mpr ⟨⟨rfl, va_Nw.of rfl (hts _ q1696)⟩, (List.forall_mem_cons.mpr ⟨⟨rfl, va_Nw.of rfl (hts _ q1698)⟩, (List.forall_mem_cons.mpr ⟨⟨rfl, va_Nw.of rfl (hts _ q1699)⟩, (List.forall_mem_cons.mpr ⟨⟨rfl, va_Nw.of rfl (hts _ q1716)⟩, (List.forall_mem_cons.mpr ⟨⟨rfl, va_Nw.of rfl (hts _ q1719)⟩, (List.forall_mem_cons.mpr ⟨⟨rfl, va_Nw.of rfl (hts _ q1722)⟩, (List.forall_mem_cons.mpr ⟨⟨rfl, va_Nw.of rfl (hts _ q1724)⟩, (List.forall_mem_cons.mpr ⟨⟨rfl, va_Nw.of rfl (hts _ q2162)⟩, (List.forall_mem_cons.mpr ⟨⟨rfl, va_Nw.of rfl (hts _ q2189)⟩, (List.forall_mem_cons.mpr ⟨⟨rfl, va_Nw.of rfl (hts _ q2210)⟩, (List.forall_mem_cons.mpr ⟨⟨rfl, va_Nw.of rfl (hts _ q2291)⟩, (List.forall_mem_nil _)⟩)⟩)⟩)⟩)⟩)⟩)⟩)⟩)⟩)⟩)⟩)⟩)⟩)⟩)⟩)⟩)⟩)⟩)⟩)⟩)⟩)⟩)⟩)⟩)⟩)⟩)⟩)⟩)⟩)⟩)⟩)⟩)⟩)⟩)⟩)⟩)⟩)⟩)⟩)⟩)⟩)⟩)⟩)⟩)⟩)⟩)⟩)⟩)⟩)⟩)⟩)⟩)⟩)⟩)⟩)⟩)⟩)⟩)⟩)⟩)⟩)⟩)⟩)⟩)
theorem nx_start (hts : ∀ w ∈ lw_tbl, w.before args s = true) : ∀ w ∈ xxN, nwk w = true ∧ va_Nw w s := (List.forall_mem_cons.mpr ⟨⟨rfl, va_AO.of (hts _ q144)⟩, (List.forall_mem_cons.mpr ⟨⟨rfl, va_Nw.of rfl (hts _ q168)⟩, (List.forall_mem_cons.mpr ⟨⟨rfl, va_Nw.of rfl (hts _ q236)⟩, (List.forall_mem_cons.mpr ⟨⟨rfl, va_Nw.of rfl (hts _ q238)⟩, (List.forall_mem_cons.mpr ⟨⟨rfl, va_Nw.of rfl (hts _ q282)⟩, (List.forall_mem_cons.mpr ⟨⟨rfl, va_Nw.of rfl (hts _ q344)⟩, (List.forall_mem_cons.mpr ⟨⟨rfl, va_Nw.of rfl (hts _ q346)⟩, (List.forall_mem_cons.mpr ⟨⟨rfl, va_AO.of (hts _ q433)⟩, (List.forall_mem_cons.mpr ⟨⟨rfl, va_AO.of (hts _ q448)⟩, (List.forall_mem_cons.mpr ⟨⟨rfl, va_AO.of (hts _ q478)⟩, (List.forall_mem_cons.mpr ⟨⟨rfl, va_AO.of (hts _ q480)⟩, (List.forall_mem_cons.mpr ⟨⟨rfl, va_Nw.of rfl (hts _ q489)⟩, (List.forall_mem_cons.mpr ⟨⟨rfl, va_Nw.of rfl (hts _ q491)⟩, (List.forall_mem_cons.mpr ⟨⟨rfl, va_Nw.of rfl (hts _ q495)⟩, (List.forall_mem_cons.mpr ⟨⟨rfl, va_Nw.of rfl (hts _ q593)⟩, (List.forall_mem_nil _)⟩)⟩)⟩)⟩)⟩)⟩)⟩)⟩)⟩)⟩)⟩)⟩)⟩)⟩)⟩)
theorem xw_start (hts : ∀ w ∈ lw_tbl, w.before args s = true) : ∀ w ∈ xxW, xnw w ∧ va_Nw w s := (List.forall_mem_cons.mpr ⟨⟨Or.inr ⟨_, rfl⟩, va_Nw.of rfl (hts _ (q755))⟩, (List.forall_mem_cons.mpr ⟨⟨Or.inr ⟨_, rfl⟩, va_Nw.of rfl (hts _ (q512))⟩, (List.forall_mem_cons.mpr ⟨⟨Or.inr ⟨_, rfl⟩, va_Nw.of rfl (hts _ (q514))⟩, (List.forall_mem_cons.mpr ⟨⟨Or.inr ⟨_, rfl⟩, va_Nw.of rfl (hts _ (q516))⟩, (List.forall_mem_cons.mpr ⟨⟨Or.inl rfl, va_Nw.of rfl (hts _ (q753))⟩, (List.forall_mem_cons.mpr ⟨⟨Or.inl rfl, va_Nw.of rfl (hts _ (q897))⟩, (List.forall_mem_cons.mpr ⟨⟨Or.inl rfl, va_Nw.of rfl (hts _ (q1068))⟩, (List.forall_mem_cons.mpr ⟨⟨Or.inl rfl, va_Nw.of rfl (hts _ (q814))⟩, (List.forall_mem_cons.mpr ⟨⟨Or.inl rfl, va_Nw.of rfl (hts _ (q843))⟩, (List.forall_mem_cons.mpr ⟨⟨Or.inr ⟨_, rfl⟩, va_Nw.of rfl (hts _ (q511))⟩, (List.forall_mem_cons.mpr ⟨⟨Or.inr ⟨_, rfl⟩, va_Nw.of rfl (hts _ (q513))⟩, (List.forall_mem_cons.mpr ⟨⟨Or.inr ⟨_, rfl⟩, va_Nw.of rfl (hts _ (q515))⟩, (List.forall_mem_cons.mpr ⟨⟨Or.inl rfl, va_Nw.of rfl (hts _ (q841))⟩, (List.forall_mem_cons.mpr ⟨⟨Or.inl rfl, va_Nw.of rfl (hts _ (q2486))⟩, (List.forall_mem_cons.mpr ⟨⟨Or.inl rfl, va_Nw.of rfl (hts _ (q2487))⟩, (List.forall_mem_cons.mpr ⟨⟨Or.inl rfl, va_Nw.of rfl (hts _ (q2485))⟩, (List.forall_mem_cons.mpr ⟨⟨Or.inl rfl, va_Nw.of rfl (hts _ (q863))⟩, (List.forall_mem_cons.mpr ⟨⟨Or.inl rfl, va_Nw.of rfl (hts _ (q854))⟩, (List.forall_mem_cons.mpr ⟨⟨Or.inl rfl, va_Nw.of rfl (hts _ (q878))⟩, (List.forall_mem_cons.mpr ⟨⟨Or.inl rfl, va_Nw.of rfl (hts _ (q848))⟩, (List.forall_mem_cons.mpr ⟨⟨Or.inl rfl, va_Nw.of rfl (hts _ (q866))⟩, (List.forall_mem_cons.mpr ⟨⟨Or.inl rfl, va_Nw.of rfl (hts _ (q872))⟩, (List.forall_mem_cons.mpr ⟨⟨Or.inl rfl, va_Nw.of rfl (hts _ (q857))⟩, (List.forall_mem_cons.mpr ⟨⟨Or.inl rfl, va_Nw.of rfl (hts _ (q1135))⟩, (List.forall_mem_cons.mpr ⟨⟨Or.inl rfl, va_Nw.of rfl (hts _ (q1199))⟩, (List.forall_mem_cons.mpr ⟨⟨Or.inl rfl, va_Nw.of rfl (hts _ (q1122))⟩, (List.forall_mem_cons.mpr ⟨⟨Or.inl rfl, va_Nw.of rfl (hts _ (q1192))⟩, (List.forall_mem_cons.mpr ⟨⟨Or.inl rfl, va_Nw.of rfl (hts _ (q1139))⟩, (List.forall_mem_cons.mpr ⟨⟨Or.inl rfl, va_Nw.of rfl (hts _ (q1206))⟩, (List.forall_mem_cons.mpr ⟨⟨Or.inl rfl, va_Nw.of rfl (hts _ (q1095))⟩, (List.forall_mem_cons.mpr ⟨⟨Or.inl rfl, va_Nw.of rfl (hts _ (q1184))⟩, (List.forall_mem_cons.mpr ⟨⟨Or.inl rfl, va_Nw.of rfl (hts _ (q510))⟩, (List.forall_mem_cons.mpr ⟨⟨Or.inl rfl, va_Nw.of rfl (hts _ (q2484))⟩, (List.forall_mem_nil _)⟩)⟩)⟩)⟩)⟩)⟩)⟩)⟩)⟩)⟩)⟩)⟩)⟩)⟩)⟩)⟩)⟩)⟩)⟩)⟩)⟩)⟩)⟩)⟩)⟩)⟩)⟩)⟩)⟩)⟩)⟩)⟩)⟩)
theorem xc_in : ∀ q ∈ xxC, Cond.not (.castable q.1 q.2) ∈ flatC (Jvm.Cond.and given_1 narrow_1) := by decide +kernel
theorem xc_start (hg : (Jvm.Cond.and given_1 narrow_1).before args s = true) : ∀ q ∈ xxC, va_Nc q.1 q.2 s := fun q hq => va_Nc.of (flat_of_before _ hg _ (xc_in q hq))
theorem xf_start (hts : ∀ w ∈ lw_tbl, w.before args s = true) : ∀ q ∈ xxF, (q.2.1.cls ≠ "java/lang/invoke/MethodHandle" ∧ q.2.1.cls ≠ "java/lang/invoke/VarHandle") ∧ va_Fw q.1 q.2.1 q.2.2 s := (List.forall_mem_cons.mpr ⟨⟨by decide, va_Fw.of (hts _ (q847)) (hts _ (q846)) (hts _ (q870)) (hts _ (q868)) (hts _ (q866))⟩, (List.forall_mem_cons.mpr ⟨⟨by decide, va_Fw.of (hts _ (q847)) (hts _ (q846)) (hts _ (q852)) (hts _ (q865)) (hts _ (q863))⟩, (List.forall_mem_cons.mpr ⟨⟨by decide, va_Fw.of (hts _ (q847)) (hts _ (q846)) (hts _ (q852)) (hts _ (q856)) (hts _ (q854))⟩, (List.forall_mem_cons.mpr ⟨⟨by decide, va_Fw.of (hts _ (q847)) (hts _ (q846)) (hts _ (q852)) (hts _ (q880)) (hts _ (q878))⟩, (List.forall_mem_cons.mpr ⟨⟨by decide, va_Fw.of (hts _ (q847)) (hts _ (q846)) (hts _ (q852)) (hts _ (q850)) (hts _ (q848))⟩, (List.forall_mem_cons.mpr ⟨⟨by decide, va_Fw.of (hts _ (q847)) (hts _ (q846)) (hts _ (q876)) (hts _ (q874)) (hts _ (q872))⟩, (List.forall_mem_cons.mpr ⟨⟨by decide, va_Fw.of (hts _ (q847)) (hts _ (q846)) (hts _ (q861)) (hts _ (q859)) (hts _ (q857))⟩, (List.forall_mem_cons.mpr ⟨⟨by decide, va_Fw.of (hts _ (q1094)) (hts _ (q1093)) (hts _ (q1138)) (hts _ (q1137)) (hts _ (q1135))⟩, (List.forall_mem_cons.mpr ⟨⟨by decide, va_Fw.of (hts _ (q1094)) (hts _ (q1093)) (hts _ (q1126)) (hts _ (q1124)) (hts _ (q1122))⟩, (List.forall_mem_cons.mpr ⟨⟨by decide, va_Fw.of (hts _ (q1094)) (hts _ (q1093)) (hts _ (q1143)) (hts _ (q1141)) (hts _ (q1139))⟩, (List.forall_mem_cons.mpr ⟨⟨by decide, va_Fw.of (hts _ (q1094)) (hts _ (q1093)) (hts _ (q1099)) (hts _ (q1097)) (hts _ (q1095))⟩, (List.forall_mem_cons.mpr ⟨⟨by decide, va_Fw.of (hts _ (q1183)) (hts _ (q1182)) (hts _ (q1203)) (hts _ (q1201)) (hts _ (q1199))⟩, (List.forall_mem_cons.mpr ⟨⟨by decide, va_Fw.of (hts _ (q1183)) (hts _ (q1182)) (hts _ (q1196)) (hts _ (q1194)) (hts _ (q1192))⟩, (List.forall_mem_cons.mpr ⟨⟨by decide, va_Fw.of (hts _ (q1183)) (hts _ (q1182)) (hts _ (q1210)) (hts _ (q1208)) (hts _ (q1206))⟩, (List.forall_mem_cons.mpr ⟨⟨by decide, va_Fw.of (hts _ (q1183)) (hts _ (q1182)) (hts _ (q1188)) (hts _ (q1186)) (hts _ (q1184))⟩, (List.forall_mem_nil _)⟩)⟩)⟩)⟩)⟩)⟩)⟩)⟩)⟩)⟩)⟩)⟩)⟩)⟩)⟩)
theorem xa_start (hts : ∀ w ∈ lw_tbl, w.before args s = true) : ∀ t ∈ xxA, xAA t s := (List.forall_mem_cons.mpr ⟨(hts _ (q154)), (List.forall_mem_cons.mpr ⟨(hts _ (q152)), (List.forall_mem_cons.mpr ⟨(hts _ (q396)), (List.forall_mem_cons.mpr ⟨(hts _ (q1743)), (List.forall_mem_cons.mpr ⟨(hts _ (q1677)), (List.forall_mem_nil _)⟩)⟩)⟩)⟩)⟩)
theorem xm_start (hm : modulesRight_1 s = true) : xMod s := by
  intro m hm1
  have h := Array.all_eq_true'.mp hm m (by simpa using hm1)
  simp only [Bool.or_eq_true, beq_iff_eq, Bool.not_eq_true', or_assoc] at h
  rcases h with h | h | h
  · exact Or.inl h
  · exact Or.inr (Or.inl h)
  · refine Or.inr (Or.inr ?_)
    simp only [castPackages_1, List.any_cons, List.any_nil, Array.any_eq_true, Bool.or_eq_false_iff] at h
    first | exact h.1 | (simp at h; tauto)
def stT (k : Nat) : Term := .string (strOw.getD k ("", 0, "")).1 (strOw.getD k ("", 0, "")).2.1
theorem st_ex : ∀ k, k < 10 → Cond.exactly (stT k) "java/lang/String" ∈ flatC (Jvm.Cond.and given_1 narrow_1) := by decide +kernel
theorem st_co : ∀ k, k < 10 → Cond.eq (.field (stT k) "java/lang/String" "coder" "B") (.int 0) ∈ flatC (Jvm.Cond.and given_1 narrow_1) := by decide +kernel
theorem st_ar : ∀ k, k < 10 → Cond.arrayOf (.field (stT k) "java/lang/String" "value" "[B") .byte ∈ flatC (Jvm.Cond.and given_1 narrow_1) := by decide +kernel
theorem st_le : ∀ k, k < 10 → Cond.eq (.length (.field (stT k) "java/lang/String" "value" "[B")) (.int (Int32.ofNat (strTx.getD k []).length)) ∈ flatC (Jvm.Cond.and given_1 narrow_1) := by decide +kernel
theorem st_el : ∀ k, k < 10 → ∀ j, j < (strTx.getD k []).length → Cond.eq (.elem (.field (stT k) "java/lang/String" "value" "[B") (.int (Int32.ofNat j))) (.int (Int32.ofInt ((strTx.getD k []).getD j 0))) ∈ flatC (Jvm.Cond.and given_1 narrow_1) := by decide +kernel
theorem st_rf (hts : ∀ w ∈ lw_tbl, w.before args s = true) : ∀ k, k < 10 → (Cond.stringRef (strOw.getD k ("", 0, "")).1 (strOw.getD k ("", 0, "")).2.1 (strOw.getD k ("", 0, "")).2.2).before args s = true := by
  intro k hk
  have h : k = 0 ∨ k = 1 ∨ k = 2 ∨ k = 3 ∨ k = 4 ∨ k = 5 ∨ k = 6 ∨ k = 7 ∨ k = 8 ∨ k = 9 := by omega
  rcases h with rfl | rfl | rfl | rfl | rfl | rfl | rfl | rfl | rfl | rfl
  · exact hts _ (q1205)
  · exact hts _ (q1198)
  · exact hts _ (q1212)
  · exact hts _ (q1191)
  · exact hts _ (q1190)
  · exact hts _ (q2250)
  · exact hts _ (q2249)
  · exact hts _ (q2248)
  · exact hts _ (q2247)
  · exact hts _ (q2246)
theorem xs_start (hts : ∀ w ∈ lw_tbl, w.before args s = true) (hg : (Jvm.Cond.and given_1 narrow_1).before args s = true) : ∃ Z : Nat → Nat, xS s.heap.size s.heap Z s := by
  have hf := flat_of_before _ hg
  have hA : ∀ a : Nat, a < s.heap.size → ¬ s.heap.size ≤ a := fun a h => by omega
  have h0 : ∀ k : Nat, ∃ q : Nat × Nat, k < 10 → (stT k).eval args s none [] s = some (.ref q.1) ∧ va_O "java/lang/String" q.1 (fun a => s.heap.size ≤ a) s s.heap ∧ va_OF "java/lang/String" "coder" "B" (.int 0) q.1 (fun a => s.heap.size ≤ a) s s.heap ∧ va_OF "java/lang/String" "value" "[B" (.ref q.2) q.1 (fun a => s.heap.size ≤ a) s s.heap ∧ va_T .byte q.2 (strTx.getD k []).length (fun j => .int (Int32.ofInt ((strTx.getD k []).getD j 0))) (fun a => s.heap.size ≤ a) s s.heap := by
    intro k
    by_cases hk : k < 10
    · obtain ⟨a, c, cA, kA, q1, q2, q3, q4, q5, q6, -⟩ := Cond.exactly_spec (args := args) (first := s) (o := none) (s := s) (idx := []) (t := stT k) (cls := "java/lang/String") (hf _ (st_ex k hk))
      obtain ⟨t, ht, hT⟩ := va_Tof (f := fun j => .int (Int32.ofInt ((strTx.getD k []).getD j 0))) (A := fun a => s.heap.size ≤ a) (by have := strZ_len k hk; omega) (hf _ (st_ar k hk)) (va_eqt (hf _ (st_le k hk))) (fun j hj => va_eqt (hf _ (st_el k hk j hj))) hA
      exact ⟨(a, t), fun _ => ⟨q1, ⟨cA, q3, q5, by rw [q6]; exact q2, hA a (Array.getElem?_eq_some_iff.mp q3).1⟩, vk_OFof q1 (va_eqt (hf _ (st_co k hk))) hA, vk_OFof q1 ht hA, hT⟩⟩
    · exact ⟨(0, 0), fun h => absurd h hk⟩
  obtain ⟨ad, had⟩ := Classical.axiomOfChoice h0
  refine ⟨fun j => if j < 10 then (ad j).1 else (ad (j - 10)).2, fun k hk => ?_, ?_, ?_⟩
  · obtain ⟨h1, h2, h3, h4, h5⟩ := had k hk
    have e1 : (if k < 10 then (ad k).1 else (ad (k - 10)).2) = (ad k).1 := if_pos hk
    have e2 : (if k + 10 < 10 then (ad (k + 10)).1 else (ad (k + 10 - 10)).2) = (ad k).2 := by rw [if_neg (by omega), Nat.add_sub_cancel]
    simp only [e1, e2]
    exact ⟨h2, h3, h4, h5, vk_R.of (st_rf hts k hk) h1⟩
  · exact va_Zof (hts _ (q1222)) (hts _ (lw_all_tbl q124)) (va_eqi (hf _ (by decide +kernel))) hA
  · exact va_Zqof (hts _ (q1238)) (hts _ (lw_all_tbl q133)) (hf _ (by decide +kernel)) hA
theorem xe_start (hts : ∀ w ∈ lw_tbl, w.before args s = true) (hg : (Jvm.Cond.and given_1 narrow_1).before args s = true) (hm : modulesRight_1 s = true) : ∃ Z : Nat → Nat, xE s.heap.size s.heap Z s := by
  have hf := flat_of_before _ hg
  have hA : ∀ a : Nat, a < s.heap.size → ¬ s.heap.size ≤ a := fun a h => by omega
  obtain ⟨Z, hZ⟩ := xs_start hts hg
  exact ⟨Z, ⟨xw_start hts, xc_start hg, xf_start hts, vy_Zqof (hts _ (q535)) (hts _ (lw_all_tbl q113)) (hf _ (by decide +kernel)) hA, vy_Zqof (hts _ (q537)) (hts _ (lw_all_tbl q113)) (hf _ (by decide +kernel)) hA⟩, xm_start hm, xa_start hts, nx_start hts, hZ⟩
end ST
/-- the law's walk, from its entry -/
theorem whole_start {p : Program} {e : Env} {s : State} {m : MethodId} {below : List Frame} {meth : Method} {c : Code} (l : Launch) (hflags : l.flags = flags0) {b L : Nat} {xs : Nat → Int32} (hL : L ≤ 320) (C0 : lw_At p s m meth c b L xs) : W p l e room_1 s m #[Value.ref b] below meth c s.heap [] 0 0 (lw_Z below #[Value.ref b] s) (entryFrame m ([Value.ref b] : List Value).toArray 4) := by
  obtain ⟨hx, hb, hr, hml, hown, hts, hX, hbl, hlocks, hg, hmod⟩ := C0
  have hst : l.stackTraces = false := by unfold Launch.stackTraces; rw [hflags]; decide +kernel
  obtain ⟨x, hx1⟩ := cl_start hts
  obtain ⟨A, hA⟩ := kt_start hts
  obtain ⟨Z, hZ⟩ := xe_start hts hg hmod
  have F : pmF p s m #[Value.ref b] c (((fun k => (x k).1), (fun k => (x k).2)), A) 4 pmcl pmkt lw_all "IdealCourtLaw" code := ⟨⟨hx, hb, hml, hown, fun w h => hts w (lw_all_tbl h)⟩, hx1, hA⟩
  have X : pmN pmNW pmFW (xE s.heap.size s.heap Z) s.heap.size s := ⟨⟨nw_start hts, fun q hq => nomatch hq⟩, fun u V hW h => h.moved hW, hZ, Nat.le_refl _⟩
  have sim := law_sim (below := below) F X (fun U h => h) hst hX hbl (by omega) hr hlocks (Nat.le_refl _)
  have pure := lw_pure (b := b) (L := L) (xs := fun j => (xs j).toInt) (Z := Z) (E := fun o _ _ _ => o = .inl (some (.inl 1))) (B := (293576, 8190802)) (S := (fun _ => none, fun _ _ => none, s.heap.size)) (D := fun _ _ => 0) (fun j => inI_toInt _) (fun _ _ _ => rfl) hL ⟨by decide, by decide⟩
  have hl := lv_entry ([Value.ref b]) (n := 4) (by decide)
  rw [lg_entry_eq]
  refine sim [some (.inr (.inr (some b)))] [] (293576, 8190802) (fun _ => none, fun _ _ => none, s.heap.size) (fun _ _ => 0) pure s.heap [] _ 0 0 rfl rfl ⟨rfl, Nat.le_refl _, fun _ _ => rfl, fun a q h => by cases h⟩ (by simp) ⟨hl.1, hl.2.1, fun j v hj => ?_⟩ (by simp)
  cases j with
  | zero =>
    cases hj
    exact ⟨hl.2.2 (0, .ref b) (by simp [lv_args]), trivial⟩
  | succ j => cases hj
