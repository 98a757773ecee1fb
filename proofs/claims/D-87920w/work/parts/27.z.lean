/-! SIM: new objects and arrays; references into arrays -/
set_option maxRecDepth 100000
set_option linter.unusedVariables false
section SM
variable {p : Program} {l : Launch} {e : Env} {R : Room} {s : State} {m : MethodId} {args : Array Value} {below : List Frame} {meth : Method} {c : Code} {G : pmG} {lo : Nat} {H0 : Heap} {nL : Nat} {cl : List vw_C} {ft : Nat → Nat → Bool} {kt : List (Nat × FieldType)} {Ts : List Cond} {own : String} {cc : ByteArray} {Qf : State → Prop} {K J : Tm} {pc : Nat}
theorem pmR.push {S : Stat} {D : Dat} {H H1 : Heap} (hR : pmR G cl ft lo H0 S D H) (z1 : H1.size = H.size + 1) (o1 : ∀ q, q < H.size → H1[q]? = H[q]?) (t n : Nat) (hat : pmAt G cl ft (mkS S t n) (mkD S D) H1 S.2.2 (t, n)) : pmR G cl ft lo H0 (mkS S t n) (mkD S D) H1 := by
  obtain ⟨h1, h2, h3, h4⟩ := hR
  refine ⟨by rw [z1, h1]; rfl, by omega, fun a ha => by rw [o1 a (by omega)]; exact h3 a ha, fun a q hq => ?_⟩
  by_cases ha : a = S.2.2
  · subst ha
    simp only [mkS, if_true] at hq
    cases hq
    exact ⟨by omega, by omega, hat⟩
  · simp only [mkS, if_neg ha] at hq
    obtain ⟨g1, g2, g3⟩ := h4 a q hq
    refine ⟨g1, by omega, g3.kept (o1 a g2) (fun i => ?_) (fun i => ?_)⟩
    · simp only [mkD, if_neg ha]
    · simp only [mkS, if_neg ha]
theorem sm_new (F : pmF p s m args c G nL cl kt Ts own cc) {ci idx : Nat} {C : String} {T : u_T} {N : Nat} {ty : Nat → FieldType} (hC : pmC Ts cl ft ci C T N ty) (q1 : Cond.classLink own idx C ∈ Ts) (q2 : Cond.instantiable C N ∈ Ts) (q3 : Cond.initialized C ∈ Ts) (d : decode cc pc = .ok (.new idx, 3)) (h : pm_le K (pmV p l e R s m args below meth c G lo H0 nL cl ft Qf (pc + 3))) : pm_le (i_new K ci N) (pmV p l e R s m args below meth c G lo H0 nL cl ft Qf pc) := by
  intro ls st B S D k H locs la cells slots hc hs hR hL hl hv
  obtain ⟨b1, b2, rfl, k⟩ := k
  simp only at hc hs
  have hKn := F.2.1 ci _ hC.2.1
  refine W.newcK F.1.1 F.1.2.1 F.1.2.2.2.1 (F.1.2.2.2.2 _ q1) (F.1.2.2.2.2 _ q2) (F.1.2.2.2.2 _ q3) rfl d (by omega) (by omega) hKn.2.1 rfl fun H1 kC hkC e1 z1 o1 => ?_
  have hz : H.size = S.2.2 := hR.1
  have e1' := e1
  rw [hz] at e1'
  have hR1 : pmR G cl ft lo H0 (mkS S ci 0) (mkD S D) H1 := by
    refine hR.push z1 o1 ci 0 ⟨fun _ => ⟨_, hC.2.1, (u_born ty F.1.2.2.2.2 hC.2.2.1 hKn hkC e1' hC.2.2.2.1).to fun j hj => ?_, fun j hj => ?_, fun ce hce => ?_⟩, fun h100 => absurd hC.1 (by simp only at h100; omega)⟩
    · have h1 := hC.2.2.2.2.2 j hj
      unfold pmFv
      cases hf : ft ci j <;> rw [hf] at h1 <;> (cases ht : ty j <;> rw [ht] at h1 <;> simp [tyOK] at h1 <;> simp [mkS, mkD, va_rf, defaultValue])
    · simp only [mkD, if_true]; unfold inI; omega
    · cases Option.some.inj (hce.symm.trans e1')
      exact ⟨rfl, rfl⟩
  have hk := h _ _ _ _ _ k H1 locs la (cells + 1) (slots + N) (by simp only; omega) (by simp only; omega) hR1 hL hl (by simp only [List.forall_mem_cons]; exact ⟨trivial, hv⟩)
  rw [hz]
  exact hk
theorem inI_nat {n : Nat} (h : n < 60000000) : inI (n : Int) := by unfold inI; omega
theorem clampN {n : Nat} (h : n < 60000000) : (Int32.ofInt (n : Int)).toNatClampNeg = n := by
  unfold Int32.toNatClampNeg
  rw [t32 (inI_nat h)]; rfl
theorem sm_newa (F : pmF p s m args c G nL cl kt Ts own cc) {t : Nat} {atype : ArrayType} {ty : FieldType} (hty : newarray.typeOf atype = ty) (ht : (t < 104 ∧ defaultValue ty = .int 0) ∨ (t = 104 ∧ defaultValue ty = .long 0)) (ht0 : 100 ≤ t) (hb4 : componentBytes ty ≤ 8) (hp : ∀ C, ty ≠ .object C) (hkt : (t, ty) ∈ kt) (q1 : Cond.arrayClass ty ∈ Ts) (d : decode cc pc = .ok (.newarray atype, 2)) (h : pm_le K (pmV p l e R s m args below meth c G lo H0 nL cl ft Qf (pc + 2))) : pm_le (i_newa K t) (pmV p l e R s m args below meth c G lo H0 nL cl ft Qf pc) := by
  intro ls st B S D k H locs la cells slots hc hs hR hL hl hv
  subst hty
  unfold i_newa at k
  split at k
  · rename_i x r
    obtain ⟨b1, b2, n, rfl, hn, rfl, k⟩ := k
    simp only at hc hs
    have hcn := clampN hn
    refine W.newa F.1.1 F.1.2.1 (F.1.2.2.2.2 _ q1) rfl d rfl (fun q => by have := (z_lt (inI_nat hn)).mp q; omega) (by rw [hcn]; exact Nat.le_trans (Nat.mul_le_mul_left n hb4) (by omega)) (by omega) (by omega) fun cA kA comp f1 f2 f3 => ?_
    have hz : H.size = S.2.2 := hR.1
    have hcA : cA = G.2 t := by
      have h1 := (F.2.2 _ _ hkt).2
      unfold va_RA at h1
      split at h1
      · rename_i C hC; exact absurd hC (hp C)
      · exact Option.some.inj (f1.symm.trans h1)
    subst hcA
    have hR1 : pmR G cl ft lo H0 (mkS S t n) (mkD S D) (H.push { cls := G.2 t, slots := Array.replicate (Int32.ofInt (n : Int)).toNatClampNeg (defaultValue (newarray.typeOf atype)), vm := .none }) := by
      refine hR.push (by rw [Array.size_push]) (fun q hq => by rw [Array.getElem?_push, if_neg (Nat.ne_of_lt hq)]) t n ⟨fun h100 => absurd ht0 (by simp only at h100; omega), fun _ => ⟨?_, fun _ j hj => ?_, fun _ j hj => ?_⟩⟩
      · rw [← hz, Array.getElem?_push_size, hcn, arrV_new]
        congr 2
        funext j
        rcases ht with ⟨h1, h2⟩ | ⟨h1, h2⟩
        · rw [h2]; simp [pmAv, h1, mkD, hz]
        · rw [h2]; simp [pmAv, h1, mkD, hz]
      · simp only [mkD, if_true]; unfold inI; omega
      · simp only [mkD, if_true]; unfold inL; omega
    have hk := h _ _ _ _ _ k _ locs la (cells + 1) (slots + n) (by simp only; omega) (by simp only; omega) hR1 hL hl (by simp only [List.forall_mem_cons] at hv ⊢; exact ⟨trivial, hv.2⟩)
    rw [hz, show slots + (Int32.ofInt (n : Int)).toNatClampNeg = slots + n by rw [hcn]]
    exact hk
  · exact k.elim
theorem sm_newq (F : pmF p s m args c G nL cl kt Ts own cc) {t idx : Nat} {C : String} (ht0 : 104 < t) (hkt : (t, .object C) ∈ kt) (q1 : Cond.classLink own idx C ∈ Ts) (q2 : va_AO C s) (d : decode cc pc = .ok (.anewarray idx, 3)) (h : pm_le K (pmV p l e R s m args below meth c G lo H0 nL cl ft Qf (pc + 3))) : pm_le (i_newa K t) (pmV p l e R s m args below meth c G lo H0 nL cl ft Qf pc) := by
  intro ls st B S D k H locs la cells slots hc hs hR hL hl hv
  unfold i_newa at k
  split at k
  · rename_i x r
    obtain ⟨b1, b2, n, rfl, hn, rfl, k⟩ := k
    simp only at hc hs
    have hcn := clampN hn
    refine W.anew F.1.1 F.1.2.1 F.1.2.2.2.1 (F.1.2.2.2.2 _ q1) (va_AO.use q2) rfl d rfl (fun q => by have := (z_lt (inI_nat hn)).mp q; omega) (by rw [hcn]; omega) (by omega) (by omega) fun cA kA comp f1 f2 f3 f4 => ?_
    have hz : H.size = S.2.2 := hR.1
    have hcA : cA = G.2 t := by
      obtain ⟨kA', comp', g1, g2, g3, g4⟩ := (F.2.2 _ _ hkt).2
      exact Option.some.inj (f1.symm.trans g4)
    subst hcA
    have hR1 : pmR G cl ft lo H0 (mkS S t n) (mkD S D) (H.push { cls := G.2 t, slots := Array.replicate (Int32.ofInt (n : Int)).toNatClampNeg .null, vm := .none }) := by
      refine hR.push (by rw [Array.size_push]) (fun q hq => by rw [Array.getElem?_push, if_neg (Nat.ne_of_lt hq)]) t n ⟨fun h100 => absurd ht0 (by simp only at h100; omega), fun _ => ⟨?_, fun h1 => absurd h1 (by omega), fun h1 => absurd h1 (by omega)⟩⟩
      rw [← hz, Array.getElem?_push_size, hcn, arrV_new]
      congr 2
      funext j
      simp only [pmAv]
      rw [if_neg (by omega), if_neg (by omega)]
      simp [mkS, hz, va_rf]
    have hk := h _ _ _ _ _ k _ locs la (cells + 1) (slots + n) (by simp only; omega) (by simp only; omega) hR1 hL hl (by simp only [List.forall_mem_cons] at hv ⊢; exact ⟨trivial, hv.2⟩)
    rw [hz, show slots + (Int32.ofInt (n : Int)).toNatClampNeg = slots + n by rw [hcn]]
    exact hk
  · exact k.elim
/-- a reference into an array of that very class -/
theorem sm_stR (F : pmF p s m args c G nL cl kt Ts own cc) {t ci : Nat} {C : String} {T : u_T} {N : Nat} {ty : Nat → FieldType} (hC : pmC Ts cl ft ci C T N ty) (ht0 : 104 < t) (hkt : (t, .object C) ∈ kt) (d : decode cc pc = .ok (.aastore, 1)) (h : pm_le K (pmV p l e R s m args below meth c G lo H0 nL cl ft Qf (pc + 1))) : pm_le (i_stR K t [ci]) (pmV p l e R s m args below meth c G lo H0 nL cl ft Qf pc) := by
  intro ls st B S D k H locs la cells slots hc hs hR hL hl hv
  unfold i_stR at k
  split at k
  · rename_i v i a r
    obtain ⟨n, c1, m1, hS1, hSv, hcm, hi0, hi1, k⟩ := k
    simp only [List.mem_singleton] at hcm
    subst hcm
    simp only [List.forall_mem_cons] at hv
    obtain ⟨hlo, g1, g2, g3⟩ := hR.arr hS1 (by omega)
    have hcl := clampI hi0 hi1 hv.2.1
    obtain ⟨j, rfl⟩ := Int.eq_ofNat_of_zero_le hi0
    have hj : j < n := by omega
    have hjc : (Int32.ofInt (j : Int)).toNatClampNeg = j := by rw [hcl]; rfl
    obtain ⟨hlov, hltv, hO, -⟩ := hR.2.2.2 v _ hSv
    obtain ⟨r1, hr1, ⟨cell, p1, p2, p3, -⟩, -⟩ := hO hC.1
    have e1 := Option.some.inj (hr1.symm.trans hC.2.1)
    subst e1
    have hcls := (F.2.1 c1 _ hC.2.1).2
    obtain ⟨kA, comp, k1, k2, k3, -⟩ := (F.2.2 _ _ hkt).2
    have hcomp : comp = G.1.1 c1 := Option.some.inj (k3.symm.trans hcls.1)
    subst hcomp
    obtain ⟨kC, hkC, -⟩ := hcls.2
    refine W.aast F.1.1 F.1.2.1 g1 (fun q h => by cases h) (fun h => by cases h) k1 k2 rfl hkC ⟨fun q => absurd ((z_lt hv.2.1).mp q) (by omega), by rw [arrV_size, hjc]; exact hj⟩ p1 (fun q h => by rw [p3] at h; cases h) (by rw [p2]; exact hkC) (by rw [p2]; exact va_assign hcls) rfl rfl d fun H1 e1 e2 e3 => ?_
    rw [hjc] at e1 ⊢
    refine h _ _ _ _ _ k H1 _ la cells slots hc hs (hR.puta hS1 (by omega) hj e1 e2 e3 rfl rfl (fun b i hb => rfl) (fun b i hb => ?_) ?_ ⟨fun h1 => absurd h1 (by omega), fun h1 => absurd h1 (by omega)⟩) ?_ hl hv.2.2.2
    · simp only [setR, pmur, if_neg hb]
    · simp only [pmAv]
      rw [if_neg (by omega), if_neg (by omega)]
      simp [setR, pmur, va_rf]
    · intro q hq
      rcases List.mem_append.mp hq with g | g
      · exact hL q g
      · rw [List.mem_singleton.mp g]; exact hlo
  · exact k.elim
theorem sm_alen (F : pmF p s m args c G nL cl kt Ts own cc) {t : Nat} {ty : FieldType} (ht0 : 100 ≤ t) (hkt : (t, ty) ∈ kt) (d : decode cc pc = .ok (.arraylength, 1)) (h : pm_le K (pmV p l e R s m args below meth c G lo H0 nL cl ft Qf (pc + 1))) : pm_le (i_alen K t) (pmV p l e R s m args below meth c G lo H0 nL cl ft Qf pc) := by
  intro ls st B S D k H locs la cells slots hc hs hR hL hl hv
  unfold i_alen at k
  split at k
  · rename_i a r
    obtain ⟨n, hS1, hn, k⟩ := k
    obtain ⟨hlo, g1, g2, g3⟩ := hR.arr hS1 ht0
    refine W.alen (n := Int32.ofInt (n : Int)) F.1.1 F.1.2.1 g1 ((F.2.2 _ _ hkt).1 n _) (by rw [arrV_size]; rfl) rfl rfl d (h _ _ _ _ _ k H locs la cells slots hc hs hR hL hl (by simp only [List.forall_mem_cons] at hv ⊢; exact ⟨inI_nat hn, hv.2⟩))
  · exact k.elim
end SM
