/-! SIM: the String constants: their cells, the JDK's methods that read them -/
set_option maxRecDepth 100000
set_option linter.unusedVariables false
theorem strZ_in : ∀ k, k < 10 → ∀ x ∈ strTx.getD k [], 0 ≤ x ∧ x < 128 := by decide +kernel
theorem strZ_at {k j : Nat} (hk : k < 10) (hj : j < (strTx.getD k []).length) : 0 ≤ (strTx.getD k []).getD j 0 ∧ (strTx.getD k []).getD j 0 < 128 := by
  have h := strZ_in k hk ((strTx.getD k [])[j]) (List.getElem_mem hj)
  rw [List.getD_eq_getElem?_getD, List.getElem?_eq_getElem hj]
  exact h
theorem strZ_len : ∀ k, k < 10 → (strTx.getD k []).length < 20 := by decide +kernel
theorem c7_i2c : ∀ n : Nat, n < 128 → ((Int32.ofInt (n : Int)).toUInt32 % 65536).toInt32 = Int32.ofInt (n : Int) := by decide +kernel
theorem c7_char : ∀ n : Nat, n < 128 → narrow .char (.int (Int32.ofInt (n : Int))) = .int (Int32.ofInt (n : Int)) := by decide +kernel
theorem c7_byte : ∀ n : Nat, n < 128 → narrow .byte (.int (Int32.ofInt (n : Int))) = .int (Int32.ofInt (n : Int)) := by decide +kernel
theorem c7_and : ∀ n : Nat, n < 128 → andI (n : Int) 255 = (n : Int) := by decide +kernel
/-- what a String's cell is read for -/
def i_zcod (Z : Nat → Nat) (K : Tm) : Tm := fun ls st B S D => match st with
  | .inr (.inr (some a)) :: r => (∃ k, k < 10 ∧ a = Z k) ∧ K ls (.inl 0 :: r) B S D
  | _ => False
def i_zval (Z : Nat → Nat) (K : Tm) : Tm := fun ls st B S D => match st with
  | .inr (.inr (some a)) :: r => ∃ k, k < 10 ∧ a = Z k ∧ K ls (.inr (.inr (some (Z (k + 10)))) :: r) B S D
  | _ => False
def i_zlen (Z : Nat → Nat) (K : Tm) : Tm := fun ls st B S D => match st with
  | .inr (.inr (some a)) :: r => ∃ k, k < 10 ∧ a = Z (k + 10) ∧ K ls (.inl ((strTx.getD k []).length : Int) :: r) B S D
  | _ => False
def i_zald (Z : Nat → Nat) (K : Tm) : Tm := fun ls st B S D => match st with
  | .inl i :: .inr (.inr (some a)) :: r => ∃ k, k < 10 ∧ a = Z (k + 10) ∧ 0 ≤ i ∧ i < (strTx.getD k []).length ∧ K ls (.inl ((strTx.getD k []).getD i.toNat 0) :: r) B S D
  | _ => False
def i_recvZ (Z : Nat → Nat) (K : Tm) (n : Nat) : Tm := fun ls st B S D => (∃ k, k < 10 ∧ nthv st n = some (.inr (.inr (some (Z k))))) ∧ K ls st B S D
def i_anyR (K : Tm) : Tm := fun ls st B S D => ∀ x : Option Nat, K ls (.inr (.inr x) :: st) B S D
def i_i2c (K : Tm) : Tm := fun ls st B S D => match st with
  | .inl x :: r => 0 ≤ x ∧ x < 128 ∧ K ls (.inl x :: r) B S D
  | _ => False
/-- a byte's or a char's end -/
def i_cret (E : Ex) : Tm := fun _ st B S D => match st with
  | [.inl x] => 0 ≤ x ∧ x < 128 ∧ E (.inl (some (.inl x))) B S D
  | _ => False
section SM
variable {p : Program} {l : Launch} {e : Env} {R : Room} {s : State} {m : MethodId} {args : Array Value} {below : List Frame} {meth : Method} {c : Code} {G : pmG} {lo : Nat} {H0 : Heap} {nL : Nat} {cl : List vw_C} {ft : Nat → Nat → Bool} {kt : List (Nat × FieldType)} {NW : List Cond} {FW : List (String × MethodName × MethodName)} {XE : State → Prop} {XN : String} {Ts : List Cond} {own : String} {cc : ByteArray} {Qf : State → Prop} {K J Hn : Tm} {pc : Nat} {Z : Nat → Nat}
theorem sx_no : pm_le i_none (pmV p l e R s m args below meth c G lo H0 nL cl ft Qf pc) := fun _ _ _ _ _ h => h.elim
theorem sm_zcod (F : pmF p s m args c G nL cl kt Ts own cc) (hz : xS lo H0 Z s) {index : Nat} (q : Cond.fieldLink own index "java/lang/String" "coder" "B" ∈ Ts) (d : decode cc pc = .ok (.getfield index, 3)) (h : pm_le K (pmV p l e R s m args below meth c G lo H0 nL cl ft Qf (pc + 3))) : pm_le (i_zcod Z K) (pmV p l e R s m args below meth c G lo H0 nL cl ft Qf pc) := by
  intro ls st B S D k H locs la cells slots hc hs hR hL hl hv
  unfold i_zcod at k
  split at k
  · rename_i a r
    obtain ⟨⟨j, hj, rfl⟩, k⟩ := k
    obtain ⟨cf, kf, i, f, cell, h1, h2, h3, h4, h5, h6⟩ := (hz.1 j hj).2.1
    simp only [List.forall_mem_cons] at hv
    exact W.getf F.1.1 F.1.2.1 F.1.2.2.2.1 (F.1.2.2.2.2 _ q) h1 h2 ((hR.2.2.1 _ (Nat.not_le.mp h6)).trans h3) h4 (v := .int 0) h5 rfl rfl d (h _ _ _ _ _ k H locs la cells slots hc hs hR hL hl (by simp only [List.forall_mem_cons]; exact ⟨by unfold okv inI; omega, hv.2⟩))
  · exact k.elim
theorem sm_zval (F : pmF p s m args c G nL cl kt Ts own cc) (hz : xS lo H0 Z s) {index : Nat} (q : Cond.fieldLink own index "java/lang/String" "value" "[B" ∈ Ts) (d : decode cc pc = .ok (.getfield index, 3)) (h : pm_le K (pmV p l e R s m args below meth c G lo H0 nL cl ft Qf (pc + 3))) : pm_le (i_zval Z K) (pmV p l e R s m args below meth c G lo H0 nL cl ft Qf pc) := by
  intro ls st B S D k H locs la cells slots hc hs hR hL hl hv
  unfold i_zval at k
  split at k
  · rename_i a r
    obtain ⟨j, hj, rfl, k⟩ := k
    obtain ⟨cf, kf, i, f, cell, h1, h2, h3, h4, h5, h6⟩ := (hz.1 j hj).2.2.1
    simp only [List.forall_mem_cons] at hv
    exact W.getf F.1.1 F.1.2.1 F.1.2.2.2.1 (F.1.2.2.2.2 _ q) h1 h2 ((hR.2.2.1 _ (Nat.not_le.mp h6)).trans h3) h4 (v := .ref (Z (j + 10))) h5 rfl rfl d (h _ _ _ _ _ k H locs la cells slots hc hs hR hL hl (by simp only [List.forall_mem_cons]; exact ⟨trivial, hv.2⟩))
  · exact k.elim
theorem sm_zlen (F : pmF p s m args c G nL cl kt Ts own cc) (hz : xS lo H0 Z s) (d : decode cc pc = .ok (.arraylength, 1)) (h : pm_le K (pmV p l e R s m args below meth c G lo H0 nL cl ft Qf (pc + 1))) : pm_le (i_zlen Z K) (pmV p l e R s m args below meth c G lo H0 nL cl ft Qf pc) := by
  intro ls st B S D k H locs la cells slots hc hs hR hL hl hv
  unfold i_zlen at k
  split at k
  · rename_i a r
    obtain ⟨j, hj, rfl, k⟩ := k
    obtain ⟨cell, h1, h2, h3, h4, h5, h6, h7⟩ := (hz.1 j hj).2.2.2.1
    simp only [List.forall_mem_cons] at hv
    have hlen := strZ_len j hj
    exact W.alen (n := Int32.ofInt ((strTx.getD j []).length : Int)) F.1.1 F.1.2.1 ((hR.2.2.1 _ (Nat.not_le.mp h7)).trans h1) h2 (h5.trans rfl) rfl rfl d (h _ _ _ _ _ k H locs la cells slots hc hs hR hL hl (by simp only [List.forall_mem_cons]; exact ⟨by unfold okv inI; omega, hv.2⟩))
  · exact k.elim
theorem sm_zbld (F : pmF p s m args c G nL cl kt Ts own cc) (hz : xS lo H0 Z s) (d : decode cc pc = .ok (.baload, 1)) (h : pm_le K (pmV p l e R s m args below meth c G lo H0 nL cl ft Qf (pc + 1))) : pm_le (i_zald Z K) (pmV p l e R s m args below meth c G lo H0 nL cl ft Qf pc) := by
  intro ls st B S D k H locs la cells slots hc hs hR hL hl hv
  unfold i_zald at k
  split at k
  · rename_i i a r
    obtain ⟨j, hj, rfl, hi0, hi1, k⟩ := k
    obtain ⟨cell, h1, h2, h3, h4, h5, h6, h7⟩ := (hz.1 j hj).2.2.2.1
    simp only [List.forall_mem_cons] at hv
    have hcl := clampI hi0 hi1 hv.1
    obtain ⟨i, rfl⟩ := Int.eq_ofNat_of_zero_le hi0
    have hi : i < (strTx.getD j []).length := by omega
    have hjc : (Int32.ofInt (i : Int)).toNatClampNeg = i := by rw [hcl]; rfl
    have hr := strZ_at hj hi
    refine W.bald F.1.1 F.1.2.1 (v := .int (Int32.ofInt ((strTx.getD j []).getD i 0))) ((hR.2.2.1 _ (Nat.not_le.mp h7)).trans h1) h2 h3 ?_ (by rw [hjc]; exact h6 i hi) rfl rfl d (h _ _ _ _ _ k H locs la cells slots hc hs hR hL hl (by simp only [List.forall_mem_cons]; exact ⟨by show inI ((strTx.getD j []).getD i 0); unfold inI; omega, hv.2.2⟩))
    rw [hjc, z_lt hv.1]
    omega
  · exact k.elim
theorem sm_gsC (F : pmF p s m args c G nL cl kt Ts own cc) {C n d1 : String} (hz : va_Z C n d1 (.int 1) (fun q => lo ≤ q) s H0) {index : Nat} (q : Cond.fieldLink own index C n d1 ∈ Ts) (d : decode cc pc = .ok (.getstatic index, 3)) (h : pm_le K (pmV p l e R s m args below meth c G lo H0 nL cl ft Qf (pc + 3))) : pm_le (i_icon K 1) (pmV p l e R s m args below meth c G lo H0 nL cl ft Qf pc) := by
  intro ls st B S D k H locs la cells slots hc hs hR hL hl hv
  obtain ⟨cf, kf, fi, f, a, cell, h1, h2, h3, h4, h5, h6, h7, h8⟩ := hz
  exact W.gets F.1.1 F.1.2.1 F.1.2.2.2.1 (F.1.2.2.2.2 _ q) h1 h2 h3 h4 ((hR.2.2.1 _ (Nat.not_le.mp h8)).trans h5) (fun e => by rw [e] at h6; cases h6) (v := .int 1) h7 rfl d (h _ _ _ _ _ k H locs la cells slots hc hs hR hL hl (by simp only [List.forall_mem_cons]; exact ⟨by unfold okv inI; omega, hv⟩))
theorem sm_anyR (F : pmF p s m args c G nL cl kt Ts own cc) {C n d1 : String} (hz : va_Zq C n d1 (fun q => lo ≤ q) s H0) {index : Nat} (q : Cond.fieldLink own index C n d1 ∈ Ts) (d : decode cc pc = .ok (.getstatic index, 3)) (h : pm_le K (pmV p l e R s m args below meth c G lo H0 nL cl ft Qf (pc + 3))) : pm_le (i_anyR K) (pmV p l e R s m args below meth c G lo H0 nL cl ft Qf pc) := by
  intro ls st B S D k H locs la cells slots hc hs hR hL hl hv
  have key : ∀ x : Option Nat, va_Z C n d1 (va_rf x) (fun q => lo ≤ q) s H0 → W p l e R s m args below meth c H locs cells slots Qf (F0 m pc la (st.map cv)) := fun x hx => by
    obtain ⟨cf, kf, fi, f, a, cell, h1, h2, h3, h4, h5, h6, h7, h8⟩ := hx
    exact W.gets F.1.1 F.1.2.1 F.1.2.2.2.1 (F.1.2.2.2.2 _ q) h1 h2 h3 h4 ((hR.2.2.1 _ (Nat.not_le.mp h8)).trans h5) (fun e => by rw [e] at h6; cases h6) (v := va_rf x) h7 rfl d (h _ _ _ _ _ (k x) H locs la cells slots hc hs hR hL hl (by simp only [List.forall_mem_cons]; exact ⟨trivial, hv⟩))
  rcases hz with hz | ⟨t, hz⟩
  · exact key none hz
  · exact key (some t) hz
theorem sm_i2c (F : pmF p s m args c G nL cl kt Ts own cc) (d : decode cc pc = .ok (.i2c, 1)) (h : pm_le K (pmV p l e R s m args below meth c G lo H0 nL cl ft Qf (pc + 1))) : pm_le (i_i2c K) (pmV p l e R s m args below meth c G lo H0 nL cl ft Qf pc) := by
  intro ls st B S D k H locs la cells slots hc hs hR hL hl hv
  unfold i_i2c at k
  split at k
  · rename_i x r
    obtain ⟨h1, h2, k⟩ := k
    obtain ⟨n, rfl⟩ := Int.eq_ofNat_of_zero_le h1
    exact lv_i2c F.1.1 F.1.2.1 d (c7_i2c n (by omega)) (h _ _ _ _ _ k H locs la cells slots hc hs hR hL hl hv)
  · exact k.elim
theorem sm_cret {E : Ex} (F : pmF p s m args c G nL cl kt Ts own cc) {ty : FieldType} (hr : meth.sig.returnType = some ty) (hty : ty = .byte ∨ ty = .char) (hlocks : meth.locks = false) (d : decode cc pc = .ok (.ireturn, 1)) : pm_le (i_cret E) (pmV p l e R s m args below meth c G lo H0 nL cl ft (vy_MQ below (pmQc G cl ft lo H0 E) (pmXC G cl ft XN lo H0 E) args s R.cells R.slots (fun q => lo ≤ q)) pc) := by
  intro ls st B S D k H locs la cells slots hc hs hR hL hl hv
  unfold i_cret at k
  split at k
  · rename_i x
    obtain ⟨h1, h2, k⟩ := k
    obtain ⟨n, rfl⟩ := Int.eq_ofNat_of_zero_le h1
    have hn : narrow ty (.int (Int32.ofInt (n : Int))) = .int (Int32.ofInt (n : Int)) := by
      rcases hty with e | e
      · rw [e]; exact c7_byte n (by omega)
      · rw [e]; exact c7_char n (by omega)
    refine W.widen (k := R.cells) (n := R.slots) (by omega) (by omega) (vy_ret (W.zret (v := Int32.ofInt (n : Int)) F.1.1 F.1.2.1 hr hn (fun t ht hW => ⟨some (.inl (n : Int)), B, S, D, rfl, hv _ List.mem_cons_self, k, by rw [ht]; exact hR⟩) hL d hlocks))
  · exact k.elim
theorem pm_recvZ {S : Stat} {D : Dat} {H : Heap} (hz : xS lo H0 Z s) (hR : pmR G cl ft lo H0 S D H) {k : Nat} (hk : k < 10) : ∃ cell : Cell, H[Z k]? = some cell ∧ cell.vm.isStatics = false ∧ s.vm.findClass "java/lang/String" = some cell.cls := by
  obtain ⟨cell, h1, h2, h3, h4⟩ := (hz.1 k hk).1
  exact ⟨cell, (hR.2.2.1 _ (Nat.not_le.mp h4)).trans h1, h2, h3⟩
theorem sm_callZ {y : MethodName} {ws : List Cond} {fr lc w index maxL n : Nat} {P : Prg} {ret : Option FieldType} {bytes : ByteArray} (F : pmF p s m args c G nL cl kt Ts own cc) (X : pmN NW FW XE lo s) (hz : xS lo H0 Z s) (hM : pmMet l G cl ft kt NW FW XE XN lo H0 y ws fr lc w P) (cw : ∀ m1 m2, CallW R s args own "java/lang/String" index y bytes maxL ret ws { frames := fr, cells := m1, slots := m2, locals := lc } m1 m2 n) (d : decode cc pc = .ok (.invokevirtual index, 3)) (h : pm_le K (pmV p l e R s m args below meth c G lo H0 nL cl ft Qf (pc + 3))) (hX : pmX p l e R s m args below meth c G lo H0 nL cl ft XN Qf pc Hn) : pm_le (i_recvZ Z (i_call K P (n + 1) w Hn) n) (pmV p l e R s m args below meth c G lo H0 nL cl ft Qf pc) := by
  intro ls st B S D k H locs la cells slots hc hs hR hL hl hv
  obtain ⟨⟨j, hj, hb⟩, ⟨hg1, hg2, hg3⟩, b1, b2, m1, m2, rfl, k⟩ := k
  obtain ⟨As, h1, h2, h3⟩ := st_splitV hb
  obtain ⟨ok1, ok2⟩ := okv_sub hg1 hv
  have hst : st.map cv = (As.map cv).reverse ++ .ref (Z j) :: (dropv st (n + 1)).map cv := by
    conv => lhs; rw [h3]
    simp [cv, va_rf]
  have hm := hM _ _ _ _ m1 m2 hg2 k
  refine pm_run F.2 h hX hc hs hL hl ok2 (fun _ _ _ _ q => q) (fun _ _ _ _ q => q) (vy_runV F.1 hm (cw m1 m2) ⟨pmPc.blind, pm_recvZ hz hR hj, fun U hU hW => ⟨by rw [h1]; rfl, ok1, by rw [hU]; exact hR, pmK.moved hW.alike F.2, pmN.moved hW (by rw [hU]; exact hR.2.1) X⟩⟩ rfl (by simpa using h2) (by exact hl.1) hst (by simp only [JFrame.monitorRoom]; rw [catv_eq]; simpa using hg3) d ⟨by simp only at hc; omega, by simp only at hs; omega⟩)
theorem sm_ref (F : pmF p s m args c G nL cl kt Ts own cc) (hz : xS lo H0 Z s) {k : Nat} (hk : k < 10) {index : Nat} {tx : String} (e1 : strOw.getD k ("", 0, "") = (own, index, tx)) (d : decode cc pc = .ok (.ldc index, 2)) (h : pm_le K (pmV p l e R s m args below meth c G lo H0 nL cl ft Qf (pc + 2))) : pm_le (i_ref (Z k) K) (pmV p l e R s m args below meth c G lo H0 nL cl ft Qf pc) := by
  intro ls st B S D k1 H locs la cells slots hc hs hR hL hl hv
  have h1 := (hz.1 k hk).2.2.2.2
  rw [e1] at h1
  exact va_ldcS F.1.1 F.1.2.1 F.1.2.2.2.1 h1 d (h _ _ _ _ _ k1 H locs la cells slots hc hs hR hL hl (by simp only [List.forall_mem_cons]; exact ⟨trivial, hv⟩))
theorem sm_refw (F : pmF p s m args c G nL cl kt Ts own cc) (hz : xS lo H0 Z s) {k : Nat} (hk : k < 10) {index : Nat} {tx : String} (e1 : strOw.getD k ("", 0, "") = (own, index, tx)) (d : decode cc pc = .ok (.ldc_w index, 3)) (h : pm_le K (pmV p l e R s m args below meth c G lo H0 nL cl ft Qf (pc + 3))) : pm_le (i_ref (Z k) K) (pmV p l e R s m args below meth c G lo H0 nL cl ft Qf pc) := by
  intro ls st B S D k1 H locs la cells slots hc hs hR hL hl hv
  have h1 := (hz.1 k hk).2.2.2.2
  rw [e1] at h1
  intro T hT X
  obtain ⟨t, a1, b1⟩ := h _ _ _ _ _ k1 H locs la cells slots hc hs hR hL hl (by simp only [List.forall_mem_cons]; exact ⟨trivial, hv⟩) T hT X
  refine ⟨t, ?_, b1⟩
  obtain ⟨kc, cf, i, a', hk1, hcf, hcp, -, hr, hev'⟩ := Cond.stringRef_spec F.1.2.2.2.1 h1.1
  cases h1.2.symm.trans hev'
  obtain ⟨k', hk', he⟩ := X.warmed.alike.2.2 _ _ hk1
  have hr' : k'.resolved[index]? = some (some (.string (Z k))) := by
    rcases X.warmed.entry hk1 hk' index with h | ⟨h, -⟩
    · rw [h]; exact hr
    · rw [hr] at h; cases h
  have hb := F.1.2.1
  have hexec := F.1.1
  jvm_step X.here [hexec, hb, d, ldc_w.wp_string (e := e) (s := T) (f := F0 m pc la (st.map cv)) X.here.top hk' (by rw [he]; exact hcf) hcp hr']
  exact a1
end SM
section MT
variable {G : pmG} {lo : Nat} {H0 : Heap} {XE : State → Prop} {Z : Nat → Nat}
def P_J5_coder (Z : Nat → Nat) : Prg := fun J E b => i_icon (i_ifeq (i_loadR (i_zcod Z (i_cret E)) 0) (i_icon (i_cret E) 1)) 1
def P_J5_length (Z : Nat → Nat) : Prg := fun J E b => i_loadR (i_zval Z (i_zlen Z (i_loadR (i_recvZ Z (i_call (i_ishr (i_iret E)) (P_J5_coder Z) 1 1 i_none) 0) 0))) 0
def P_J5_isLatin1 (Z : Nat → Nat) : Prg := fun J E b => i_icon (i_ifeq (i_loadR (i_zcod Z (i_ifne (i_icon (i_zret E) 1) i_none)) 0) i_none) 1
def P_J13_checkIndex : Prg := fun J E b => i_loadI (i_iflt (i_loadI (i_loadI (i_cmplt i_none (i_loadI (i_iret E) 0)) 1) 0) i_none) 0
def P_J5_checkIndex : Prg := fun J E b => i_loadI (i_loadI (i_anyR (i_call (i_pop (i_vret E)) P_J13_checkIndex 3 3 i_none)) 1) 0
def P_J12_charAt (Z : Nat → Nat) : Prg := fun J E b => i_loadI (i_loadR (i_zlen Z (i_call (i_loadR (i_loadI (i_zald Z (i_icon (i_iand (i_i2c (i_cret E))) 255)) 1) 0) P_J5_checkIndex 2 2 i_none)) 0) 1
def P_J5_charAt (Z : Nat → Nat) : Prg := fun J E b => i_loadR (i_recvZ Z (i_call (i_ifeq (i_loadR (i_zval Z (i_loadI (i_call (i_cret E) (P_J12_charAt Z) 2 2 i_none) 1)) 0) i_none) (P_J5_isLatin1 Z) 1 1 i_none) 0) 0
set_option maxHeartbeats 4000000 in
theorem met_J5_coder (l : Launch) (hE : ∀ U, XE U → xE lo H0 Z U) : pmMet l G pmcl pmft pmkt pmNW pmFW XE pmXN lo H0 yJ5_coder (ws_ yJ5_coder cJ5_coder 1 (some .byte)) 0 0 1 (P_J5_coder Z) := by
  refine pmMet.of (by decide +kernel) (by decide) ?_
  intro p e s m args below meth c R E hfr hlc F X hr hlocks hexc hnm
  have hz := (hE _ X.2.2.1).2.2.2.2
  refine wp_sim (V := fun b => pmV p l e R s m args below meth c G lo H0 1 pmcl pmft (vy_MQ below (pmQc G pmcl pmft lo H0 E) (pmXC G pmcl pmft pmXN lo H0 E) args s R.cells R.slots (fun q => lo ≤ q)) 0) ?_ 0
  intro b Y hY
  exact (sm_gsC F hz.2.1 q1221 dJ5_coder_0 (sm_ifeq F (tgt := 13) dJ5_coder_3 (by decide) (sm_iconst F dJ5_coder_13 (by unfold inI; omega) (sm_cret F hr (Or.inl rfl) hlocks dJ5_coder_14)) (sm_aload_n F dJ5_coder_6 rfl (sm_zcod F hz q2489 dJ5_coder_7 (sm_goto F (tgt := 14) dJ5_coder_10 (by decide) (sm_cret F hr (Or.inl rfl) hlocks dJ5_coder_14))))))
set_option maxHeartbeats 4000000 in
theorem met_J5_length (l : Launch) (hE : ∀ U, XE U → xE lo H0 Z U) : pmMet l G pmcl pmft pmkt pmNW pmFW XE pmXN lo H0 yJ5_length (ws_ yJ5_length cJ5_length 1 (some .int)) 1 20 1 (P_J5_length Z) := by
  refine pmMet.of (by decide +kernel) (by decide) ?_
  intro p e s m args below meth c R E hfr hlc F X hr hlocks hexc hnm
  have hz := (hE _ X.2.2.1).2.2.2.2
  refine wp_sim (V := fun b => pmV p l e R s m args below meth c G lo H0 1 pmcl pmft (vy_MQ below (pmQc G pmcl pmft lo H0 E) (pmXC G pmcl pmft pmXN lo H0 E) args s R.cells R.slots (fun q => lo ≤ q)) 0) ?_ 0
  intro b Y hY
  exact (sm_aload_n F dJ5_length_0 rfl (sm_zval F hz q2488 dJ5_length_1 (sm_zlen F hz dJ5_length_4 (sm_aload_n F dJ5_length_5 rfl (sm_callZ F X hz (met_J5_coder l hE) (n := 0) (fun _ _ => cwV 0 F.1.2.2.2.2 (lw_V q1217 q1218 q1219 q124 q1220) rfl rfl rfl (by decide +kernel) ⟨by rw [hfr]; exact Nat.le_of_ble_eq_true rfl, by rw [hlc]; exact Nat.le_of_ble_eq_true rfl⟩) dJ5_length_6 (sm_ishr F dJ5_length_9 (sm_iret F hr hlocks dJ5_length_10)) sx_none)))))
set_option maxHeartbeats 4000000 in
theorem met_J5_isLatin1 (l : Launch) (hE : ∀ U, XE U → xE lo H0 Z U) : pmMet l G pmcl pmft pmkt pmNW pmFW XE pmXN lo H0 yJ5_isLatin1 (ws_ yJ5_isLatin1 cJ5_isLatin1 1 (some .boolean)) 0 0 1 (P_J5_isLatin1 Z) := by
  refine pmMet.of (by decide +kernel) (by decide) ?_
  intro p e s m args below meth c R E hfr hlc F X hr hlocks hexc hnm
  have hz := (hE _ X.2.2.1).2.2.2.2
  refine wp_sim (V := fun b => pmV p l e R s m args below meth c G lo H0 1 pmcl pmft (vy_MQ below (pmQc G pmcl pmft lo H0 E) (pmXC G pmcl pmft pmXN lo H0 E) args s R.cells R.slots (fun q => lo ≤ q)) 0) ?_ 0
  intro b Y hY
  exact (sm_gsC F hz.2.1 q1221 dJ5_isLatin1_0 (sm_ifeq F (tgt := 17) dJ5_isLatin1_3 (by decide) sx_no (sm_aload_n F dJ5_isLatin1_6 rfl (sm_zcod F hz q2489 dJ5_isLatin1_7 (sm_ifne F (tgt := 17) dJ5_isLatin1_10 (by decide) sx_no (sm_iconst F dJ5_isLatin1_13 (by unfold inI; omega) (sm_goto F (tgt := 18) dJ5_isLatin1_14 (by decide) (sm_zret F hr hlocks dJ5_isLatin1_18))))))))
set_option maxHeartbeats 4000000 in
theorem met_J13_checkIndex (l : Launch) : pmMet l G pmcl pmft pmkt pmNW pmFW XE pmXN lo H0 yJ13_checkIndex (ws_ yJ13_checkIndex cJ13_checkIndex 3 (some .int)) 0 0 3 P_J13_checkIndex := by
  refine pmMet.of (by decide +kernel) (by decide) ?_
  intro p e s m args below meth c R E hfr hlc F X hr hlocks hexc hnm
  refine wp_sim (V := fun b => pmV p l e R s m args below meth c G lo H0 3 pmcl pmft (vy_MQ below (pmQc G pmcl pmft lo H0 E) (pmXC G pmcl pmft pmXN lo H0 E) args s R.cells R.slots (fun q => lo ≤ q)) 0) ?_ 0
  intro b Y hY
  exact (sm_iload_n F dJ13_checkIndex_0 rfl (sm_iflt F (tgt := 9) dJ13_checkIndex_1 (by decide) sx_no (sm_iload_n F dJ13_checkIndex_4 rfl (sm_iload_n F dJ13_checkIndex_5 rfl (sm_cmplt F (tgt := 16) dJ13_checkIndex_6 (by decide) (sm_iload_n F dJ13_checkIndex_16 rfl (sm_iret F hr hlocks dJ13_checkIndex_17)) sx_no)))))
set_option maxHeartbeats 4000000 in
theorem met_J5_checkIndex (l : Launch) (hE : ∀ U, XE U → xE lo H0 Z U) : pmMet l G pmcl pmft pmkt pmNW pmFW XE pmXN lo H0 yJ5_checkIndex (ws_ yJ5_checkIndex cJ5_checkIndex 2 none) 1 22 2 P_J5_checkIndex := by
  refine pmMet.of (by decide +kernel) (by decide) ?_
  intro p e s m args below meth c R E hfr hlc F X hr hlocks hexc hnm
  have hz := (hE _ X.2.2.1).2.2.2.2
  refine wp_sim (V := fun b => pmV p l e R s m args below meth c G lo H0 2 pmcl pmft (vy_MQ below (pmQc G pmcl pmft lo H0 E) (pmXC G pmcl pmft pmXN lo H0 E) args s R.cells R.slots (fun q => lo ≤ q)) 0) ?_ 0
  intro b Y hY
  exact (sm_iload_n F dJ5_checkIndex_0 rfl (sm_iload_n F dJ5_checkIndex_1 rfl (sm_anyR F hz.2.2 q1237 dJ5_checkIndex_2 (sm_callS F X (met_J13_checkIndex l) (fun _ _ => va_cwS 3 F.1.2.2.2.2 (lw_S q1239 q1240 q133 q1241) rfl rfl rfl (by decide +kernel) ⟨by rw [hfr]; exact Nat.le_of_ble_eq_true rfl, by rw [hlc]; exact Nat.le_of_ble_eq_true rfl⟩) dJ5_checkIndex_5 (sm_pop F dJ5_checkIndex_8 (sm_vret F hr hlocks dJ5_checkIndex_9)) sx_none))))
set_option maxHeartbeats 4000000 in
theorem met_J12_charAt (l : Launch) (hE : ∀ U, XE U → xE lo H0 Z U) : pmMet l G pmcl pmft pmkt pmNW pmFW XE pmXN lo H0 yJ12_charAt (ws_ yJ12_charAt cJ12_charAt 2 (some .char)) 2 43 2 (P_J12_charAt Z) := by
  refine pmMet.of (by decide +kernel) (by decide) ?_
  intro p e s m args below meth c R E hfr hlc F X hr hlocks hexc hnm
  have hz := (hE _ X.2.2.1).2.2.2.2
  refine wp_sim (V := fun b => pmV p l e R s m args below meth c G lo H0 2 pmcl pmft (vy_MQ below (pmQc G pmcl pmft lo H0 E) (pmXC G pmcl pmft pmXN lo H0 E) args s R.cells R.slots (fun q => lo ≤ q)) 0) ?_ 0
  intro b Y hY
  exact (sm_iload_n F dJ12_charAt_0 rfl (sm_aload_n F dJ12_charAt_1 rfl (sm_zlen F hz dJ12_charAt_2 (sm_callS F X (met_J5_checkIndex l hE) (fun _ _ => va_cwS 2 F.1.2.2.2.2 (lw_S q1234 q1235 q124 q1236) rfl rfl rfl (by decide +kernel) ⟨by rw [hfr]; exact Nat.le_of_ble_eq_true rfl, by rw [hlc]; exact Nat.le_of_ble_eq_true rfl⟩) dJ12_charAt_3 (sm_aload_n F dJ12_charAt_6 rfl (sm_iload_n F dJ12_charAt_7 rfl (sm_zbld F hz dJ12_charAt_8 (sm_sipush F dJ12_charAt_9 ⟨by unfold inI; omega, by decide⟩ (sm_iand F dJ12_charAt_12 (sm_i2c F dJ12_charAt_13 (sm_cret F hr (Or.inr rfl) hlocks dJ12_charAt_14))))))) sx_none))))
set_option maxHeartbeats 4000000 in
theorem met_J5_charAt (l : Launch) (hE : ∀ U, XE U → xE lo H0 Z U) : pmMet l G pmcl pmft pmkt pmNW pmFW XE pmXN lo H0 yJ5_charAt (ws_ yJ5_charAt cJ5_charAt 2 (some .char)) 3 64 2 (P_J5_charAt Z) := by
  refine pmMet.of (by decide +kernel) (by decide) ?_
  intro p e s m args below meth c R E hfr hlc F X hr hlocks hexc hnm
  have hz := (hE _ X.2.2.1).2.2.2.2
  refine wp_sim (V := fun b => pmV p l e R s m args below meth c G lo H0 2 pmcl pmft (vy_MQ below (pmQc G pmcl pmft lo H0 E) (pmXC G pmcl pmft pmXN lo H0 E) args s R.cells R.slots (fun q => lo ≤ q)) 0) ?_ 0
  intro b Y hY
  exact (sm_aload_n F dJ5_charAt_0 rfl (sm_callZ F X hz (met_J5_isLatin1 l hE) (n := 0) (fun _ _ => cwV 0 F.1.2.2.2.2 (lw_V q1227 q1228 q1229 q124 q1230) rfl rfl rfl (by decide +kernel) ⟨by rw [hfr]; exact Nat.le_of_ble_eq_true rfl, by rw [hlc]; exact Nat.le_of_ble_eq_true rfl⟩) dJ5_charAt_1 (sm_ifeq F (tgt := 16) dJ5_charAt_4 (by decide) sx_no (sm_aload_n F dJ5_charAt_7 rfl (sm_zval F hz q2488 dJ5_charAt_8 (sm_iload_n F dJ5_charAt_11 rfl (sm_callS F X (met_J12_charAt l hE) (fun _ _ => va_cwS 2 F.1.2.2.2.2 (lw_S q1231 q1232 q132 q1233) rfl rfl rfl (by decide +kernel) ⟨by rw [hfr]; exact Nat.le_of_ble_eq_true rfl, by rw [hlc]; exact Nat.le_of_ble_eq_true rfl⟩) dJ5_charAt_12 (sm_cret F hr (Or.inr rfl) hlocks dJ5_charAt_15) sx_none))))) sx_none))
/-! what they compute -/
theorem gd1 {v : PV} {r : List PV} (hv : isL v = false) (h8 : catv r ≤ 8) : gd (v :: r) 1 1 := by
  refine ⟨by simp, ?_, by rw [dropv_eq]; simpa using h8⟩
  simp [takev, catv, hv]
theorem pw_coder {E : Ex} {k : Nat} {B : Nat × Nat} {S : Stat} {D : Dat} (hk : k < 10) (hE : ∀ B, E (.inl (some (.inl 0))) B S D) : Wp (P_J5_coder Z) E 0 [some (.inr (.inr (some (Z k))))] [] B S D := by
  refine wp_in ?_
  simp only [P_J5_coder, i_icon, i_ifeq, i_loadR, lget, i_zcod, i_cret]
  exact ⟨fun h => absurd h (by decide), fun _ => ⟨⟨k, hk, rfl⟩, by omega, by omega, hE _⟩⟩
theorem pw_length {E : Ex} {k : Nat} {S : Stat} {D : Dat} (hk : k < 10) (hE : ∀ B, E (.inl (some (.inl ((strTx.getD k []).length : Int)))) B S D) : Wp (P_J5_length Z) E 0 [some (.inr (.inr (some (Z k))))] [] (0, 0) S D := by
  refine wp_in ?_
  simp only [P_J5_length, i_loadR, lget, i_zval]
  refine ⟨k, hk, rfl, ?_⟩
  simp only [i_zlen]
  refine ⟨k, hk, rfl, ?_⟩
  refine ⟨⟨k, hk, rfl⟩, gd1 rfl (by simp [catv, isL]), 0, 0, 0, 0, rfl, ?_⟩
  refine pw_coder hk fun B => ?_
  show i_ishr (i_iret E) _ _ _ S D
  simp only [pushO, dropv, i_ishr, i_iret]
  have e : ∀ n : Nat, n < 20 → shrI (n : Int) 0 = (n : Int) := by decide +kernel
  rw [e _ (strZ_len k hk)]
  exact hE _
theorem pw_check {E : Ex} {i n : Int} {B : Nat × Nat} {S : Stat} {D : Dat} (h0 : 0 ≤ i) (h1 : i < n) (hE : ∀ B, E (.inl none) B S D) (h8 : B = (0, 0)) : Wp P_J5_checkIndex E 0 [some (.inl i), some (.inl n)] [] B S D := by
  subst h8
  refine wp_in ?_
  simp only [P_J5_checkIndex, i_loadI, lget, i_anyR]
  intro x
  refine ⟨⟨by simp, by simp [takev, catv, isL], by simp [dropv, catv]⟩, 0, 0, 0, 0, rfl, ?_⟩
  refine wp_in ?_
  simp only [P_J13_checkIndex, takev, largs, isL, i_loadI, lget, i_iflt, i_cmplt, i_iret, i_pop, i_vret, pushO, dropv, Bool.false_eq_true, if_false]
  exact ⟨fun h => absurd h (by omega), fun _ => ⟨fun _ => ⟨trivial, hE _⟩, fun h => absurd h (by omega)⟩⟩
theorem pw_charAt {E : Ex} {k : Nat} {i : Int} {S : Stat} {D : Dat} (hk : k < 10) (h0 : 0 ≤ i) (h1 : i < (strTx.getD k []).length) (hE : ∀ B, E (.inl (some (.inl ((strTx.getD k []).getD i.toNat 0)))) B S D) : Wp (P_J5_charAt Z) E 0 [some (.inr (.inr (some (Z k)))), some (.inl i)] [] (0, 0) S D := by
  have hc := strZ_at hk (show i.toNat < (strTx.getD k []).length by omega)
  have hand : andI ((strTx.getD k []).getD i.toNat 0) 255 = (strTx.getD k []).getD i.toNat 0 := by
    obtain ⟨n, hn⟩ := Int.eq_ofNat_of_zero_le hc.1
    rw [hn] at hc ⊢
    exact c7_and n (by omega)
  refine wp_in ?_
  simp only [P_J5_charAt, i_loadR, lget]
  refine ⟨⟨k, hk, rfl⟩, gd1 rfl (by simp [catv]), 0, 0, 0, 0, rfl, ?_⟩
  refine wp_in ?_
  simp only [P_J5_isLatin1, takev, largs, isL, i_icon, i_ifeq, i_loadR, lget, i_zcod, i_ifne, i_zret, Bool.false_eq_true, if_false]
  refine ⟨fun h => absurd h (by decide), fun _ => ⟨⟨k, hk, rfl⟩, fun h => absurd trivial h, fun _ => ⟨Or.inr trivial, ?_⟩⟩⟩
  simp only [pushO, dropv]
  refine ⟨fun h => absurd h (by decide), fun _ => ?_⟩
  simp only [i_zval]
  refine ⟨k, hk, rfl, ?_⟩
  simp only [i_loadI, lget]
  refine ⟨⟨by simp, by simp [takev, catv, isL], by simp [dropv, catv]⟩, 0, 0, 0, 0, rfl, ?_⟩
  refine wp_in ?_
  simp only [P_J12_charAt, takev, largs, isL, i_loadI, i_loadR, lget, i_zlen, Bool.false_eq_true, if_false]
  refine ⟨k, hk, rfl, ⟨by simp, by simp [takev, catv, isL], by simp [dropv, catv]⟩, 0, 0, 0, 0, rfl, ?_⟩
  simp only [takev, largs, isL, Bool.false_eq_true, if_false]
  refine pw_check h0 h1 (fun B => ?_) rfl
  simp only [pushO, dropv, i_loadR, i_loadI, lget, i_zald]
  refine ⟨k, hk, rfl, h0, h1, ?_⟩
  simp only [i_icon, i_iand, i_i2c, i_cret, pushO, dropv]
  rw [hand]
  exact ⟨hc.1, hc.2, hc.1, hc.2, hc.1, hc.2, hE _⟩
section SN
variable {p : Program} {l : Launch} {e : Env} {R : Room} {s : State} {m : MethodId} {args : Array Value} {below : List Frame} {meth : Method} {c : Code} {nL : Nat} {own : String} {cc : ByteArray} {Qf : State → Prop} {K J Hn : Tm} {pc : Nat}
theorem sm_slen (F : pmF p s m args c G nL pmcl pmkt lw_all own cc) (X : pmN pmNW pmFW XE lo s) (hE : ∀ U, XE U → xE lo H0 Z U) {index : Nat} (q : Cond.methodLink own index ⟨"java/lang/String", "length", "()I"⟩ ∈ lw_all) (hfr : 7 ≤ R.frames) (hlc : 250 ≤ R.locals) (d : decode cc pc = .ok (.invokevirtual index, 3)) (h : pm_le K (pmV p l e R s m args below meth c G lo H0 nL pmcl pmft Qf (pc + 3))) : pm_le (i_slen Z K) (pmV p l e R s m args below meth c G lo H0 nL pmcl pmft Qf pc) := by
  intro ls st B S D k
  refine sm_callZ (Hn := i_none) (XN := pmXN) F X (hE _ X.2.2.1).2.2.2.2 (met_J5_length l hE) (n := 0) (fun _ _ => cwV 0 F.1.2.2.2.2 (lw_V q q1214 q1215 q124 q1216) rfl rfl rfl (by decide +kernel) ⟨by show 1 + 1 ≤ _; omega, by show 8 + (1 + 11) + 20 ≤ _; omega⟩) d h sx_none ls st B S D ?_
  unfold i_slen at k
  split at k
  · rename_i a r
    obtain ⟨h8, j, hj, rfl, k⟩ := k
    have hj : j < 10 := hj
    have e1 : takev (.inr (.inr (some (Z j))) :: r) (0 + 1) [] = [.inr (.inr (some (Z j)))] := by rw [takev_eq _ _ _ (by simp)]; simp
    have e2 : dropv (.inr (.inr (some (Z j))) :: r) (0 + 1) = r := by rw [dropv_eq]; simp
    refine ⟨⟨j, hj, rfl⟩, gd1 rfl h8, B.1, B.2, 0, 0, rfl, ?_⟩
    rw [e1]
    refine pw_length hj fun _ => ?_
    rw [e2]
    exact k
  · exact k.elim
theorem sm_schr (F : pmF p s m args c G nL pmcl pmkt lw_all own cc) (X : pmN pmNW pmFW XE lo s) (hE : ∀ U, XE U → xE lo H0 Z U) {index : Nat} (q : Cond.methodLink own index ⟨"java/lang/String", "charAt", "(I)C"⟩ ∈ lw_all) (hfr : 7 ≤ R.frames) (hlc : 250 ≤ R.locals) (d : decode cc pc = .ok (.invokevirtual index, 3)) (h : pm_le K (pmV p l e R s m args below meth c G lo H0 nL pmcl pmft Qf (pc + 3))) : pm_le (i_schr Z K) (pmV p l e R s m args below meth c G lo H0 nL pmcl pmft Qf pc) := by
  intro ls st B S D k
  refine sm_callZ (Hn := i_none) (XN := pmXN) F X (hE _ X.2.2.1).2.2.2.2 (met_J5_charAt l hE) (n := 1) (fun _ _ => cwV 1 F.1.2.2.2.2 (lw_V q q1224 q1225 q124 q1226) rfl rfl rfl (by decide +kernel) ⟨by show 3 + 1 ≤ _; omega, by show 8 + (2 + 11) + 64 ≤ _; omega⟩) d h sx_none ls st B S D ?_
  unfold i_schr at k
  split at k
  · rename_i i a r
    obtain ⟨h8, j, hj, rfl, hi0, hi1, k⟩ := k
    have hj : j < 10 := hj
    have e1 : takev (.inl i :: .inr (.inr (some (Z j))) :: r) (1 + 1) [] = [.inr (.inr (some (Z j))), .inl i] := by rw [takev_eq _ _ _ (by simp)]; simp
    have e2 : dropv (.inl i :: .inr (.inr (some (Z j))) :: r) (1 + 1) = r := by rw [dropv_eq]; simp
    refine ⟨⟨j, hj, rfl⟩, ⟨by simp, by rw [e1]; simp [catv, isL], by rw [e2]; exact h8⟩, B.1, B.2, 0, 0, rfl, ?_⟩
    rw [e1]
    refine pw_charAt hj hi0 hi1 fun _ => ?_
    rw [e2]
    exact k
  · exact k.elim
end SN
end MT
