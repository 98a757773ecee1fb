/-! SIM, continued: a lemma an opcode -/
set_option maxRecDepth 100000
set_option linter.unusedVariables false
section SM
variable {p : Program} {l : Launch} {e : Env} {R : Room} {s : State} {m : MethodId} {args : Array Value} {below : List Frame} {meth : Method} {c : Code} {G : pmG} {lo : Nat} {H0 : Heap} {nL : Nat} {cl : List vw_C} {ft : Nat → Nat → Bool} {kt : List (Nat × FieldType)} {Ts : List Cond} {own : String} {cc : ByteArray} {Qf : State → Prop} {K J : Tm} {pc : Nat}
def pmV (p : Program) (l : Launch) (e : Env) (R : Room) (s : State) (m : MethodId) (args : Array Value) (below : List Frame) (meth : Method) (c : Code) (G : pmG) (lo : Nat) (H0 : Heap) (nL : Nat) (cl : List vw_C) (ft : Nat → Nat → Bool) (Qf : State → Prop) (pc : Nat) : Tm := fun ls st B S D =>
  ∀ (H : Heap) (locs : List Loc) (la : Array Slot) (cells slots : Nat), cells + B.1 = R.cells → slots + B.2 = R.slots → pmR G cl ft lo H0 S D H → (∀ q ∈ locs, lo ≤ q.base) → LR la nL ls → (∀ v ∈ st, okv v) → W p l e R s m args below meth c H locs cells slots Qf (F0 m pc la (st.map cv))
def pmF (p : Program) (s : State) (m : MethodId) (args : Array Value) (c : Code) (G : pmG) (nL : Nat) (cl : List vw_C) (kt : List (Nat × FieldType)) (Ts : List Cond) (own : String) (cc : ByteArray) : Prop := CallFix p m c cc nL s args Ts own ∧ pmK G cl kt s

theorem sm_iconst (F : pmF p s m args c G nL cl kt Ts own cc) {z : Int} (d : decode cc pc = .ok (.iconst z, 1)) (hz : inI z) (h : pm_le K (pmV p l e R s m args below meth c G lo H0 nL cl ft Qf (pc + 1))) : pm_le (i_icon K z) (pmV p l e R s m args below meth c G lo H0 nL cl ft Qf pc) := by
  intro ls st B S D k H locs la cells slots hc hs hR hL hl hv
  refine lv_iconst F.1.1 F.1.2.1 d rfl ?_
  exact h _ _ _ _ _ k H locs la cells slots hc hs hR hL hl (by simp only [List.forall_mem_cons]; exact ⟨hz, hv⟩)
theorem sm_bipush (F : pmF p s m args c G nL cl kt Ts own cc) {z : Int} (d : decode cc pc = .ok (.bipush z, 2)) (hz : inI z ∧ (Int8.ofInt z).toInt32 = Int32.ofInt z) (h : pm_le K (pmV p l e R s m args below meth c G lo H0 nL cl ft Qf (pc + 2))) : pm_le (i_icon K z) (pmV p l e R s m args below meth c G lo H0 nL cl ft Qf pc) := by
  intro ls st B S D k H locs la cells slots hc hs hR hL hl hv
  refine lv_bipush F.1.1 F.1.2.1 d hz.2 ?_
  exact h _ _ _ _ _ k H locs la cells slots hc hs hR hL hl (by simp only [List.forall_mem_cons]; exact ⟨hz.1, hv⟩)
theorem sm_sipush (F : pmF p s m args c G nL cl kt Ts own cc) {z : Int} (d : decode cc pc = .ok (.sipush z, 3)) (hz : inI z ∧ (Int16.ofInt z).toInt32 = Int32.ofInt z) (h : pm_le K (pmV p l e R s m args below meth c G lo H0 nL cl ft Qf (pc + 3))) : pm_le (i_icon K z) (pmV p l e R s m args below meth c G lo H0 nL cl ft Qf pc) := by
  intro ls st B S D k H locs la cells slots hc hs hR hL hl hv
  refine lv_sipush F.1.1 F.1.2.1 d hz.2 ?_
  exact h _ _ _ _ _ k H locs la cells slots hc hs hR hL hl (by simp only [List.forall_mem_cons]; exact ⟨hz.1, hv⟩)
theorem sm_ldc (F : pmF p s m args c G nL cl kt Ts own cc) {z : Int} {idx : Nat} (d : decode cc pc = .ok (.ldc idx, 2)) (hz : inI z) (hq : Jvm.Cond.constant own idx (Int32.ofInt z) ∈ Ts) (h : pm_le K (pmV p l e R s m args below meth c G lo H0 nL cl ft Qf (pc + 2))) : pm_le (i_icon K z) (pmV p l e R s m args below meth c G lo H0 nL cl ft Qf pc) := by
  intro ls st B S D k H locs la cells slots hc hs hR hL hl hv
  refine lv_ldc F.1.1 F.1.2.1 F.1.2.2.2.1 (F.1.2.2.2.2 _ hq) d ?_
  exact h _ _ _ _ _ k H locs la cells slots hc hs hR hL hl (by simp only [List.forall_mem_cons]; exact ⟨hz, hv⟩)
theorem sm_ldcw (F : pmF p s m args c G nL cl kt Ts own cc) {z : Int} {idx : Nat} (d : decode cc pc = .ok (.ldc_w idx, 3)) (hz : inI z) (hq : Jvm.Cond.constant own idx (Int32.ofInt z) ∈ Ts) (h : pm_le K (pmV p l e R s m args below meth c G lo H0 nL cl ft Qf (pc + 3))) : pm_le (i_icon K z) (pmV p l e R s m args below meth c G lo H0 nL cl ft Qf pc) := by
  intro ls st B S D k H locs la cells slots hc hs hR hL hl hv
  refine lv_ldcw F.1.1 F.1.2.1 F.1.2.2.2.1 (F.1.2.2.2.2 _ hq) d ?_
  exact h _ _ _ _ _ k H locs la cells slots hc hs hR hL hl (by simp only [List.forall_mem_cons]; exact ⟨hz, hv⟩)
theorem sm_ldc2 (F : pmF p s m args c G nL cl kt Ts own cc) {z : Int} {idx : Nat} (d : decode cc pc = .ok (.ldc2_w idx, 3)) (hz : inL z) (hq : Jvm.Cond.constantLong own idx (Int64.ofInt z) ∈ Ts) (h : pm_le K (pmV p l e R s m args below meth c G lo H0 nL cl ft Qf (pc + 3))) : pm_le (i_lcon K z) (pmV p l e R s m args below meth c G lo H0 nL cl ft Qf pc) := by
  intro ls st B S D k H locs la cells slots hc hs hR hL hl hv
  refine lv_ldc2 F.1.1 F.1.2.1 F.1.2.2.2.1 (F.1.2.2.2.2 _ hq) d ?_
  exact h _ _ _ _ _ k H locs la cells slots hc hs hR hL hl (by simp only [List.forall_mem_cons]; exact ⟨hz, hv⟩)
theorem sm_lconst (F : pmF p s m args c G nL cl kt Ts own cc) {n : Fin 2} {z : Int} (d : decode cc pc = .ok (.lconst n, 1)) (hz : inL z ∧ Int64.ofNat (n : Nat) = Int64.ofInt z) (h : pm_le K (pmV p l e R s m args below meth c G lo H0 nL cl ft Qf (pc + 1))) : pm_le (i_lcon K z) (pmV p l e R s m args below meth c G lo H0 nL cl ft Qf pc) := by
  intro ls st B S D k H locs la cells slots hc hs hR hL hl hv
  refine lv_lconst F.1.1 F.1.2.1 d hz.2 ?_
  exact h _ _ _ _ _ k H locs la cells slots hc hs hR hL hl (by simp only [List.forall_mem_cons]; exact ⟨hz.1, hv⟩)
theorem sm_null (F : pmF p s m args c G nL cl kt Ts own cc) (d : decode cc pc = .ok (.aconst_null, 1)) (h : pm_le K (pmV p l e R s m args below meth c G lo H0 nL cl ft Qf (pc + 1))) : pm_le (i_null K) (pmV p l e R s m args below meth c G lo H0 nL cl ft Qf pc) := by
  intro ls st B S D k H locs la cells slots hc hs hR hL hl hv
  refine lv_null F.1.1 F.1.2.1 d ?_
  exact h _ _ _ _ _ k H locs la cells slots hc hs hR hL hl (by simp only [List.forall_mem_cons]; exact ⟨trivial, hv⟩)
theorem sm_iload_n (F : pmF p s m args c G nL cl kt Ts own cc) {i : Nat} {n : Fin 4} (d : decode cc pc = .ok (.iload_n n, 1)) (hi : (n : Nat) = i) (h : pm_le K (pmV p l e R s m args below meth c G lo H0 nL cl ft Qf (pc + 1))) : pm_le (i_loadI K i) (pmV p l e R s m args below meth c G lo H0 nL cl ft Qf pc) := by
  intro ls st B S D k H locs la cells slots hc hs hR hL hl hv
  unfold i_loadI at k
  split at k
  · rename_i x hx
    obtain ⟨h1, h2⟩ := hl.2.2 _ _ hx
    exact lv_iload_n F.1.1 F.1.2.1 d hi h1 (h _ _ _ _ _ k H locs la cells slots hc hs hR hL hl (by simp only [List.forall_mem_cons]; exact ⟨h2, hv⟩))
  · exact k.elim
theorem sm_iload (F : pmF p s m args c G nL cl kt Ts own cc) {i : Nat} (d : decode cc pc = .ok (.iload i, 2)) (h : pm_le K (pmV p l e R s m args below meth c G lo H0 nL cl ft Qf (pc + 2))) : pm_le (i_loadI K i) (pmV p l e R s m args below meth c G lo H0 nL cl ft Qf pc) := by
  intro ls st B S D k H locs la cells slots hc hs hR hL hl hv
  unfold i_loadI at k
  split at k
  · rename_i x hx
    obtain ⟨h1, h2⟩ := hl.2.2 _ _ hx
    exact lv_iload F.1.1 F.1.2.1 d h1 (h _ _ _ _ _ k H locs la cells slots hc hs hR hL hl (by simp only [List.forall_mem_cons]; exact ⟨h2, hv⟩))
  · exact k.elim
theorem sm_lload_n (F : pmF p s m args c G nL cl kt Ts own cc) {i : Nat} {n : Fin 4} (d : decode cc pc = .ok (.lload_n n, 1)) (hi : (n : Nat) = i) (h : pm_le K (pmV p l e R s m args below meth c G lo H0 nL cl ft Qf (pc + 1))) : pm_le (i_loadL K i) (pmV p l e R s m args below meth c G lo H0 nL cl ft Qf pc) := by
  intro ls st B S D k H locs la cells slots hc hs hR hL hl hv
  unfold i_loadL at k
  split at k
  · rename_i x hx
    obtain ⟨h1, h2⟩ := hl.2.2 _ _ hx
    exact lv_lload_n F.1.1 F.1.2.1 d hi h1 (h _ _ _ _ _ k H locs la cells slots hc hs hR hL hl (by simp only [List.forall_mem_cons]; exact ⟨h2, hv⟩))
  · exact k.elim
theorem sm_lload (F : pmF p s m args c G nL cl kt Ts own cc) {i : Nat} (d : decode cc pc = .ok (.lload i, 2)) (h : pm_le K (pmV p l e R s m args below meth c G lo H0 nL cl ft Qf (pc + 2))) : pm_le (i_loadL K i) (pmV p l e R s m args below meth c G lo H0 nL cl ft Qf pc) := by
  intro ls st B S D k H locs la cells slots hc hs hR hL hl hv
  unfold i_loadL at k
  split at k
  · rename_i x hx
    obtain ⟨h1, h2⟩ := hl.2.2 _ _ hx
    exact lv_lload F.1.1 F.1.2.1 d h1 (h _ _ _ _ _ k H locs la cells slots hc hs hR hL hl (by simp only [List.forall_mem_cons]; exact ⟨h2, hv⟩))
  · exact k.elim
theorem sm_aload_n (F : pmF p s m args c G nL cl kt Ts own cc) {i : Nat} {n : Fin 4} (d : decode cc pc = .ok (.aload_n n, 1)) (hi : (n : Nat) = i) (h : pm_le K (pmV p l e R s m args below meth c G lo H0 nL cl ft Qf (pc + 1))) : pm_le (i_loadR K i) (pmV p l e R s m args below meth c G lo H0 nL cl ft Qf pc) := by
  intro ls st B S D k H locs la cells slots hc hs hR hL hl hv
  unfold i_loadR at k
  split at k
  · rename_i x hx
    obtain ⟨h1, h2⟩ := hl.2.2 _ _ hx
    rcases x with _ | x
    · exact lv_aload_nN F.1.1 F.1.2.1 d hi h1 (h _ _ _ _ _ k H locs la cells slots hc hs hR hL hl (by simp only [List.forall_mem_cons]; exact ⟨h2, hv⟩))
    · exact lv_aload_n F.1.1 F.1.2.1 d hi h1 (h _ _ _ _ _ k H locs la cells slots hc hs hR hL hl (by simp only [List.forall_mem_cons]; exact ⟨h2, hv⟩))
  · exact k.elim
theorem sm_aload (F : pmF p s m args c G nL cl kt Ts own cc) {i : Nat} (d : decode cc pc = .ok (.aload i, 2)) (h : pm_le K (pmV p l e R s m args below meth c G lo H0 nL cl ft Qf (pc + 2))) : pm_le (i_loadR K i) (pmV p l e R s m args below meth c G lo H0 nL cl ft Qf pc) := by
  intro ls st B S D k H locs la cells slots hc hs hR hL hl hv
  unfold i_loadR at k
  split at k
  · rename_i x hx
    obtain ⟨h1, h2⟩ := hl.2.2 _ _ hx
    rcases x with _ | x
    · exact lv_aloadN F.1.1 F.1.2.1 d h1 (h _ _ _ _ _ k H locs la cells slots hc hs hR hL hl (by simp only [List.forall_mem_cons]; exact ⟨h2, hv⟩))
    · exact lv_aload F.1.1 F.1.2.1 d h1 (h _ _ _ _ _ k H locs la cells slots hc hs hR hL hl (by simp only [List.forall_mem_cons]; exact ⟨h2, hv⟩))
  · exact k.elim
theorem sm_istore_n (F : pmF p s m args c G nL cl kt Ts own cc) {i : Nat} {n : Fin 4} (d : decode cc pc = .ok (.istore_n n, 1)) (hi : (n : Nat) = i) (hn : i < nL) (h : pm_le K (pmV p l e R s m args below meth c G lo H0 nL cl ft Qf (pc + 1))) : pm_le (i_istore K i) (pmV p l e R s m args below meth c G lo H0 nL cl ft Qf pc) := by
  intro ls st B S D k H locs la cells slots hc hs hR hL hl hv
  unfold i_istore at k
  split at k
  · rename_i x r
    exact lv_istore_n F.1.1 F.1.2.1 d hi hl.lal hn rfl (fun la1 hl1 => h _ _ _ _ _ k H locs la1 cells slots hc hs hR hL (hl.put1 (hv _ List.mem_cons_self) hl1) (fun v hm => hv v (List.mem_cons_of_mem _ hm)))
  · exact k.elim
theorem sm_istore (F : pmF p s m args c G nL cl kt Ts own cc) {i : Nat} (d : decode cc pc = .ok (.istore i, 2)) (hn : i < nL) (h : pm_le K (pmV p l e R s m args below meth c G lo H0 nL cl ft Qf (pc + 2))) : pm_le (i_istore K i) (pmV p l e R s m args below meth c G lo H0 nL cl ft Qf pc) := by
  intro ls st B S D k H locs la cells slots hc hs hR hL hl hv
  unfold i_istore at k
  split at k
  · rename_i x r
    exact lv_istore F.1.1 F.1.2.1 d hl.lal hn rfl (fun la1 hl1 => h _ _ _ _ _ k H locs la1 cells slots hc hs hR hL (hl.put1 (hv _ List.mem_cons_self) hl1) (fun v hm => hv v (List.mem_cons_of_mem _ hm)))
  · exact k.elim
theorem sm_lstore_n (F : pmF p s m args c G nL cl kt Ts own cc) {i : Nat} {n : Fin 4} (d : decode cc pc = .ok (.lstore_n n, 1)) (hi : (n : Nat) = i) (hn : i + 1 < nL) (h : pm_le K (pmV p l e R s m args below meth c G lo H0 nL cl ft Qf (pc + 1))) : pm_le (i_lstore K i) (pmV p l e R s m args below meth c G lo H0 nL cl ft Qf pc) := by
  intro ls st B S D k H locs la cells slots hc hs hR hL hl hv
  unfold i_lstore at k
  split at k
  · rename_i x r
    exact lv_lstore_n F.1.1 F.1.2.1 d hi hl.lal hn rfl (fun la1 hl1 => h _ _ _ _ _ k H locs la1 cells slots hc hs hR hL (hl.put2 (hv _ List.mem_cons_self) hl1) (fun v hm => hv v (List.mem_cons_of_mem _ hm)))
  · exact k.elim
theorem sm_lstore (F : pmF p s m args c G nL cl kt Ts own cc) {i : Nat} (d : decode cc pc = .ok (.lstore i, 2)) (hn : i + 1 < nL) (h : pm_le K (pmV p l e R s m args below meth c G lo H0 nL cl ft Qf (pc + 2))) : pm_le (i_lstore K i) (pmV p l e R s m args below meth c G lo H0 nL cl ft Qf pc) := by
  intro ls st B S D k H locs la cells slots hc hs hR hL hl hv
  unfold i_lstore at k
  split at k
  · rename_i x r
    exact lv_lstore F.1.1 F.1.2.1 d hl.lal hn rfl (fun la1 hl1 => h _ _ _ _ _ k H locs la1 cells slots hc hs hR hL (hl.put2 (hv _ List.mem_cons_self) hl1) (fun v hm => hv v (List.mem_cons_of_mem _ hm)))
  · exact k.elim
theorem sm_astore_n (F : pmF p s m args c G nL cl kt Ts own cc) {i : Nat} {n : Fin 4} (d : decode cc pc = .ok (.astore_n n, 1)) (hi : (n : Nat) = i) (hn : i < nL) (h : pm_le K (pmV p l e R s m args below meth c G lo H0 nL cl ft Qf (pc + 1))) : pm_le (i_astore K i) (pmV p l e R s m args below meth c G lo H0 nL cl ft Qf pc) := by
  intro ls st B S D k H locs la cells slots hc hs hR hL hl hv
  unfold i_astore at k
  split at k
  · rename_i x r
    rcases x with _ | x
    · exact lv_astore_nN F.1.1 F.1.2.1 d hi hl.lal hn rfl (fun la1 hl1 => h _ _ _ _ _ k H locs la1 cells slots hc hs hR hL (hl.put1 (hv _ List.mem_cons_self) hl1) (fun v hm => hv v (List.mem_cons_of_mem _ hm)))
    · exact lv_astore_n F.1.1 F.1.2.1 d hi hl.lal hn rfl (fun la1 hl1 => h _ _ _ _ _ k H locs la1 cells slots hc hs hR hL (hl.put1 (hv _ List.mem_cons_self) hl1) (fun v hm => hv v (List.mem_cons_of_mem _ hm)))
  · exact k.elim
theorem sm_astore (F : pmF p s m args c G nL cl kt Ts own cc) {i : Nat} (d : decode cc pc = .ok (.astore i, 2)) (hn : i < nL) (h : pm_le K (pmV p l e R s m args below meth c G lo H0 nL cl ft Qf (pc + 2))) : pm_le (i_astore K i) (pmV p l e R s m args below meth c G lo H0 nL cl ft Qf pc) := by
  intro ls st B S D k H locs la cells slots hc hs hR hL hl hv
  unfold i_astore at k
  split at k
  · rename_i x r
    rcases x with _ | x
    · exact lv_astoreN F.1.1 F.1.2.1 d hl.lal hn rfl (fun la1 hl1 => h _ _ _ _ _ k H locs la1 cells slots hc hs hR hL (hl.put1 (hv _ List.mem_cons_self) hl1) (fun v hm => hv v (List.mem_cons_of_mem _ hm)))
    · exact lv_astore F.1.1 F.1.2.1 d hl.lal hn rfl (fun la1 hl1 => h _ _ _ _ _ k H locs la1 cells slots hc hs hR hL (hl.put1 (hv _ List.mem_cons_self) hl1) (fun v hm => hv v (List.mem_cons_of_mem _ hm)))
  · exact k.elim
theorem sm_kil {ks : List Nat} (h : pm_le K (pmV p l e R s m args below meth c G lo H0 nL cl ft Qf pc)) : pm_le (i_kil K ks) (pmV p l e R s m args below meth c G lo H0 nL cl ft Qf pc) := by
  intro ls st B S D k H locs la cells slots hc hs hR hL hl hv
  exact h _ _ _ _ _ k H locs la cells slots hc hs hR hL (hl.kil ks) hv
theorem sm_iinc (F : pmF p s m args c G nL cl kt Ts own cc) {i : Nat} {z : Int} (d : decode cc pc = .ok (.iinc i z, 3)) (hn : i < nL) (h : pm_le K (pmV p l e R s m args below meth c G lo H0 nL cl ft Qf (pc + 3))) : pm_le (i_iinc K i z) (pmV p l e R s m args below meth c G lo H0 nL cl ft Qf pc) := by
  intro ls st B S D k H locs la cells slots hc hs hR hL hl hv
  unfold i_iinc at k
  split at k
  · rename_i x hx
    obtain ⟨hr, k⟩ := k
    have hm : (i, Value.int (Int32.ofInt x)) ∈ Jvm.Pilot.CIdealCourtLaw_law_r5787_380c08.lal 0 ls := mem_lal.mpr ⟨i, _, by simp [cv], hx⟩
    obtain ⟨k0, hk0⟩ := List.getElem?_of_mem hm
    refine lv_iinc (v := Int32.ofInt (x + z)) F.1.1 F.1.2.1 d hl.lal hk0 (Int32.ofInt_add x z).symm hn rfl (fun la1 hl1 => h _ _ _ _ _ k H locs la1 cells slots hc hs hR hL (hl.put1 (v := .inl (x + z)) hr hl1) hv)
  · exact k.elim
theorem sm_iadd (F : pmF p s m args c G nL cl kt Ts own cc) (d : decode cc pc = .ok (.iadd, 1)) (h : pm_le K (pmV p l e R s m args below meth c G lo H0 nL cl ft Qf (pc + 1))) : pm_le (i_iadd K) (pmV p l e R s m args below meth c G lo H0 nL cl ft Qf pc) := by
  intro ls st B S D k H locs la cells slots hc hs hR hL hl hv
  unfold i_iadd at k
  split at k
  · rename_i y x r
    obtain ⟨hr, k⟩ := k
    have e := (Int32.ofInt_add x y)
    have h1 := h _ _ _ _ _ k H locs la cells slots hc hs hR hL hl (by simp only [List.forall_mem_cons] at hv ⊢; exact ⟨hr, hv.2.2⟩)
    simp only [List.map_cons, cv, e] at h1
    exact lv_iadd F.1.1 F.1.2.1 d h1
  · exact k.elim
theorem sm_isub (F : pmF p s m args c G nL cl kt Ts own cc) (d : decode cc pc = .ok (.isub, 1)) (h : pm_le K (pmV p l e R s m args below meth c G lo H0 nL cl ft Qf (pc + 1))) : pm_le (i_isub K) (pmV p l e R s m args below meth c G lo H0 nL cl ft Qf pc) := by
  intro ls st B S D k H locs la cells slots hc hs hR hL hl hv
  unfold i_isub at k
  split at k
  · rename_i y x r
    obtain ⟨hr, k⟩ := k
    have e := (Int32.ofInt_sub x y)
    have h1 := h _ _ _ _ _ k H locs la cells slots hc hs hR hL hl (by simp only [List.forall_mem_cons] at hv ⊢; exact ⟨hr, hv.2.2⟩)
    simp only [List.map_cons, cv, e] at h1
    exact lv_isub F.1.1 F.1.2.1 d h1
  · exact k.elim
theorem sm_imul (F : pmF p s m args c G nL cl kt Ts own cc) (d : decode cc pc = .ok (.imul, 1)) (h : pm_le K (pmV p l e R s m args below meth c G lo H0 nL cl ft Qf (pc + 1))) : pm_le (i_imul K) (pmV p l e R s m args below meth c G lo H0 nL cl ft Qf pc) := by
  intro ls st B S D k H locs la cells slots hc hs hR hL hl hv
  unfold i_imul at k
  split at k
  · rename_i y x r
    obtain ⟨hr, k⟩ := k
    have e := (Int32.ofInt_mul x y)
    have h1 := h _ _ _ _ _ k H locs la cells slots hc hs hR hL hl (by simp only [List.forall_mem_cons] at hv ⊢; exact ⟨hr, hv.2.2⟩)
    simp only [List.map_cons, cv, e] at h1
    exact lv_imul F.1.1 F.1.2.1 d h1
  · exact k.elim
theorem sm_ladd (F : pmF p s m args c G nL cl kt Ts own cc) (d : decode cc pc = .ok (.ladd, 1)) (h : pm_le K (pmV p l e R s m args below meth c G lo H0 nL cl ft Qf (pc + 1))) : pm_le (i_ladd K) (pmV p l e R s m args below meth c G lo H0 nL cl ft Qf pc) := by
  intro ls st B S D k H locs la cells slots hc hs hR hL hl hv
  unfold i_ladd at k
  split at k
  · rename_i y x r
    obtain ⟨hr, k⟩ := k
    have e := (Int64.ofInt_add x y)
    have h1 := h _ _ _ _ _ k H locs la cells slots hc hs hR hL hl (by simp only [List.forall_mem_cons] at hv ⊢; exact ⟨hr, hv.2.2⟩)
    simp only [List.map_cons, cv, e] at h1
    exact lv_ladd F.1.1 F.1.2.1 d h1
  · exact k.elim
theorem sm_lsub (F : pmF p s m args c G nL cl kt Ts own cc) (d : decode cc pc = .ok (.lsub, 1)) (h : pm_le K (pmV p l e R s m args below meth c G lo H0 nL cl ft Qf (pc + 1))) : pm_le (i_lsub K) (pmV p l e R s m args below meth c G lo H0 nL cl ft Qf pc) := by
  intro ls st B S D k H locs la cells slots hc hs hR hL hl hv
  unfold i_lsub at k
  split at k
  · rename_i y x r
    obtain ⟨hr, k⟩ := k
    have e := (Int64.ofInt_sub x y)
    have h1 := h _ _ _ _ _ k H locs la cells slots hc hs hR hL hl (by simp only [List.forall_mem_cons] at hv ⊢; exact ⟨hr, hv.2.2⟩)
    simp only [List.map_cons, cv, e] at h1
    exact lv_lsub F.1.1 F.1.2.1 d h1
  · exact k.elim
theorem sm_lmul (F : pmF p s m args c G nL cl kt Ts own cc) (d : decode cc pc = .ok (.lmul, 1)) (h : pm_le K (pmV p l e R s m args below meth c G lo H0 nL cl ft Qf (pc + 1))) : pm_le (i_lmul K) (pmV p l e R s m args below meth c G lo H0 nL cl ft Qf pc) := by
  intro ls st B S D k H locs la cells slots hc hs hR hL hl hv
  unfold i_lmul at k
  split at k
  · rename_i y x r
    obtain ⟨hr, k⟩ := k
    have e := (Int64.ofInt_mul x y)
    have h1 := h _ _ _ _ _ k H locs la cells slots hc hs hR hL hl (by simp only [List.forall_mem_cons] at hv ⊢; exact ⟨hr, hv.2.2⟩)
    simp only [List.map_cons, cv, e] at h1
    exact lv_lmul F.1.1 F.1.2.1 d h1
  · exact k.elim
theorem d32 {x y : Int} (hx : inI x) (hy : inI y) : Int32.ofInt (x.tdiv y) = Int32.ofInt x / Int32.ofInt y := by
  refine Int32.toInt_inj.mp ?_
  rw [Int32.toInt_div, t32 hx, t32 hy, Int32.toInt_ofInt]
theorem n32 {y : Int} (hy : inI y) (h : y ≠ 0) : ¬ Int32.ofInt y = 0 := fun q => h (by rw [← t32 hy, q]; rfl)
theorem d64 {x y : Int} (hx : inL x) (hy : inL y) : Int64.ofInt (x.tdiv y) = Int64.ofInt x / Int64.ofInt y := by
  refine Int64.toInt_inj.mp ?_
  rw [Int64.toInt_div, t64 hx, t64 hy, Int64.toInt_ofInt]
theorem n64 {y : Int} (hy : inL y) (h : y ≠ 0) : ¬ Int64.ofInt y = 0 := fun q => h (by rw [← t64 hy, q]; rfl)
theorem sm_idiv (F : pmF p s m args c G nL cl kt Ts own cc) (d : decode cc pc = .ok (.idiv, 1)) (h : pm_le K (pmV p l e R s m args below meth c G lo H0 nL cl ft Qf (pc + 1))) : pm_le (i_idiv K) (pmV p l e R s m args below meth c G lo H0 nL cl ft Qf pc) := by
  intro ls st B S D k H locs la cells slots hc hs hR hL hl hv
  unfold i_idiv at k
  split at k
  · rename_i y x r
    obtain ⟨h0, hr, k⟩ := k
    have hx := hv _ (List.mem_cons_of_mem _ List.mem_cons_self)
    have hy := hv _ List.mem_cons_self
    have e := d32 hx hy
    have h1 := h _ _ _ _ _ k H locs la cells slots hc hs hR hL hl (by simp only [List.forall_mem_cons] at hv ⊢; exact ⟨hr, hv.2.2⟩)
    simp only [List.map_cons, cv, e] at h1
    exact lv_idiv F.1.1 F.1.2.1 d (n32 hy h0) h1
  · exact k.elim
theorem sm_irem (F : pmF p s m args c G nL cl kt Ts own cc) (d : decode cc pc = .ok (.irem, 1)) (h : pm_le K (pmV p l e R s m args below meth c G lo H0 nL cl ft Qf (pc + 1))) : pm_le (i_irem K) (pmV p l e R s m args below meth c G lo H0 nL cl ft Qf pc) := by
  intro ls st B S D k H locs la cells slots hc hs hR hL hl hv
  unfold i_irem at k
  split at k
  · rename_i y x r
    obtain ⟨h0, hr, k⟩ := k
    have hx := hv _ (List.mem_cons_of_mem _ List.mem_cons_self)
    have hy := hv _ List.mem_cons_self
    have e : Int32.ofInt (x.tmod y) = Int32.ofInt x - Int32.ofInt x / Int32.ofInt y * Int32.ofInt y := by
      rw [← d32 hx hy, ← Int32.ofInt_mul, ← Int32.ofInt_sub]
      congr 1
      have := Int.mul_tdiv_add_tmod x y
      rw [Int.mul_comm] at this
      omega
    have h1 := h _ _ _ _ _ k H locs la cells slots hc hs hR hL hl (by simp only [List.forall_mem_cons] at hv ⊢; exact ⟨hr, hv.2.2⟩)
    simp only [List.map_cons, cv, e] at h1
    exact lv_irem F.1.1 F.1.2.1 d (n32 hy h0) h1
  · exact k.elim
theorem sm_ineg (F : pmF p s m args c G nL cl kt Ts own cc) (d : decode cc pc = .ok (.ineg, 1)) (h : pm_le K (pmV p l e R s m args below meth c G lo H0 nL cl ft Qf (pc + 1))) : pm_le (i_ineg K) (pmV p l e R s m args below meth c G lo H0 nL cl ft Qf pc) := by
  intro ls st B S D k H locs la cells slots hc hs hR hL hl hv
  unfold i_ineg at k
  split at k
  · rename_i x r
    obtain ⟨hr, k⟩ := k
    have e := Int32.ofInt_neg x
    have h1 := h _ _ _ _ _ k H locs la cells slots hc hs hR hL hl (by simp only [List.forall_mem_cons] at hv ⊢; exact ⟨hr, hv.2⟩)
    simp only [List.map_cons, cv, e] at h1
    exact lv_ineg F.1.1 F.1.2.1 d h1
  · exact k.elim
theorem sm_ldiv (F : pmF p s m args c G nL cl kt Ts own cc) (d : decode cc pc = .ok (.ldiv, 1)) (h : pm_le K (pmV p l e R s m args below meth c G lo H0 nL cl ft Qf (pc + 1))) : pm_le (i_ldiv K) (pmV p l e R s m args below meth c G lo H0 nL cl ft Qf pc) := by
  intro ls st B S D k H locs la cells slots hc hs hR hL hl hv
  unfold i_ldiv at k
  split at k
  · rename_i y x r
    obtain ⟨h0, hr, k⟩ := k
    have hx := hv _ (List.mem_cons_of_mem _ List.mem_cons_self)
    have hy := hv _ List.mem_cons_self
    have e := d64 hx hy
    have h1 := h _ _ _ _ _ k H locs la cells slots hc hs hR hL hl (by simp only [List.forall_mem_cons] at hv ⊢; exact ⟨hr, hv.2.2⟩)
    simp only [List.map_cons, cv, e] at h1
    exact lv_ldiv F.1.1 F.1.2.1 d (n64 hy h0) h1
  · exact k.elim
theorem sm_lrem (F : pmF p s m args c G nL cl kt Ts own cc) (d : decode cc pc = .ok (.lrem, 1)) (h : pm_le K (pmV p l e R s m args below meth c G lo H0 nL cl ft Qf (pc + 1))) : pm_le (i_lrem K) (pmV p l e R s m args below meth c G lo H0 nL cl ft Qf pc) := by
  intro ls st B S D k H locs la cells slots hc hs hR hL hl hv
  unfold i_lrem at k
  split at k
  · rename_i y x r
    obtain ⟨h0, hr, k⟩ := k
    have hx := hv _ (List.mem_cons_of_mem _ List.mem_cons_self)
    have hy := hv _ List.mem_cons_self
    have e : Int64.ofInt (x.tmod y) = Int64.ofInt x - Int64.ofInt x / Int64.ofInt y * Int64.ofInt y := by
      rw [← d64 hx hy, ← Int64.ofInt_mul, ← Int64.ofInt_sub]
      congr 1
      have := Int.mul_tdiv_add_tmod x y
      rw [Int.mul_comm] at this
      omega
    have h1 := h _ _ _ _ _ k H locs la cells slots hc hs hR hL hl (by simp only [List.forall_mem_cons] at hv ⊢; exact ⟨hr, hv.2.2⟩)
    simp only [List.map_cons, cv, e] at h1
    exact lv_lrem F.1.1 F.1.2.1 d (n64 hy h0) h1
  · exact k.elim
theorem sm_lneg (F : pmF p s m args c G nL cl kt Ts own cc) (d : decode cc pc = .ok (.lneg, 1)) (h : pm_le K (pmV p l e R s m args below meth c G lo H0 nL cl ft Qf (pc + 1))) : pm_le (i_lneg K) (pmV p l e R s m args below meth c G lo H0 nL cl ft Qf pc) := by
  intro ls st B S D k H locs la cells slots hc hs hR hL hl hv
  unfold i_lneg at k
  split at k
  · rename_i x r
    obtain ⟨hr, k⟩ := k
    have e := Int64.ofInt_neg x
    have h1 := h _ _ _ _ _ k H locs la cells slots hc hs hR hL hl (by simp only [List.forall_mem_cons] at hv ⊢; exact ⟨hr, hv.2⟩)
    simp only [List.map_cons, cv, e] at h1
    exact lv_lneg F.1.1 F.1.2.1 d h1
  · exact k.elim
theorem sm_iand (F : pmF p s m args c G nL cl kt Ts own cc) (d : decode cc pc = .ok (.iand, 1)) (h : pm_le K (pmV p l e R s m args below meth c G lo H0 nL cl ft Qf (pc + 1))) : pm_le (i_iand K) (pmV p l e R s m args below meth c G lo H0 nL cl ft Qf pc) := by
  intro ls st B S D k H locs la cells slots hc hs hR hL hl hv
  unfold i_iand at k
  split at k
  · rename_i y x r
    have h1 := h _ _ _ _ _ k H locs la cells slots hc hs hR hL hl (by simp only [List.forall_mem_cons] at hv ⊢; exact ⟨inI_toInt _, hv.2.2⟩)
    simp only [List.map_cons, cv, andI, Int32.ofInt_toInt] at h1
    exact lv_iand F.1.1 F.1.2.1 d h1
  · exact k.elim
theorem sm_ior (F : pmF p s m args c G nL cl kt Ts own cc) (d : decode cc pc = .ok (.ior, 1)) (h : pm_le K (pmV p l e R s m args below meth c G lo H0 nL cl ft Qf (pc + 1))) : pm_le (i_ior K) (pmV p l e R s m args below meth c G lo H0 nL cl ft Qf pc) := by
  intro ls st B S D k H locs la cells slots hc hs hR hL hl hv
  unfold i_ior at k
  split at k
  · rename_i y x r
    have h1 := h _ _ _ _ _ k H locs la cells slots hc hs hR hL hl (by simp only [List.forall_mem_cons] at hv ⊢; exact ⟨inI_toInt _, hv.2.2⟩)
    simp only [List.map_cons, cv, orI, Int32.ofInt_toInt] at h1
    exact lv_ior F.1.1 F.1.2.1 d h1
  · exact k.elim
theorem sm_ishl (F : pmF p s m args c G nL cl kt Ts own cc) (d : decode cc pc = .ok (.ishl, 1)) (h : pm_le K (pmV p l e R s m args below meth c G lo H0 nL cl ft Qf (pc + 1))) : pm_le (i_ishl K) (pmV p l e R s m args below meth c G lo H0 nL cl ft Qf pc) := by
  intro ls st B S D k H locs la cells slots hc hs hR hL hl hv
  unfold i_ishl at k
  split at k
  · rename_i y x r
    have h1 := h _ _ _ _ _ k H locs la cells slots hc hs hR hL hl (by simp only [List.forall_mem_cons] at hv ⊢; exact ⟨inI_toInt _, hv.2.2⟩)
    simp only [List.map_cons, cv, shlI, Int32.ofInt_toInt] at h1
    exact lv_ishl F.1.1 F.1.2.1 d h1
  · exact k.elim
theorem sm_ishr (F : pmF p s m args c G nL cl kt Ts own cc) (d : decode cc pc = .ok (.ishr, 1)) (h : pm_le K (pmV p l e R s m args below meth c G lo H0 nL cl ft Qf (pc + 1))) : pm_le (i_ishr K) (pmV p l e R s m args below meth c G lo H0 nL cl ft Qf pc) := by
  intro ls st B S D k H locs la cells slots hc hs hR hL hl hv
  unfold i_ishr at k
  split at k
  · rename_i y x r
    have h1 := h _ _ _ _ _ k H locs la cells slots hc hs hR hL hl (by simp only [List.forall_mem_cons] at hv ⊢; exact ⟨inI_toInt _, hv.2.2⟩)
    simp only [List.map_cons, cv, shrI, Int32.ofInt_toInt] at h1
    exact lv_ishr F.1.1 F.1.2.1 d h1
  · exact k.elim
theorem sm_lshl (F : pmF p s m args c G nL cl kt Ts own cc) (d : decode cc pc = .ok (.lshl, 1)) (h : pm_le K (pmV p l e R s m args below meth c G lo H0 nL cl ft Qf (pc + 1))) : pm_le (i_lshl K) (pmV p l e R s m args below meth c G lo H0 nL cl ft Qf pc) := by
  intro ls st B S D k H locs la cells slots hc hs hR hL hl hv
  unfold i_lshl at k
  split at k
  · rename_i y x r
    have h1 := h _ _ _ _ _ k H locs la cells slots hc hs hR hL hl (by simp only [List.forall_mem_cons] at hv ⊢; exact ⟨inL_toInt _, hv.2.2⟩)
    simp only [List.map_cons, cv, shlL, Int64.ofInt_toInt] at h1
    exact lv_lshl F.1.1 F.1.2.1 d rfl h1
  · exact k.elim
theorem sm_lxor (F : pmF p s m args c G nL cl kt Ts own cc) (d : decode cc pc = .ok (.lxor, 1)) (h : pm_le K (pmV p l e R s m args below meth c G lo H0 nL cl ft Qf (pc + 1))) : pm_le (i_lxor K) (pmV p l e R s m args below meth c G lo H0 nL cl ft Qf pc) := by
  intro ls st B S D k H locs la cells slots hc hs hR hL hl hv
  unfold i_lxor at k
  split at k
  · rename_i y x r
    have h1 := h _ _ _ _ _ k H locs la cells slots hc hs hR hL hl (by simp only [List.forall_mem_cons] at hv ⊢; exact ⟨inL_toInt _, hv.2.2⟩)
    simp only [List.map_cons, cv, xorL, Int64.ofInt_toInt] at h1
    exact lv_lxor F.1.1 F.1.2.1 d h1
  · exact k.elim
theorem cmp64 {x y : Int} (hx : inL x) (hy : inL y) : lg_cmp (Int64.ofInt x) (Int64.ofInt y) = Int32.ofInt (lcmpI x y) := by
  unfold lg_cmp lcmpI
  simp only [Int64.lt_iff_toInt_lt, ← Int64.toInt_inj, t64 hx, t64 hy]
  rcases Int.lt_trichotomy x y with h | h | h
  · rw [if_neg (by omega), if_neg (by omega), if_pos h]; rfl
  · rw [if_neg (by omega), if_pos h, if_neg (by omega), if_pos h]; rfl
  · rw [if_pos h, if_neg (by omega), if_neg (by omega)]; rfl
theorem lcmpI_in (x y : Int) : inI (lcmpI x y) := by unfold lcmpI inI; split <;> (try split) <;> omega
theorem sm_lcmp (F : pmF p s m args c G nL cl kt Ts own cc) (d : decode cc pc = .ok (.lcmp, 1)) (h : pm_le K (pmV p l e R s m args below meth c G lo H0 nL cl ft Qf (pc + 1))) : pm_le (i_lcmp K) (pmV p l e R s m args below meth c G lo H0 nL cl ft Qf pc) := by
  intro ls st B S D k H locs la cells slots hc hs hR hL hl hv
  unfold i_lcmp at k
  split at k
  · rename_i y x r
    have h1 := h _ _ _ _ _ k H locs la cells slots hc hs hR hL hl (by simp only [List.forall_mem_cons] at hv ⊢; exact ⟨lcmpI_in _ _, hv.2.2⟩)
    simp only [List.forall_mem_cons] at hv
    simp only [List.map_cons, cv, ← cmp64 hv.2.1 hv.1] at h1
    exact W.lcmp F.1.1 F.1.2.1 d h1
  · exact k.elim
theorem w64 {x : Int} (hx : inI x) : (Int32.ofInt x).toInt64 = Int64.ofInt x := Int32.toInt64_ofInt (by have := hx.1; exact this) (by have := hx.2; exact Int.le_of_lt_add_one this)
theorem w32 {x : Int} (hx : inI x) : (Int64.ofInt x).toInt32 = Int32.ofInt x := by
  refine Int32.toInt_inj.mp ?_
  rw [Int64.toInt_toInt32, t64 ⟨by have := hx.1; omega, by have := hx.2; omega⟩, t32 hx]
  exact Int.bmod_eq_of_le (by have := hx.1; omega) (by have := hx.2; omega)
theorem w8 {x : Int} (h1 : -128 ≤ x) (h2 : x < 128) : (Int32.ofInt x).toInt8.toInt32 = Int32.ofInt x := by
  refine Int32.toInt_inj.mp ?_
  rw [Int8.toInt_toInt32, Int32.toInt_toInt8, t32 ⟨by omega, by omega⟩]
  exact Int.bmod_eq_of_le (by omega) (by omega)
theorem w16 {x : Int} (h1 : -32768 ≤ x) (h2 : x < 32768) : (Int32.ofInt x).toInt16.toInt32 = Int32.ofInt x := by
  refine Int32.toInt_inj.mp ?_
  rw [Int16.toInt_toInt32, Int32.toInt_toInt16, t32 ⟨by omega, by omega⟩]
  exact Int.bmod_eq_of_le (by omega) (by omega)
theorem sm_i2l (F : pmF p s m args c G nL cl kt Ts own cc) (d : decode cc pc = .ok (.i2l, 1)) (h : pm_le K (pmV p l e R s m args below meth c G lo H0 nL cl ft Qf (pc + 1))) : pm_le (i_i2l K) (pmV p l e R s m args below meth c G lo H0 nL cl ft Qf pc) := by
  intro ls st B S D k H locs la cells slots hc hs hR hL hl hv
  unfold i_i2l at k
  split at k
  · rename_i x r
    have hx := hv _ List.mem_cons_self
    exact lv_i2l F.1.1 F.1.2.1 d (w64 hx) (h _ _ _ _ _ k H locs la cells slots hc hs hR hL hl (by simp only [List.forall_mem_cons] at hv ⊢; exact ⟨⟨by have := hx.1; omega, by have := hx.2; omega⟩, hv.2⟩))
  · exact k.elim
theorem sm_l2i (F : pmF p s m args c G nL cl kt Ts own cc) (d : decode cc pc = .ok (.l2i, 1)) (h : pm_le K (pmV p l e R s m args below meth c G lo H0 nL cl ft Qf (pc + 1))) : pm_le (i_l2i K) (pmV p l e R s m args below meth c G lo H0 nL cl ft Qf pc) := by
  intro ls st B S D k H locs la cells slots hc hs hR hL hl hv
  unfold i_l2i at k
  split at k
  · rename_i x r
    obtain ⟨hr, k⟩ := k
    exact lv_l2i F.1.1 F.1.2.1 d (w32 hr) (h _ _ _ _ _ k H locs la cells slots hc hs hR hL hl (by simp only [List.forall_mem_cons] at hv ⊢; exact ⟨hr, hv.2⟩))
  · exact k.elim
theorem sm_i2b (F : pmF p s m args c G nL cl kt Ts own cc) (d : decode cc pc = .ok (.i2b, 1)) (h : pm_le K (pmV p l e R s m args below meth c G lo H0 nL cl ft Qf (pc + 1))) : pm_le (i_i2b K) (pmV p l e R s m args below meth c G lo H0 nL cl ft Qf pc) := by
  intro ls st B S D k H locs la cells slots hc hs hR hL hl hv
  unfold i_i2b at k
  split at k
  · rename_i x r
    obtain ⟨h1, h2, k⟩ := k
    exact lv_i2b F.1.1 F.1.2.1 d (w8 h1 h2) (h _ _ _ _ _ k H locs la cells slots hc hs hR hL hl hv)
  · exact k.elim
theorem sm_i2s (F : pmF p s m args c G nL cl kt Ts own cc) (d : decode cc pc = .ok (.i2s, 1)) (h : pm_le K (pmV p l e R s m args below meth c G lo H0 nL cl ft Qf (pc + 1))) : pm_le (i_i2s K) (pmV p l e R s m args below meth c G lo H0 nL cl ft Qf pc) := by
  intro ls st B S D k H locs la cells slots hc hs hR hL hl hv
  unfold i_i2s at k
  split at k
  · rename_i x r
    obtain ⟨h1, h2, k⟩ := k
    exact lv_i2s F.1.1 F.1.2.1 d (w16 h1 h2) (h _ _ _ _ _ k H locs la cells slots hc hs hR hL hl hv)
  · exact k.elim
theorem sm_dup (F : pmF p s m args c G nL cl kt Ts own cc) (d : decode cc pc = .ok (.dup, 1)) (h : pm_le K (pmV p l e R s m args below meth c G lo H0 nL cl ft Qf (pc + 1))) : pm_le (i_dup K) (pmV p l e R s m args below meth c G lo H0 nL cl ft Qf pc) := by
  intro ls st B S D k H locs la cells slots hc hs hR hL hl hv
  unfold i_dup at k
  split at k
  · rename_i v r
    obtain ⟨h1, k⟩ := k
    exact lv_dup F.1.1 F.1.2.1 d (cv_cat1 h1) (h _ _ _ _ _ k H locs la cells slots hc hs hR hL hl (by simp only [List.forall_mem_cons] at hv ⊢; exact ⟨hv.1, hv.1, hv.2⟩))
  · exact k.elim
theorem sm_dup2 (F : pmF p s m args c G nL cl kt Ts own cc) (d : decode cc pc = .ok (.dup2, 1)) (h : pm_le K (pmV p l e R s m args below meth c G lo H0 nL cl ft Qf (pc + 1))) : pm_le (i_dup2 K) (pmV p l e R s m args below meth c G lo H0 nL cl ft Qf pc) := by
  intro ls st B S D k H locs la cells slots hc hs hR hL hl hv
  unfold i_dup2 at k
  split at k
  · rename_i y a r
    exact lv_dup2_11 F.1.1 F.1.2.1 d (cv_cat1 (v := .inl y) rfl) (cv_cat1 (v := .inr (.inr a)) rfl) (h _ _ _ _ _ k H locs la cells slots hc hs hR hL hl (by simp only [List.forall_mem_cons] at hv ⊢; exact ⟨hv.1, hv.2.1, hv.1, hv.2.1, hv.2.2⟩))
  · exact k.elim
theorem sm_pop (F : pmF p s m args c G nL cl kt Ts own cc) (d : decode cc pc = .ok (.pop, 1)) (h : pm_le K (pmV p l e R s m args below meth c G lo H0 nL cl ft Qf (pc + 1))) : pm_le (i_pop K) (pmV p l e R s m args below meth c G lo H0 nL cl ft Qf pc) := by
  intro ls st B S D k H locs la cells slots hc hs hR hL hl hv
  unfold i_pop at k
  split at k
  · rename_i v r
    obtain ⟨h1, k⟩ := k
    exact lv_pop F.1.1 F.1.2.1 d (cv_cat1 h1) (h _ _ _ _ _ k H locs la cells slots hc hs hR hL hl (fun v hm => hv v (List.mem_cons_of_mem _ hm)))
  · exact k.elim
theorem c_eq {x y : Int} (hx : inI x) (hy : inI y) : Int32.ofInt x = Int32.ofInt y ↔ x = y := ⟨fun h => by rw [← t32 hx, h, t32 hy], fun h => by rw [h]⟩
theorem c_lt {x y : Int} (hx : inI x) (hy : inI y) : Int32.ofInt x < Int32.ofInt y ↔ x < y := by rw [Int32.lt_iff_toInt_lt, t32 hx, t32 hy]
theorem c_le {x y : Int} (hx : inI x) (hy : inI y) : Int32.ofInt x ≤ Int32.ofInt y ↔ x ≤ y := by rw [Int32.le_iff_toInt_le, t32 hx, t32 hy]
theorem z_in : inI 0 := by unfold inI; omega
theorem z_eq {x : Int} (hx : inI x) : Int32.ofInt x = 0 ↔ x = 0 := c_eq hx z_in
theorem z_lt {x : Int} (hx : inI x) : Int32.ofInt x < 0 ↔ x < 0 := c_lt hx z_in
theorem z_le {x : Int} (hx : inI x) : Int32.ofInt x ≤ 0 ↔ x ≤ 0 := c_le hx z_in
theorem z_gt {x : Int} (hx : inI x) : 0 < Int32.ofInt x ↔ 0 < x := c_lt z_in hx
theorem z_ge {x : Int} (hx : inI x) : 0 ≤ Int32.ofInt x ↔ 0 ≤ x := c_le z_in hx
theorem sm_ifeq (F : pmF p s m args c G nL cl kt Ts own cc) {off : Int} {tgt : Nat} (d : decode cc pc = .ok (.ifCond .eq off, 3)) (ht : (pc : Int) + off = (tgt : Int)) (hJ : pm_le J (pmV p l e R s m args below meth c G lo H0 nL cl ft Qf tgt)) (h : pm_le K (pmV p l e R s m args below meth c G lo H0 nL cl ft Qf (pc + 3))) : pm_le (i_ifeq K J) (pmV p l e R s m args below meth c G lo H0 nL cl ft Qf pc) := by
  intro ls st B S D k H locs la cells slots hc hs hR hL hl hv
  unfold i_ifeq at k
  split at k
  · rename_i x r
    simp only [List.forall_mem_cons] at hv
    refine lv_if_eq F.1.1 F.1.2.1 d ht (fun q => ?_) (fun q => ?_)
    · exact hJ _ _ _ _ _ (k.1 ((z_eq hv.1).mp q)) H locs la cells slots hc hs hR hL hl hv.2
    · exact h _ _ _ _ _ (k.2 (fun z => q ((z_eq hv.1).mpr z))) H locs la cells slots hc hs hR hL hl hv.2
  · exact k.elim
theorem sm_ifne (F : pmF p s m args c G nL cl kt Ts own cc) {off : Int} {tgt : Nat} (d : decode cc pc = .ok (.ifCond .ne off, 3)) (ht : (pc : Int) + off = (tgt : Int)) (hJ : pm_le J (pmV p l e R s m args below meth c G lo H0 nL cl ft Qf tgt)) (h : pm_le K (pmV p l e R s m args below meth c G lo H0 nL cl ft Qf (pc + 3))) : pm_le (i_ifne K J) (pmV p l e R s m args below meth c G lo H0 nL cl ft Qf pc) := by
  intro ls st B S D k H locs la cells slots hc hs hR hL hl hv
  unfold i_ifne at k
  split at k
  · rename_i x r
    simp only [List.forall_mem_cons] at hv
    refine lv_if_ne F.1.1 F.1.2.1 d ht (fun q => ?_) (fun q => ?_)
    · exact hJ _ _ _ _ _ (k.1 (fun z => q ((z_eq hv.1).mpr z))) H locs la cells slots hc hs hR hL hl hv.2
    · exact h _ _ _ _ _ (k.2 ((z_eq hv.1).mp q)) H locs la cells slots hc hs hR hL hl hv.2
  · exact k.elim
theorem sm_iflt (F : pmF p s m args c G nL cl kt Ts own cc) {off : Int} {tgt : Nat} (d : decode cc pc = .ok (.ifCond .lt off, 3)) (ht : (pc : Int) + off = (tgt : Int)) (hJ : pm_le J (pmV p l e R s m args below meth c G lo H0 nL cl ft Qf tgt)) (h : pm_le K (pmV p l e R s m args below meth c G lo H0 nL cl ft Qf (pc + 3))) : pm_le (i_iflt K J) (pmV p l e R s m args below meth c G lo H0 nL cl ft Qf pc) := by
  intro ls st B S D k H locs la cells slots hc hs hR hL hl hv
  unfold i_iflt at k
  split at k
  · rename_i x r
    simp only [List.forall_mem_cons] at hv
    refine lv_if_lt F.1.1 F.1.2.1 d ht (fun q => ?_) (fun q => ?_)
    · exact hJ _ _ _ _ _ (k.1 ((z_lt hv.1).mp q)) H locs la cells slots hc hs hR hL hl hv.2
    · exact h _ _ _ _ _ (k.2 (Int.not_lt.mp fun z => q ((z_lt hv.1).mpr z))) H locs la cells slots hc hs hR hL hl hv.2
  · exact k.elim
theorem sm_ifge (F : pmF p s m args c G nL cl kt Ts own cc) {off : Int} {tgt : Nat} (d : decode cc pc = .ok (.ifCond .ge off, 3)) (ht : (pc : Int) + off = (tgt : Int)) (hJ : pm_le J (pmV p l e R s m args below meth c G lo H0 nL cl ft Qf tgt)) (h : pm_le K (pmV p l e R s m args below meth c G lo H0 nL cl ft Qf (pc + 3))) : pm_le (i_ifge K J) (pmV p l e R s m args below meth c G lo H0 nL cl ft Qf pc) := by
  intro ls st B S D k H locs la cells slots hc hs hR hL hl hv
  unfold i_ifge at k
  split at k
  · rename_i x r
    simp only [List.forall_mem_cons] at hv
    refine lv_if_ge F.1.1 F.1.2.1 d ht (fun q => ?_) (fun q => ?_)
    · exact hJ _ _ _ _ _ (k.1 ((z_ge hv.1).mp q)) H locs la cells slots hc hs hR hL hl hv.2
    · exact h _ _ _ _ _ (k.2 (Int.not_le.mp fun z => q ((z_ge hv.1).mpr z))) H locs la cells slots hc hs hR hL hl hv.2
  · exact k.elim
theorem sm_ifgt (F : pmF p s m args c G nL cl kt Ts own cc) {off : Int} {tgt : Nat} (d : decode cc pc = .ok (.ifCond .gt off, 3)) (ht : (pc : Int) + off = (tgt : Int)) (hJ : pm_le J (pmV p l e R s m args below meth c G lo H0 nL cl ft Qf tgt)) (h : pm_le K (pmV p l e R s m args below meth c G lo H0 nL cl ft Qf (pc + 3))) : pm_le (i_ifgt K J) (pmV p l e R s m args below meth c G lo H0 nL cl ft Qf pc) := by
  intro ls st B S D k H locs la cells slots hc hs hR hL hl hv
  unfold i_ifgt at k
  split at k
  · rename_i x r
    simp only [List.forall_mem_cons] at hv
    refine lv_if_gt F.1.1 F.1.2.1 d ht (fun q => ?_) (fun q => ?_)
    · exact hJ _ _ _ _ _ (k.1 ((z_gt hv.1).mp q)) H locs la cells slots hc hs hR hL hl hv.2
    · exact h _ _ _ _ _ (k.2 (Int.not_lt.mp fun z => q ((z_gt hv.1).mpr z))) H locs la cells slots hc hs hR hL hl hv.2
  · exact k.elim
theorem sm_ifle (F : pmF p s m args c G nL cl kt Ts own cc) {off : Int} {tgt : Nat} (d : decode cc pc = .ok (.ifCond .le off, 3)) (ht : (pc : Int) + off = (tgt : Int)) (hJ : pm_le J (pmV p l e R s m args below meth c G lo H0 nL cl ft Qf tgt)) (h : pm_le K (pmV p l e R s m args below meth c G lo H0 nL cl ft Qf (pc + 3))) : pm_le (i_ifle K J) (pmV p l e R s m args below meth c G lo H0 nL cl ft Qf pc) := by
  intro ls st B S D k H locs la cells slots hc hs hR hL hl hv
  unfold i_ifle at k
  split at k
  · rename_i x r
    simp only [List.forall_mem_cons] at hv
    refine lv_if_le F.1.1 F.1.2.1 d ht (fun q => ?_) (fun q => ?_)
    · exact hJ _ _ _ _ _ (k.1 ((z_le hv.1).mp q)) H locs la cells slots hc hs hR hL hl hv.2
    · exact h _ _ _ _ _ (k.2 (Int.not_le.mp fun z => q ((z_le hv.1).mpr z))) H locs la cells slots hc hs hR hL hl hv.2
  · exact k.elim
theorem sm_cmpeq (F : pmF p s m args c G nL cl kt Ts own cc) {off : Int} {tgt : Nat} (d : decode cc pc = .ok (.if_icmp .eq off, 3)) (ht : (pc : Int) + off = (tgt : Int)) (hJ : pm_le J (pmV p l e R s m args below meth c G lo H0 nL cl ft Qf tgt)) (h : pm_le K (pmV p l e R s m args below meth c G lo H0 nL cl ft Qf (pc + 3))) : pm_le (i_cmpeq K J) (pmV p l e R s m args below meth c G lo H0 nL cl ft Qf pc) := by
  intro ls st B S D k H locs la cells slots hc hs hR hL hl hv
  unfold i_cmpeq at k
  split at k
  · rename_i y x r
    simp only [List.forall_mem_cons] at hv
    refine lv_icmp_eq F.1.1 F.1.2.1 d ht (fun q => ?_) (fun q => ?_)
    · exact hJ _ _ _ _ _ (k.1 ((c_eq hv.2.1 hv.1).mp q)) H locs la cells slots hc hs hR hL hl hv.2.2
    · exact h _ _ _ _ _ (k.2 (fun z => q ((c_eq hv.2.1 hv.1).mpr z))) H locs la cells slots hc hs hR hL hl hv.2.2
  · exact k.elim
theorem sm_cmpne (F : pmF p s m args c G nL cl kt Ts own cc) {off : Int} {tgt : Nat} (d : decode cc pc = .ok (.if_icmp .ne off, 3)) (ht : (pc : Int) + off = (tgt : Int)) (hJ : pm_le J (pmV p l e R s m args below meth c G lo H0 nL cl ft Qf tgt)) (h : pm_le K (pmV p l e R s m args below meth c G lo H0 nL cl ft Qf (pc + 3))) : pm_le (i_cmpne K J) (pmV p l e R s m args below meth c G lo H0 nL cl ft Qf pc) := by
  intro ls st B S D k H locs la cells slots hc hs hR hL hl hv
  unfold i_cmpne at k
  split at k
  · rename_i y x r
    simp only [List.forall_mem_cons] at hv
    refine lv_icmp_ne F.1.1 F.1.2.1 d ht (fun q => ?_) (fun q => ?_)
    · exact hJ _ _ _ _ _ (k.1 (fun z => q ((c_eq hv.2.1 hv.1).mpr z))) H locs la cells slots hc hs hR hL hl hv.2.2
    · exact h _ _ _ _ _ (k.2 ((c_eq hv.2.1 hv.1).mp q)) H locs la cells slots hc hs hR hL hl hv.2.2
  · exact k.elim
theorem sm_cmplt (F : pmF p s m args c G nL cl kt Ts own cc) {off : Int} {tgt : Nat} (d : decode cc pc = .ok (.if_icmp .lt off, 3)) (ht : (pc : Int) + off = (tgt : Int)) (hJ : pm_le J (pmV p l e R s m args below meth c G lo H0 nL cl ft Qf tgt)) (h : pm_le K (pmV p l e R s m args below meth c G lo H0 nL cl ft Qf (pc + 3))) : pm_le (i_cmplt K J) (pmV p l e R s m args below meth c G lo H0 nL cl ft Qf pc) := by
  intro ls st B S D k H locs la cells slots hc hs hR hL hl hv
  unfold i_cmplt at k
  split at k
  · rename_i y x r
    simp only [List.forall_mem_cons] at hv
    refine lv_icmp_lt F.1.1 F.1.2.1 d ht (fun q => ?_) (fun q => ?_)
    · exact hJ _ _ _ _ _ (k.1 ((c_lt hv.2.1 hv.1).mp q)) H locs la cells slots hc hs hR hL hl hv.2.2
    · exact h _ _ _ _ _ (k.2 (Int.not_lt.mp fun z => q ((c_lt hv.2.1 hv.1).mpr z))) H locs la cells slots hc hs hR hL hl hv.2.2
  · exact k.elim
theorem sm_cmpge (F : pmF p s m args c G nL cl kt Ts own cc) {off : Int} {tgt : Nat} (d : decode cc pc = .ok (.if_icmp .ge off, 3)) (ht : (pc : Int) + off = (tgt : Int)) (hJ : pm_le J (pmV p l e R s m args below meth c G lo H0 nL cl ft Qf tgt)) (h : pm_le K (pmV p l e R s m args below meth c G lo H0 nL cl ft Qf (pc + 3))) : pm_le (i_cmpge K J) (pmV p l e R s m args below meth c G lo H0 nL cl ft Qf pc) := by
  intro ls st B S D k H locs la cells slots hc hs hR hL hl hv
  unfold i_cmpge at k
  split at k
  · rename_i y x r
    simp only [List.forall_mem_cons] at hv
    refine lv_icmp_ge F.1.1 F.1.2.1 d ht (fun q => ?_) (fun q => ?_)
    · exact hJ _ _ _ _ _ (k.1 ((c_le hv.1 hv.2.1).mp q)) H locs la cells slots hc hs hR hL hl hv.2.2
    · exact h _ _ _ _ _ (k.2 (Int.not_le.mp fun z => q ((c_le hv.1 hv.2.1).mpr z))) H locs la cells slots hc hs hR hL hl hv.2.2
  · exact k.elim
theorem sm_cmpgt (F : pmF p s m args c G nL cl kt Ts own cc) {off : Int} {tgt : Nat} (d : decode cc pc = .ok (.if_icmp .gt off, 3)) (ht : (pc : Int) + off = (tgt : Int)) (hJ : pm_le J (pmV p l e R s m args below meth c G lo H0 nL cl ft Qf tgt)) (h : pm_le K (pmV p l e R s m args below meth c G lo H0 nL cl ft Qf (pc + 3))) : pm_le (i_cmpgt K J) (pmV p l e R s m args below meth c G lo H0 nL cl ft Qf pc) := by
  intro ls st B S D k H locs la cells slots hc hs hR hL hl hv
  unfold i_cmpgt at k
  split at k
  · rename_i y x r
    simp only [List.forall_mem_cons] at hv
    refine lv_icmp_gt F.1.1 F.1.2.1 d ht (fun q => ?_) (fun q => ?_)
    · exact hJ _ _ _ _ _ (k.1 ((c_lt hv.1 hv.2.1).mp q)) H locs la cells slots hc hs hR hL hl hv.2.2
    · exact h _ _ _ _ _ (k.2 (Int.not_lt.mp fun z => q ((c_lt hv.1 hv.2.1).mpr z))) H locs la cells slots hc hs hR hL hl hv.2.2
  · exact k.elim
theorem sm_cmple (F : pmF p s m args c G nL cl kt Ts own cc) {off : Int} {tgt : Nat} (d : decode cc pc = .ok (.if_icmp .le off, 3)) (ht : (pc : Int) + off = (tgt : Int)) (hJ : pm_le J (pmV p l e R s m args below meth c G lo H0 nL cl ft Qf tgt)) (h : pm_le K (pmV p l e R s m args below meth c G lo H0 nL cl ft Qf (pc + 3))) : pm_le (i_cmple K J) (pmV p l e R s m args below meth c G lo H0 nL cl ft Qf pc) := by
  intro ls st B S D k H locs la cells slots hc hs hR hL hl hv
  unfold i_cmple at k
  split at k
  · rename_i y x r
    simp only [List.forall_mem_cons] at hv
    refine lv_icmp_le F.1.1 F.1.2.1 d ht (fun q => ?_) (fun q => ?_)
    · exact hJ _ _ _ _ _ (k.1 ((c_le hv.2.1 hv.1).mp q)) H locs la cells slots hc hs hR hL hl hv.2.2
    · exact h _ _ _ _ _ (k.2 (Int.not_le.mp fun z => q ((c_le hv.2.1 hv.1).mpr z))) H locs la cells slots hc hs hR hL hl hv.2.2
  · exact k.elim
theorem sm_acmpeq (F : pmF p s m args c G nL cl kt Ts own cc) {off : Int} {tgt : Nat} (d : decode cc pc = .ok (.if_acmp .eq off, 3)) (ht : (pc : Int) + off = (tgt : Int)) (hJ : pm_le J (pmV p l e R s m args below meth c G lo H0 nL cl ft Qf tgt)) (h : pm_le K (pmV p l e R s m args below meth c G lo H0 nL cl ft Qf (pc + 3))) : pm_le (i_acmpeq K J) (pmV p l e R s m args below meth c G lo H0 nL cl ft Qf pc) := by
  intro ls st B S D k H locs la cells slots hc hs hR hL hl hv
  unfold i_acmpeq at k
  split at k
  · rename_i y x r
    simp only [List.forall_mem_cons] at hv
    refine lv_acmp_eq F.1.1 F.1.2.1 d ht (fun q => ?_) (fun q => ?_)
    · exact hJ _ _ _ _ _ (k.1 (q)) H locs la cells slots hc hs hR hL hl hv.2.2
    · exact h _ _ _ _ _ (k.2 (q)) H locs la cells slots hc hs hR hL hl hv.2.2
  · exact k.elim
theorem sm_acmpne (F : pmF p s m args c G nL cl kt Ts own cc) {off : Int} {tgt : Nat} (d : decode cc pc = .ok (.if_acmp .ne off, 3)) (ht : (pc : Int) + off = (tgt : Int)) (hJ : pm_le J (pmV p l e R s m args below meth c G lo H0 nL cl ft Qf tgt)) (h : pm_le K (pmV p l e R s m args below meth c G lo H0 nL cl ft Qf (pc + 3))) : pm_le (i_acmpne K J) (pmV p l e R s m args below meth c G lo H0 nL cl ft Qf pc) := by
  intro ls st B S D k H locs la cells slots hc hs hR hL hl hv
  unfold i_acmpne at k
  split at k
  · rename_i y x r
    simp only [List.forall_mem_cons] at hv
    refine lv_acmp_ne F.1.1 F.1.2.1 d ht (fun q => ?_) (fun q => ?_)
    · exact hJ _ _ _ _ _ (k.1 (q)) H locs la cells slots hc hs hR hL hl hv.2.2
    · exact h _ _ _ _ _ (k.2 (q)) H locs la cells slots hc hs hR hL hl hv.2.2
  · exact k.elim
theorem sm_ifnull (F : pmF p s m args c G nL cl kt Ts own cc) {off : Int} {tgt : Nat} (d : decode cc pc = .ok (.ifnull off, 3)) (ht : (pc : Int) + off = (tgt : Int)) (hJ : pm_le J (pmV p l e R s m args below meth c G lo H0 nL cl ft Qf tgt)) (h : pm_le K (pmV p l e R s m args below meth c G lo H0 nL cl ft Qf (pc + 3))) : pm_le (i_ifnull K J) (pmV p l e R s m args below meth c G lo H0 nL cl ft Qf pc) := by
  intro ls st B S D k H locs la cells slots hc hs hR hL hl hv
  unfold i_ifnull at k
  split at k
  · rename_i x r
    simp only [List.forall_mem_cons] at hv
    rcases x with _ | x
    · exact lv_ifnullN F.1.1 F.1.2.1 d ht (hJ _ _ _ _ _ (k.1 rfl) H locs la cells slots hc hs hR hL hl hv.2)
    · exact lv_ifnull F.1.1 F.1.2.1 d (h _ _ _ _ _ (k.2 (fun q => by cases q)) H locs la cells slots hc hs hR hL hl hv.2)
  · exact k.elim
theorem sm_ifnonnull (F : pmF p s m args c G nL cl kt Ts own cc) {off : Int} {tgt : Nat} (d : decode cc pc = .ok (.ifnonnull off, 3)) (ht : (pc : Int) + off = (tgt : Int)) (hJ : pm_le J (pmV p l e R s m args below meth c G lo H0 nL cl ft Qf tgt)) (h : pm_le K (pmV p l e R s m args below meth c G lo H0 nL cl ft Qf (pc + 3))) : pm_le (i_ifnonnull K J) (pmV p l e R s m args below meth c G lo H0 nL cl ft Qf pc) := by
  intro ls st B S D k H locs la cells slots hc hs hR hL hl hv
  unfold i_ifnonnull at k
  split at k
  · rename_i x r
    simp only [List.forall_mem_cons] at hv
    rcases x with _ | x
    · exact lv_ifnonnullN F.1.1 F.1.2.1 d (h _ _ _ _ _ (k.2 rfl) H locs la cells slots hc hs hR hL hl hv.2)
    · exact lv_ifnonnull F.1.1 F.1.2.1 d ht (hJ _ _ _ _ _ (k.1 (fun q => by cases q)) H locs la cells slots hc hs hR hL hl hv.2)
  · exact k.elim
theorem sm_goto (F : pmF p s m args c G nL cl kt Ts own cc) {off : Int} {tgt : Nat} (d : decode cc pc = .ok (.goto off, 3)) (ht : (pc : Int) + off = (tgt : Int)) (h : pm_le K (pmV p l e R s m args below meth c G lo H0 nL cl ft Qf tgt)) : pm_le K (pmV p l e R s m args below meth c G lo H0 nL cl ft Qf pc) := by
  intro ls st B S D k H locs la cells slots hc hs hR hL hl hv
  exact lv_goto F.1.1 F.1.2.1 d ht (h _ _ _ _ _ k H locs la cells slots hc hs hR hL hl hv)
theorem sm_tsw3 (F : pmF p s m args c G nL cl kt Ts own cc) {J0 J1 J2 : Tm} {dflt tl o0 o1 o2 : Int} {len t0 t1 t2 td : Nat} (d : decode cc pc = .ok (.tableswitch dflt tl (tl + 2) #[o0, o1, o2], len)) (e0 : (pc : Int) + o0 = (t0 : Int)) (e1 : (pc : Int) + o1 = (t1 : Int)) (e2 : (pc : Int) + o2 = (t2 : Int)) (ed : (pc : Int) + dflt = (td : Int)) (h0 : pm_le J0 (pmV p l e R s m args below meth c G lo H0 nL cl ft Qf t0)) (h1 : pm_le J1 (pmV p l e R s m args below meth c G lo H0 nL cl ft Qf t1)) (h2 : pm_le J2 (pmV p l e R s m args below meth c G lo H0 nL cl ft Qf t2)) (hd : pm_le K (pmV p l e R s m args below meth c G lo H0 nL cl ft Qf td)) : pm_le (i_tsw3 K tl J0 J1 J2) (pmV p l e R s m args below meth c G lo H0 nL cl ft Qf pc) := by
  intro ls st B S D k H locs la cells slots hc hs hR hL hl hv
  unfold i_tsw3 at k
  split at k
  · rename_i x r
    simp only [List.forall_mem_cons] at hv
    have hx := t32 hv.1
    by_cases g : x < tl ∨ tl + 2 < x
    · exact lv_tableOut F.1.1 F.1.2.1 d (by rw [hx]; exact g) ed (hd _ _ _ _ _ (k.2.2.2 g) H locs la cells slots hc hs hR hL hl hv.2)
    · rcases (show x = tl ∨ x = tl + 1 ∨ x = tl + 2 by omega) with rfl | rfl | rfl
      · exact lv_tableIn F.1.1 F.1.2.1 d (by rw [hx]; omega) (by rw [hx]; omega) (by rw [hx, Int.sub_self]; rfl) e0 (h0 _ _ _ _ _ (k.1 rfl) H locs la cells slots hc hs hR hL hl hv.2)
      · exact lv_tableIn F.1.1 F.1.2.1 d (by rw [hx]; omega) (by rw [hx]; omega) (by rw [hx, show tl + 1 - tl = 1 by omega]; rfl) e1 (h1 _ _ _ _ _ (k.2.1 rfl) H locs la cells slots hc hs hR hL hl hv.2)
      · exact lv_tableIn F.1.1 F.1.2.1 d (by rw [hx]; omega) (by rw [hx]; omega) (by rw [hx, show tl + 2 - tl = 2 by omega]; rfl) e2 (h2 _ _ _ _ _ (k.2.2.1 rfl) H locs la cells slots hc hs hR hL hl hv.2)
  · exact k.elim
end SM
