/-! SIM: System.arraycopy within, multianewarray -/
set_option maxRecDepth 100000
set_option linter.unusedVariables false
def cpD (D : Dat) (src : Nat) (sp : Int) (dst : Nat) (dp n : Int) : Dat := fun a i => if a = dst ∧ dp ≤ i ∧ i < dp + n then D src (sp + (i - dp)) else D a i
/-- an array's stretch into another array of that kind -/
def i_copy (t : Nat) (K : Tm) : Tm := fun ls st B S D => match st with
  | .inl n :: .inl dp :: .inr (.inr (some dst)) :: .inl sp :: .inr (.inr (some src)) :: r => catv r ≤ 8 ∧ ∃ ns nd : Nat, S.1 src = some (t, ns) ∧ S.1 dst = some (t, nd) ∧ ns < 60000000 ∧ nd < 60000000 ∧ 0 ≤ sp ∧ 0 ≤ dp ∧ 0 ≤ n ∧ sp + n ≤ ns ∧ dp + n ≤ nd ∧ K ls r B S (cpD D src sp dst dp n)
  | _ => False
/-- a new array of new arrays -/
def mkM (S : Stat) (t2 t1 n k : Nat) : Stat := (fun a => if a = S.2.2 then some (t2, n) else if S.2.2 < a ∧ a ≤ S.2.2 + n then some (t1, k) else S.1 a, fun a i => if a = S.2.2 then (if 0 ≤ i ∧ i < n then some (S.2.2 + 1 + i.toNat) else none) else if S.2.2 < a ∧ a ≤ S.2.2 + n then none else S.2.1 a i, S.2.2 + 1 + n)
def mkMD (S : Stat) (D : Dat) (n : Nat) : Dat := fun a i => if S.2.2 ≤ a ∧ a ≤ S.2.2 + n then 0 else D a i
def i_multi (t2 t1 : Nat) (K : Tm) : Tm := fun ls st B S D => match st with
  | .inl k' :: .inl n' :: r => ∃ b1 b2 n k : Nat, n' = n ∧ k' = k ∧ n < 1000000 ∧ k < 1000000 ∧ B = (b1 + (1 + n), b2 + (n + n * k)) ∧ K ls (.inr (.inr (some S.2.2)) :: r) (b1, b2) (mkM S t2 t1 n k) (mkMD S D n)
  | _ => False
section SM
variable {p : Program} {l : Launch} {e : Env} {R : Room} {s : State} {m : MethodId} {args : Array Value} {below : List Frame} {meth : Method} {c : Code} {G : pmG} {lo : Nat} {H0 : Heap} {nL : Nat} {cl : List vw_C} {ft : Nat → Nat → Bool} {kt : List (Nat × FieldType)} {Ts : List Cond} {own : String} {cc : ByteArray} {Qf : State → Prop} {K J Hn : Tm} {pc : Nat}
theorem nn32 {x : Int} (hx : inI x) (h : 0 ≤ x) : ¬ Int32.ofInt x < 0 ∧ (Int32.ofInt x).toInt = x ∧ (Int32.ofInt x).toNatClampNeg = x.toNat := by
  refine ⟨fun q => by have := (z_lt hx).mp q; omega, t32 hx, ?_⟩
  show (Int32.ofInt x).toInt.toNat = _
  rw [t32 hx]
theorem sm_copy (F : pmF p s m args c G nL cl kt Ts own cc) {t idx : Nat} {ty : FieldType} (ht0 : 100 ≤ t) (ht : t < 104) (hkt : (t, ty) ∈ kt) (hrk : refKind ty = false) (hfit : ∀ x : Int32, fits ty (.int x) = true) (q1 : Cond.methodLink own idx arraycopyName ∈ Ts) (q2 : Cond.native arraycopyName ∈ Ts) (q3 : Cond.static arraycopyName ∈ Ts) (q4 : Cond.initialized "java/lang/System" ∈ Ts) (hfr : 1 ≤ R.frames) (hlc : 8 + (nativeFrameWords "java/lang/System" "arraycopy" 5 + 11) ≤ R.locals) (d : decode cc pc = .ok (.invokestatic idx, 3)) (h : pm_le K (pmV p l e R s m args below meth c G lo H0 nL cl ft Qf (pc + 3))) : pm_le (i_copy t K) (pmV p l e R s m args below meth c G lo H0 nL cl ft Qf pc) := by
  intro ls st B S D k H locs la cells slots hc hs hR hL hl hv
  unfold i_copy at k
  split at k
  · rename_i n dp dst sp src r
    obtain ⟨hr, ns, nd, hSs, hSd, hns, hnd, h1, h2, h3, h4, h5, k⟩ := k
    simp only [List.forall_mem_cons] at hv
    obtain ⟨v1, v2, -, v4, -, v6⟩ := hv
    obtain ⟨a1, a2, a3⟩ := nn32 v1 h3
    obtain ⟨b1, b2, b3⟩ := nn32 v2 h2
    obtain ⟨c1, c2, c3⟩ := nn32 v4 h1
    obtain ⟨hlos, gs, gs2, -⟩ := hR.arr hSs ht0
    obtain ⟨hlod, gd, gd2, -⟩ := hR.arr hSd ht0
    have es : pmAv t S D src = fun j => .int (Int32.ofInt (D src j)) := funext fun j => by simp only [pmAv]; rw [if_pos ht]
    have ed : pmAv t S D dst = fun j => .int (Int32.ofInt (D dst j)) := funext fun j => by simp only [pmAv]; rw [if_pos ht]
    rw [es] at gs
    rw [ed] at gd
    obtain ⟨-, k0, hk0, cm0, hkk0⟩ := (F.2.2 _ _ hkt).1 ns (fun j => .int (Int32.ofInt (D src j)))
    intro T hT Y
    have hslot : ∀ j, j < ns → (arrV (G.2 t) ns (fun j => .int (Int32.ofInt (D src j)))).slots[j]? = some (.int (Int32.ofInt (D src j))) := fun j hj => by simp [arrV, hj]
    obtain ⟨vm', Y', step⟩ := Y.arraycopy F.1.1 F.1.2.2.2.1 (F.1.2.2.2.2 _ q1) (F.1.2.2.2.2 _ q2) (F.1.2.2.2.2 _ q3) (F.1.2.2.2.2 _ q4) (src := src) (dst := dst) (cs := arrV (G.2 t) ns (fun j => .int (Int32.ofInt (D src j)))) (cd := arrV (G.2 t) nd (fun j => .int (Int32.ofInt (D dst j)))) (srcPos := Int32.ofInt sp) (destPos := Int32.ofInt dp) (n := Int32.ofInt n) (by rw [hT]; exact gs) (by rw [hT]; exact gd)
      (fun _ h => by cases h) (fun _ h => by cases h) (fun h => by cases h) (fun h => by cases h) hk0 hk0 hkk0 hkk0 (by simp [hrk]) c1 b1 a1
      (by rw [c2, a2, arrV_size]; omega) (by rw [b2, a2, arrV_size]; omega)
      (fun vm₁ _ i hi => by
        rw [a3] at hi
        rw [c3]
        have e : (arrV (G.2 t) ns (fun j => .int (Int32.ofInt (D src j)))).slots.getD (sp.toNat + i) .null = .int (Int32.ofInt (D src (sp.toNat + i : Nat))) := by
          rw [Array.getD_eq_getD_getElem?, hslot _ (by omega)]; rfl
        rw [e]
        exact ⟨hfit _, trivial⟩)
      (g := F0 m pc la (.int (Int32.ofInt n) :: .int (Int32.ofInt dp) :: .ref dst :: .int (Int32.ofInt sp) :: .ref src :: r.map cv)) rfl (by rw [F.1.2.2.1]; exact hl.1) (rest := r.map cv) rfl (by rw [F.1.2.1]; exact d) hfr (by rw [catv_eq]; simp only [JFrame.monitorRoom]; simp; omega)
    have e1 : copied (arrV (G.2 t) ns (fun j => .int (Int32.ofInt (D src j)))) (arrV (G.2 t) nd (fun j => .int (Int32.ofInt (D dst j)))) (Int32.ofInt sp) (Int32.ofInt dp) (Int32.ofInt n) = arrV (G.2 t) nd (fun j => .int (va_cpy (fun j => Int32.ofInt (D src j)) (fun j => Int32.ofInt (D dst j)) sp.toNat dp.toNat n.toNat j)) := by
      have := va_copiedX (fun z => .int z) (arrV (G.2 t) ns (fun j => .int (Int32.ofInt (D src j)))) (G.2 t) (n1 := nd) (dp := dp.toNat) (fun j => Int32.ofInt (D src j)) (fun j => Int32.ofInt (D dst j)) hslot (sp := sp.toNat) (n := n.toNat) (by omega)
      rw [← this]
      unfold copied
      rw [a3, b3, c3]
    rw [e1] at Y' step
    have e2 : (fun j => Value.int (va_cpy (fun j => Int32.ofInt (D src j)) (fun j => Int32.ofInt (D dst j)) sp.toNat dp.toNat n.toNat j)) = pmAv t S (cpD D src sp dst dp n) dst := funext fun j => by
      simp only [pmAv, va_cpy, cpD, true_and]
      rw [if_pos ht]
      by_cases hj : dp.toNat ≤ j ∧ j < dp.toNat + n.toNat
      · rw [if_pos hj, if_pos (by omega)]
        congr 3
        omega
      · rw [if_neg hj, if_neg (by omega)]
    rw [e2] at Y' step
    have hlt : dst < H.size := (Array.getElem?_eq_some_iff.mp gd).1
    have hheap : ((T.setVm vm').setCell dst (arrV (G.2 t) nd (pmAv t S (cpD D src sp dst dp n) dst))).heap = H.setIfInBounds dst (arrV (G.2 t) nd (pmAv t S (cpD D src sp dst dp n) dst)) := by rw [← hT]; rfl
    have hR1 : pmR G cl ft lo H0 S (cpD D src sp dst dp n) (H.setIfInBounds dst (arrV (G.2 t) nd (pmAv t S (cpD D src sp dst dp n) dst))) := by
      refine hR.put hlod (by simp) (fun q hq => by simp [Array.getElem?_setIfInBounds, Ne.symm hq]) rfl rfl (fun b i hb => by simp [cpD, hb]) (fun _ _ _ => rfl) fun q hq => ?_
      cases hSd.symm.trans hq
      refine ⟨fun h1 => absurd h1 (by simp only; omega), fun _ => ⟨by simp [Array.getElem?_setIfInBounds, hlt], fun _ j hj => ?_, fun h1 => absurd h1 (by simp only; omega)⟩⟩
      simp only [cpD, true_and]
      split
      · rename_i q
        have := gs2 ht (sp + ((j : Int) - dp)).toNat (by simp only at hj; omega)
        rwa [show (((sp + ((j : Int) - dp)).toNat : Nat) : Int) = sp + ((j : Int) - dp) by omega] at this
      · exact gd2 ht j hj
    obtain ⟨t', st', q⟩ := h ls r B S (cpD D src sp dst dp n) k _ _ la cells slots hc hs hR1 (fun q hq => by
      rcases List.mem_append.mp hq with g | g
      · exact hL q g
      · obtain ⟨z, -, hz⟩ := List.mem_map.mp g
        rw [← hz]; exact hlod) hl v6 _ hheap Y'
    exact ⟨t', step t' st', q⟩
  · exact k.elim
theorem arrV_cong {cA : ClassId} {N : Nat} {f g : Nat → Value} (h : ∀ j, j < N → f j = g j) : arrV cA N f = arrV cA N g := by
  unfold arrV
  congr 2
  funext j
  exact h j.1 j.2
theorem outerC_arrV (cA : ClassId) (N h0 : Nat) : ∀ i, Jvm.Free.Multi.outerC cA N h0 i = arrV cA N (fun j => if j < i then .ref (h0 + 1 + j) else .null) := by
  intro i
  induction i with
  | zero =>
    show ({ cls := cA, slots := Array.replicate N .null, vm := .none } : Cell) = _
    rw [arrV_new]
    exact arrV_cong fun j _ => by rw [if_neg (Nat.not_lt_zero j)]
  | succ i ih =>
    show (Jvm.Free.Multi.outerC cA N h0 i).setSlot i (.ref (h0 + 1 + i)) = _
    rw [ih, arrV_store]
    refine arrV_cong fun j _ => ?_
    unfold updV
    by_cases e : j = i
    · subst e; rw [if_pos rfl, if_pos (by omega)]
    · rw [if_neg e]
      show (if j < i then Value.ref (h0 + 1 + j) else Value.null) = _
      by_cases hj : j < i
      · rw [if_pos hj, if_pos (by omega)]
      · rw [if_neg hj, if_neg (by omega)]
theorem sm_multi (F : pmF p s m args c G nL cl kt Ts own cc) {t2 t1 idx : Nat} {u : FieldType} (ht2 : 104 < t2) (ht1 : 100 ≤ t1) (hkt2 : (t2, .array u) ∈ kt) (hkt1 : (t1, u) ∈ kt) (hu : va_RA s (G.2 t1) u → s.vm.findClass (FieldType.array u).toString = some (G.2 t1)) (q1 : Cond.classLink own idx ("[" ++ (FieldType.array u).toString) ∈ Ts) (q2 : xAA u s) (q3 : Cond.arrayClass u ∈ Ts) (hdf : fits u (defaultValue u) = true) (hdd : (defaultValue u).isDefault = true) (hcb : componentBytes u ≤ 8) (hdv : defaultValue u = if t1 < 104 then .int 0 else if t1 = 104 then .long 0 else .null)
    (d : decode cc pc = .ok (.multianewarray idx 2, 4)) (h : pm_le K (pmV p l e R s m args below meth c G lo H0 nL cl ft Qf (pc + 4))) : pm_le (i_multi t2 t1 K) (pmV p l e R s m args below meth c G lo H0 nL cl ft Qf pc) := by
  intro ls st B S D k H locs la cells slots hc hs hR hL hl hv
  unfold i_multi at k
  split at k
  · rename_i k' n' r
    obtain ⟨b1, b2, n, k0, rfl, rfl, hn, hk, rfl, k⟩ := k
    simp only at hc hs
    simp only [List.forall_mem_cons] at hv
    have cn : (Int32.ofInt (n : Int)).toNatClampNeg = n := clampN (by omega)
    have ck : (Int32.ofInt (k0 : Int)).toNatClampNeg = k0 := clampN (by omega)
    intro T hT Y
    have hmul : k0 * componentBytes u ≤ k0 * 8 := Nat.mul_le_mul_left k0 hcb
    obtain ⟨vm₁, cA, comp, hW, hfA, hfC, hO, hI, Y1, step⟩ := Y.multianewarray2F F.1.1 F.1.2.2.2.1 (F.1.2.2.2.2 _ q1) q2.use (F.1.2.2.2.2 _ q3) (g := F0 m pc la (.int (Int32.ofInt (k0 : Int)) :: .int (Int32.ofInt (n : Int)) :: r.map cv)) rfl (by rw [F.1.2.1]; exact d) (n := Int32.ofInt (n : Int)) (k := Int32.ofInt (k0 : Int)) (rest := r.map cv) rfl
      (fun q => by have := (z_lt (inI_nat (n := n) (by omega))).mp q; omega) (fun q => by have := (z_lt (inI_nat (n := k0) (by omega))).mp q; omega) (by rw [cn]; omega) (by rw [ck]; omega) (by rw [ck]; omega) hdf hdd (by rw [cn]; omega) (by rw [cn, ck]; omega)
    rw [cn, ck] at Y1 step
    have hA : cA = G.2 t2 := Option.some.inj (hfA.symm.trans (F.2.2 _ _ hkt2).2)
    have hC : comp = G.2 t1 := Option.some.inj (hfC.symm.trans (hu (F.2.2 _ _ hkt1).2))
    subst hA; subst hC
    have hz : (T.setVm vm₁).heap.size = S.2.2 := by rw [← hR.1]; exact congrArg _ hT
    have hTH : (T.setVm vm₁).heap = H := hT
    obtain ⟨f1, f2, f3, f4⟩ := Jvm.Free.Multi.fill_facts (T.setVm vm₁) (G.2 t2) (G.2 t1) n k0 (defaultValue u) n
    generalize hU : Jvm.Free.Multi.fill (T.setVm vm₁) (G.2 t2) (G.2 t1) n k0 (defaultValue u) n = U at *
    have hold : ∀ a, a < H.size → U.heap[a]? = H[a]? := fun a ha => by
      rw [← hU, Jvm.Free.Multi.fill_old _ _ _ _ _ _ (by rw [hTH]; exact ha), hTH]
    have hin : ∀ j, j < n → U.heap[S.2.2 + 1 + j]? = some (Jvm.Free.Multi.innerC (G.2 t1) k0 (defaultValue u)) := fun j hj => by
      rw [← hU, ← hz]
      exact Jvm.Free.Multi.fill_inner _ _ _ _ _ _ n j hj
    have hR1 : pmR G cl ft lo H0 (mkM S t2 t1 n k0) (mkMD S D n) U.heap := by
      obtain ⟨r1, r2, r3, r4⟩ := hR
      refine ⟨by rw [f1, hz]; simp only [mkM], by rw [f1, hz]; omega, fun a ha => by rw [hold a (by omega)]; exact r3 a ha, fun a q hq => ?_⟩
      simp only [mkM] at hq
      by_cases ha : a = S.2.2
      · subst ha
        rw [if_pos rfl] at hq
        cases hq
        refine ⟨by omega, by rw [f1, hz]; omega, fun h1 => absurd h1 (by simp only; omega), fun _ => ⟨?_, fun h1 => absurd h1 (by simp only; omega), fun h1 => absurd h1 (by simp only; omega)⟩⟩
        rw [hz] at f2
        rw [f2, outerC_arrV]
        congr 1
        refine arrV_cong fun j hj => ?_
        simp only [pmAv, mkM, if_true]
        rw [if_pos hj, if_neg (by omega), if_neg (by omega), if_pos ⟨by omega, by omega⟩]
        simp [va_rf]
      · rw [if_neg ha] at hq
        by_cases ha2 : S.2.2 < a ∧ a ≤ S.2.2 + n
        · rw [if_pos ha2] at hq
          cases hq
          have hin2 := hin (a - (S.2.2 + 1)) (by omega)
          rw [show S.2.2 + 1 + (a - (S.2.2 + 1)) = a by omega] at hin2
          refine ⟨by omega, by rw [f1, hz]; omega, fun h1 => absurd h1 (by simp only; omega), fun _ => ⟨?_, fun _ j _ => ?_, fun _ j _ => ?_⟩⟩
          · rw [hin2]
            show some ({ cls := G.2 t1, slots := Array.replicate k0 (defaultValue u), vm := .none } : Cell) = _
            rw [arrV_new]
            congr 1
            refine arrV_cong fun j hj => ?_
            have e1 : mkMD S D n a j = 0 := by unfold mkMD; rw [if_pos (by omega)]
            simp only [pmAv, e1, mkM, if_neg ha, if_pos ha2, hdv]
            split
            · rfl
            · split <;> rfl
          · have e1 : mkMD S D n a j = 0 := by unfold mkMD; rw [if_pos (by omega)]
            rw [e1]; unfold inI; omega
          · have e1 : mkMD S D n a j = 0 := by unfold mkMD; rw [if_pos (by omega)]
            rw [e1]; unfold inL; omega
        · rw [if_neg ha2] at hq
          obtain ⟨g1, g2, g3⟩ := r4 a q hq
          refine ⟨g1, by rw [f1, hz]; omega, g3.kept (hold a g2) (fun i => ?_) (fun i => ?_)⟩
          · unfold mkMD; rw [if_neg (by omega)]
          · simp only [mkM]; rw [if_neg ha, if_neg ha2]
    obtain ⟨t', st', q⟩ := h ls (.inr (.inr (some S.2.2)) :: r) (b1, b2) _ _ k U.heap locs la (cells + 1 + n) (slots + n + n * k0) (by simp only; omega) (by simp only; omega) hR1 hL hl (by simp only [List.forall_mem_cons]; exact ⟨trivial, hv.2.2⟩) U rfl Y1
    refine ⟨t', step t' ?_, q⟩
    have : T.heap.size = S.2.2 := hz
    rw [this]
    exact st'
  · exact k.elim
end SM
