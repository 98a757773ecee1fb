/-! SIM: the heap -/
set_option maxRecDepth 100000
set_option linter.unusedVariables false
def tyOK : FieldType → Bool → Bool
  | .int, b => !b
  | .boolean, b => !b
  | .object _, b => b
  | .array _, b => b
  | _, _ => false
/-- a table row of a kind of objects -/
def pmC (Ts : List Cond) (cl : List vw_C) (ft : Nat → Nat → Bool) (ci : Nat) (C : String) (T : u_T) (N : Nat) (ty : Nat → FieldType) : Prop :=
  ci < 100 ∧ cl[ci]? = some (C, T, N) ∧ (∀ w ∈ u_ws C T N, w ∈ Ts) ∧ (∀ k, k < N → parseFieldDescriptor (T k).2.2.1 = some (ty k)) ∧ (∀ a, a < N → ∀ b, b < N → a ≠ b → (T a).2.1 ≠ (T b).2.1) ∧ ∀ k, k < N → tyOK (ty k) (ft ci k) = true
theorem pmAt.kept {G : pmG} {cl : List vw_C} {ft : Nat → Nat → Bool} {S S' : Stat} {D D' : Dat} {H H' : Heap} {b : Nat} {q : Nat × Nat} (h : pmAt G cl ft S D H b q) (hH : H'[b]? = H[b]?) (hD : ∀ i, D' b i = D b i) (hR : ∀ i, S'.2.1 b i = S.2.1 b i) : pmAt G cl ft S' D' H' b q := by
  refine ⟨fun h1 => ?_, fun h1 => ?_⟩
  · obtain ⟨r, h2, h3, h4, h5⟩ := h.1 h1
    refine ⟨r, h2, (h3.kept hH).to fun k _ => ?_, fun k hk => by rw [hD]; exact h4 k hk, fun ce hce => h5 ce (by rw [← hH]; exact hce)⟩
    simp only [pmFv, hD, hR]
  · obtain ⟨h2, h3, h4⟩ := h.2 h1
    refine ⟨?_, fun ht j hj => by rw [hD]; exact h3 ht j hj, fun ht j hj => by rw [hD]; exact h4 ht j hj⟩
    rw [hH, h2]
    congr 2
    funext j
    simp only [pmAv, hD, hR]
theorem pmR.put {G : pmG} {cl : List vw_C} {ft : Nat → Nat → Bool} {lo : Nat} {H0 : Heap} {S S' : Stat} {D D' : Dat} {H H' : Heap} (h : pmR G cl ft lo H0 S D H) {a : Nat} (ha : lo ≤ a) (e2 : H'.size = H.size) (e3 : ∀ q, q ≠ a → H'[q]? = H[q]?) (hz : S'.2.2 = S.2.2) (hS : S'.1 = S.1) (hD : ∀ b i, b ≠ a → D' b i = D b i) (hR : ∀ b i, b ≠ a → S'.2.1 b i = S.2.1 b i) (hat : ∀ q, S.1 a = some q → pmAt G cl ft S' D' H' a q) : pmR G cl ft lo H0 S' D' H' := by
  obtain ⟨h1, h2, h3, h4⟩ := h
  refine ⟨by rw [e2, hz, h1], by rw [e2]; exact h2, fun b hb => by rw [e3 b (by omega)]; exact h3 b hb, fun b q hq => ?_⟩
  rw [hS] at hq
  obtain ⟨g1, g2, g3⟩ := h4 b q hq
  refine ⟨g1, by rw [e2]; exact g2, ?_⟩
  by_cases hb : b = a
  · subst hb; exact hat q hq
  · exact g3.kept (e3 b hb) (fun i => hD b i hb) (fun i => hR b i hb)
theorem clampI {i : Int} {n : Nat} (h0 : 0 ≤ i) (h1 : i < n) (hi : inI i) : (Int32.ofInt i).toNatClampNeg = i.toNat := by
  unfold Int32.toNatClampNeg
  rw [t32 hi]
theorem idxI {i : Int} {n : Nat} (h0 : 0 ≤ i) (h1 : i < n) (hi : inI i) {f : Nat → Value} {cA : ClassId} : ¬ (Int32.ofInt i < 0 ∨ (arrV cA n f).slots.size ≤ (Int32.ofInt i).toNatClampNeg) := by
  rw [arrV_size, clampI h0 h1 hi, z_lt hi]
  omega
section SM
variable {p : Program} {l : Launch} {e : Env} {R : Room} {s : State} {m : MethodId} {args : Array Value} {below : List Frame} {meth : Method} {c : Code} {G : pmG} {lo : Nat} {H0 : Heap} {nL : Nat} {cl : List vw_C} {ft : Nat → Nat → Bool} {kt : List (Nat × FieldType)} {Ts : List Cond} {own : String} {cc : ByteArray} {Qf : State → Prop} {K J : Tm} {pc : Nat}

theorem sm_getI (F : pmF p s m args c G nL cl kt Ts own cc) {ci k idx : Nat} {ki : Int} {ref C : String} {T : u_T} {N : Nat} {ty : Nat → FieldType} (hC : pmC Ts cl ft ci C T N ty) (hki : ki = (k : Int)) (hk : k < N) (hft : ft ci k = false) (hlink : Cond.fieldLink own idx ref (T k).2.1 (T k).2.2.1 ∈ Ts) (hsame : ∀ x, s.fieldFound? (T k).1 (T k).2.1 (T k).2.2.1 = some x → s.fieldFound? ref (T k).2.1 (T k).2.2.1 = some x) (d : decode cc pc = .ok (.getfield idx, 3)) (h : pm_le K (pmV p l e R s m args below meth c G lo H0 nL cl ft Qf (pc + 3))) : pm_le (i_getI K ci ki) (pmV p l e R s m args below meth c G lo H0 nL cl ft Qf pc) := by
  intro ls st B S D k H locs la cells slots hc hs hR hL hl hv
  subst hki
  unfold i_getI at k
  split at k
  · rename_i a r
    obtain ⟨hS1, k⟩ := k
    obtain ⟨hlo, hlt, hO, -⟩ := hR.2.2.2 a _ hS1
    obtain ⟨r1, hr1, hob, hrng, hmon⟩ := hO hC.1
    have e1 := Option.some.inj (hr1.symm.trans hC.2.1)
    subst e1
    obtain ⟨cell, q1, q2, q3, q4⟩ := hob
    obtain ⟨hSl, hfc, kC, hkC, hkind⟩ := F.2.1 ci _ hC.2.1
    rename_i kk
    obtain ⟨cf, kf, fi, f, hi, hsl⟩ := hSl _ hk
    refine W.getf F.1.1 F.1.2.1 F.1.2.2.2.1 (F.1.2.2.2.2 _ hlink) (hsame _ hi) (u_facts hfc hkC (u_lays F.1.2.2.2.2 hC.2.2.1 hk) hi).1 q1 (by rw [q3]; exact fun h => by cases h) (v := .int (Int32.ofInt (D a _))) ?_ rfl rfl d (h _ _ _ _ _ k H locs la cells slots hc hs hR hL hl (by simp only [List.forall_mem_cons] at hv ⊢; exact ⟨hrng _ hk, hv.2⟩))
    rw [hsl, q4 _ hk]
    simp [pmFv, hft]
  · exact k.elim
theorem sm_getIN (F : pmF p s m args c G nL cl kt Ts own cc) {ci k idx : Nat} {ki : Int} {ref C host : String} {T : u_T} {N : Nat} {ty : Nat → FieldType} (hC : pmC Ts cl ft ci C T N ty) (hki : ki = (k : Int)) (hk : k < N) (hft : ft ci k = false) (hlink : va_Nw (.fieldLinkNest own idx ref (T k).2.1 (T k).2.2.1 host) s) (hsame : ∀ x, s.fieldFound? (T k).1 (T k).2.1 (T k).2.2.1 = some x → s.fieldFound? ref (T k).2.1 (T k).2.2.1 = some x) (d : decode cc pc = .ok (.getfield idx, 3)) (h : pm_le K (pmV p l e R s m args below meth c G lo H0 nL cl ft Qf (pc + 3))) : pm_le (i_getI K ci ki) (pmV p l e R s m args below meth c G lo H0 nL cl ft Qf pc) := by
  intro ls st B S D k H locs la cells slots hc hs hR hL hl hv
  subst hki
  unfold i_getI at k
  split at k
  · rename_i a r
    obtain ⟨hS1, k⟩ := k
    obtain ⟨hlo, hlt, hO, -⟩ := hR.2.2.2 a _ hS1
    obtain ⟨r1, hr1, hob, hrng, hmon⟩ := hO hC.1
    have e1 := Option.some.inj (hr1.symm.trans hC.2.1)
    subst e1
    obtain ⟨cell, q1, q2, q3, q4⟩ := hob
    obtain ⟨hSl, hfc, kC, hkC, hkind⟩ := F.2.1 ci _ hC.2.1
    rename_i kk
    obtain ⟨cf, kf, fi, f, hi, hsl⟩ := hSl _ hk
    refine va_Wgetf F.1.1 F.1.2.1 F.1.2.2.2.1 (va_Nw.use rfl hlink) (hsame _ hi) (u_facts hfc hkC (u_lays F.1.2.2.2.2 hC.2.2.1 hk) hi).1 q1 (by rw [q3]; exact fun h => by cases h) (v := .int (Int32.ofInt (D a _))) ?_ rfl rfl d (h _ _ _ _ _ k H locs la cells slots hc hs hR hL hl (by simp only [List.forall_mem_cons] at hv ⊢; exact ⟨hrng _ hk, hv.2⟩))
    rw [hsl, q4 _ hk]
    simp [pmFv, hft]
  · exact k.elim
theorem sm_getR (F : pmF p s m args c G nL cl kt Ts own cc) {ci k idx : Nat} {ki : Int} {ref C : String} {T : u_T} {N : Nat} {ty : Nat → FieldType} (hC : pmC Ts cl ft ci C T N ty) (hki : ki = (k : Int)) (hk : k < N) (hft : ft ci k = true) (hlink : Cond.fieldLink own idx ref (T k).2.1 (T k).2.2.1 ∈ Ts) (hsame : ∀ x, s.fieldFound? (T k).1 (T k).2.1 (T k).2.2.1 = some x → s.fieldFound? ref (T k).2.1 (T k).2.2.1 = some x) (d : decode cc pc = .ok (.getfield idx, 3)) (h : pm_le K (pmV p l e R s m args below meth c G lo H0 nL cl ft Qf (pc + 3))) : pm_le (i_getR K ci ki) (pmV p l e R s m args below meth c G lo H0 nL cl ft Qf pc) := by
  intro ls st B S D k H locs la cells slots hc hs hR hL hl hv
  subst hki
  unfold i_getR at k
  split at k
  · rename_i a r
    obtain ⟨hS1, k⟩ := k
    obtain ⟨hlo, hlt, hO, -⟩ := hR.2.2.2 a _ hS1
    obtain ⟨r1, hr1, hob, hrng, hmon⟩ := hO hC.1
    have e1 := Option.some.inj (hr1.symm.trans hC.2.1)
    subst e1
    obtain ⟨cell, q1, q2, q3, q4⟩ := hob
    obtain ⟨hSl, hfc, kC, hkC, hkind⟩ := F.2.1 ci _ hC.2.1
    rename_i kk
    obtain ⟨cf, kf, fi, f, hi, hsl⟩ := hSl _ hk
    refine W.getf F.1.1 F.1.2.1 F.1.2.2.2.1 (F.1.2.2.2.2 _ hlink) (hsame _ hi) (u_facts hfc hkC (u_lays F.1.2.2.2.2 hC.2.2.1 hk) hi).1 q1 (by rw [q3]; exact fun h => by cases h) (v := va_rf (S.2.1 a _)) ?_ rfl rfl d (h _ _ _ _ _ k H locs la cells slots hc hs hR hL hl (by simp only [List.forall_mem_cons] at hv ⊢; exact ⟨trivial, hv.2⟩))
    rw [hsl, q4 _ hk]
    simp [pmFv, hft]
  · exact k.elim
theorem sm_getRN (F : pmF p s m args c G nL cl kt Ts own cc) {ci k idx : Nat} {ki : Int} {ref C host : String} {T : u_T} {N : Nat} {ty : Nat → FieldType} (hC : pmC Ts cl ft ci C T N ty) (hki : ki = (k : Int)) (hk : k < N) (hft : ft ci k = true) (hlink : va_Nw (.fieldLinkNest own idx ref (T k).2.1 (T k).2.2.1 host) s) (hsame : ∀ x, s.fieldFound? (T k).1 (T k).2.1 (T k).2.2.1 = some x → s.fieldFound? ref (T k).2.1 (T k).2.2.1 = some x) (d : decode cc pc = .ok (.getfield idx, 3)) (h : pm_le K (pmV p l e R s m args below meth c G lo H0 nL cl ft Qf (pc + 3))) : pm_le (i_getR K ci ki) (pmV p l e R s m args below meth c G lo H0 nL cl ft Qf pc) := by
  intro ls st B S D k H locs la cells slots hc hs hR hL hl hv
  subst hki
  unfold i_getR at k
  split at k
  · rename_i a r
    obtain ⟨hS1, k⟩ := k
    obtain ⟨hlo, hlt, hO, -⟩ := hR.2.2.2 a _ hS1
    obtain ⟨r1, hr1, hob, hrng, hmon⟩ := hO hC.1
    have e1 := Option.some.inj (hr1.symm.trans hC.2.1)
    subst e1
    obtain ⟨cell, q1, q2, q3, q4⟩ := hob
    obtain ⟨hSl, hfc, kC, hkC, hkind⟩ := F.2.1 ci _ hC.2.1
    rename_i kk
    obtain ⟨cf, kf, fi, f, hi, hsl⟩ := hSl _ hk
    refine va_Wgetf F.1.1 F.1.2.1 F.1.2.2.2.1 (va_Nw.use rfl hlink) (hsame _ hi) (u_facts hfc hkC (u_lays F.1.2.2.2.2 hC.2.2.1 hk) hi).1 q1 (by rw [q3]; exact fun h => by cases h) (v := va_rf (S.2.1 a _)) ?_ rfl rfl d (h _ _ _ _ _ k H locs la cells slots hc hs hR hL hl (by simp only [List.forall_mem_cons] at hv ⊢; exact ⟨trivial, hv.2⟩))
    rw [hsl, q4 _ hk]
    simp [pmFv, hft]
  · exact k.elim
theorem pm_apart {ci : Nat} {C : String} {T : u_T} {N : Nat} {ty : Nat → FieldType} (hts : ∀ w ∈ Ts, w.before args s = true) (hK : pmK G cl kt s) (hC : pmC Ts cl ft ci C T N ty) : ∀ x y, x < N → y < N → x ≠ y → (G.1.2 ci) x ≠ (G.1.2 ci) y := by
  intro x y hx hy hne
  obtain ⟨hS, -⟩ := hK.1 ci _ hC.2.1
  obtain ⟨_, _, _, fa, hia, ea⟩ := hS x hx
  obtain ⟨_, _, _, fb, hib, eb⟩ := hS y hy
  rw [← ea, ← eb]
  refine u_apart (u_lays hts hC.2.2.1 hx) (u_lays hts hC.2.2.1 hy) hia hib ?_
  rw [(State.fieldFound?_type hia (hC.2.2.2.1 x hx)).1, (State.fieldFound?_type hib (hC.2.2.2.1 y hy)).1]
  exact hC.2.2.2.2.1 x hx y hy hne
/-- the heap behind a field's store -/
theorem pmR.putf {S S' : Stat} {D D' : Dat} {H H' : Heap} (hR : pmR G cl ft lo H0 S D H) {a ci k : Nat} {C : String} {T : u_T} {N : Nat} {ty : Nat → FieldType} (hC : pmC Ts cl ft ci C T N ty) (hS1 : S.1 a = some (ci, 0)) (hap : ∀ x y, x < N → y < N → x ≠ y → (G.1.2 ci) x ≠ (G.1.2 ci) y) (hk : k < N) {cell : Cell} {v : Value} (q1 : H[a]? = some cell) (e1 : H'[a]? = some (cell.setSlot (G.1.2 ci k) v)) (e2 : H'.size = H.size) (e3 : ∀ q, q ≠ a → H'[q]? = H[q]?) (hz : S'.2.2 = S.2.2) (hS : S'.1 = S.1) (hD : ∀ b i, ¬ (b = a ∧ i = (k : Int)) → D' b i = D b i) (hRR : ∀ b i, ¬ (b = a ∧ i = (k : Int)) → S'.2.1 b i = S.2.1 b i) (hv : pmFv ft S' D' a ci k = v) (hi : inI (D' a k)) : pmR G cl ft lo H0 S' D' H' := by
  obtain ⟨hlo, hlt, hO, -⟩ := hR.2.2.2 a _ hS1
  obtain ⟨r1, hr1, ⟨cell', g1, g2, g3, g4⟩, hrng, hmon⟩ := hO hC.1
  have e1' := Option.some.inj (hr1.symm.trans hC.2.1)
  subst e1'
  have ec := Option.some.inj (g1.symm.trans q1)
  subst ec
  refine hR.put hlo e2 e3 hz hS (fun b i hb => hD b i fun q => hb q.1) (fun b i hb => hRR b i fun q => hb q.1) fun q hq => ?_
  have eq1 := Option.some.inj (hS1.symm.trans hq)
  subst eq1
  refine ⟨fun _ => ⟨_, hC.2.1, ?_, fun j hj => ?_, fun ce hce => ?_⟩, fun h100 => absurd hC.1 (by simp at h100; omega)⟩
  · refine t_OB.to (V := updV (pmFv ft S D a ci) k v) ⟨_, e1, g2, g3, t_set g4 hap hk v⟩ fun j hj => ?_
    by_cases hjk : j = k
    · subst hjk; simp [updV, hv]
    · simp only [updV, if_neg hjk, pmFv]
      rw [hD a j (fun q => hjk (by have := q.2; omega)), hRR a j (fun q => hjk (by have := q.2; omega))]
  · by_cases hjk : j = k
    · subst hjk; exact hi
    · rw [hD a j (fun q => hjk (by have := q.2; omega))]; exact hrng j hj
  · have h9 := hmon _ q1
    cases Option.some.inj (hce.symm.trans e1)
    exact ⟨h9.1, h9.2⟩
theorem fits_rf {t : FieldType} (h : (∃ n, t = .object n) ∨ ∃ u, t = .array u) (x : Option Nat) : narrow t (va_rf x) = va_rf x ∧ fits t (va_rf x) = true := by
  rcases h with ⟨n, rfl⟩ | ⟨u, rfl⟩ <;> cases x <;> exact ⟨rfl, rfl⟩
theorem fits_int {t : FieldType} (h : t = .int) (x : Int) : narrow t (.int (Int32.ofInt x)) = .int (Int32.ofInt x) ∧ fits t (.int (Int32.ofInt x)) = true := by
  subst h; exact ⟨rfl, rfl⟩
theorem fits_bool {t : FieldType} (h : t = .boolean) {x : Int} (hx : x = 0 ∨ x = 1) : narrow t (.int (Int32.ofInt x)) = .int (Int32.ofInt x) ∧ fits t (.int (Int32.ofInt x)) = true := by
  subst h; rcases hx with rfl | rfl <;> exact ⟨by decide, by decide⟩
theorem sm_putI (F : pmF p s m args c G nL cl kt Ts own cc) {ci k idx : Nat} {ki : Int} {ref C : String} {T : u_T} {N : Nat} {ty : Nat → FieldType} (hC : pmC Ts cl ft ci C T N ty) (hki : ki = (k : Int)) (hk : k < N) (hft : ft ci k = false) (hty : ty k = .int) (hfin : (T k).2.2.2 = false) (hlink : Cond.fieldLink own idx ref (T k).2.1 (T k).2.2.1 ∈ Ts) (hsame : ∀ x, s.fieldFound? (T k).1 (T k).2.1 (T k).2.2.1 = some x → s.fieldFound? ref (T k).2.1 (T k).2.2.1 = some x) (d : decode cc pc = .ok (.putfield idx, 3)) (h : pm_le K (pmV p l e R s m args below meth c G lo H0 nL cl ft Qf (pc + 3))) : pm_le (i_putI K ci ki) (pmV p l e R s m args below meth c G lo H0 nL cl ft Qf pc) := by
  intro ls st B S D k H locs la cells slots hc hs hR hL hl hv
  subst hki
  rename_i kf0
  unfold i_putI at k
  split at k
  · rename_i x a r
    obtain ⟨hS1, k⟩ := k
    obtain ⟨hlo, hlt, hO, -⟩ := hR.2.2.2 a _ hS1
    obtain ⟨r1, hr1, hob, hrng, hmon⟩ := hO hC.1
    have e1 := Option.some.inj (hr1.symm.trans hC.2.1)
    subst e1
    obtain ⟨cell, q1, q2, q3, q4⟩ := hob
    obtain ⟨hSl, hfc, kC, hkC, hkind⟩ := F.2.1 ci _ hC.2.1
    obtain ⟨cf, kf, fi, f, hi, hsl⟩ := hSl _ hk
    have hlay := F.1.2.2.2.2 _ (hC.2.2.1 _ (u_in_lay hk))
    unfold u_lay at hlay
    rw [if_neg (by rw [hfin]; decide)] at hlay
    have hst := (u_facts hfc hkC (u_lays F.1.2.2.2.2 hC.2.2.1 hk) hi).1
    simp only [List.forall_mem_cons] at hv
    have h6 := u_store hfc hkC hkind hlay hi (hC.2.2.2.1 _ hk) (fits_int hty x).1 (fits_int hty x).2
    refine W.putK F.1.1 F.1.2.1 (f := f) ⟨F.1.2.2.2.1, F.1.2.2.2.2 _ hlink, ⟨_, _, _, hsame _ hi⟩, hst⟩ (by rw [q2]; exact h6) q1 q3 (by rw [hsl]; exact k2_hasslot (q4 _ hk)) rfl rfl d fun H' e1 e2 e3 => ?_
    rw [hsl] at e1 ⊢
    refine h _ _ _ _ _ k H' _ la cells slots hc hs (hR.putf hC hS1 (pm_apart F.1.2.2.2.2 F.2 hC) hk q1 e1 e2 e3 rfl rfl ?_ ?_ ?_ ?_) ?_ hl hv.2.2
    · intro b i hb; simp only [pmu, if_neg hb]
    · intro b i hb; rfl
    · simp [pmFv, hft, pmu, setR, pmur, cv]
    · simp only [pmu, true_and, if_true]; exact hv.1
    · intro q hq
      rcases List.mem_append.mp hq with g | g
      · exact hL q g
      · rw [List.mem_singleton.mp g]; exact hlo
  · exact k.elim
theorem sm_putIN (F : pmF p s m args c G nL cl kt Ts own cc) {ci k idx : Nat} {ki : Int} {ref C host : String} {T : u_T} {N : Nat} {ty : Nat → FieldType} (hC : pmC Ts cl ft ci C T N ty) (hki : ki = (k : Int)) (hk : k < N) (hft : ft ci k = false) (hty : ty k = .int) (hfin : (T k).2.2.2 = false) (hlink : va_Nw (.fieldLinkNest own idx ref (T k).2.1 (T k).2.2.1 host) s) (hsame : ∀ x, s.fieldFound? (T k).1 (T k).2.1 (T k).2.2.1 = some x → s.fieldFound? ref (T k).2.1 (T k).2.2.1 = some x) (d : decode cc pc = .ok (.putfield idx, 3)) (h : pm_le K (pmV p l e R s m args below meth c G lo H0 nL cl ft Qf (pc + 3))) : pm_le (i_putI K ci ki) (pmV p l e R s m args below meth c G lo H0 nL cl ft Qf pc) := by
  intro ls st B S D k H locs la cells slots hc hs hR hL hl hv
  subst hki
  rename_i kf0
  unfold i_putI at k
  split at k
  · rename_i x a r
    obtain ⟨hS1, k⟩ := k
    obtain ⟨hlo, hlt, hO, -⟩ := hR.2.2.2 a _ hS1
    obtain ⟨r1, hr1, hob, hrng, hmon⟩ := hO hC.1
    have e1 := Option.some.inj (hr1.symm.trans hC.2.1)
    subst e1
    obtain ⟨cell, q1, q2, q3, q4⟩ := hob
    obtain ⟨hSl, hfc, kC, hkC, hkind⟩ := F.2.1 ci _ hC.2.1
    obtain ⟨cf, kf, fi, f, hi, hsl⟩ := hSl _ hk
    have hlay := F.1.2.2.2.2 _ (hC.2.2.1 _ (u_in_lay hk))
    unfold u_lay at hlay
    rw [if_neg (by rw [hfin]; decide)] at hlay
    have hst := (u_facts hfc hkC (u_lays F.1.2.2.2.2 hC.2.2.1 hk) hi).1
    simp only [List.forall_mem_cons] at hv
    have h6 := u_store hfc hkC hkind hlay hi (hC.2.2.2.1 _ hk) (fits_int hty x).1 (fits_int hty x).2
    refine va_WputK F.1.1 F.1.2.1 (f := f) F.1.2.2.2.1 (va_Nw.use rfl hlink) (hsame _ hi) hst (by rw [q2]; exact h6) q1 q3 (by rw [hsl]; exact k2_hasslot (q4 _ hk)) rfl rfl d fun H' e1 e2 e3 => ?_
    rw [hsl] at e1 ⊢
    refine h _ _ _ _ _ k H' _ la cells slots hc hs (hR.putf hC hS1 (pm_apart F.1.2.2.2.2 F.2 hC) hk q1 e1 e2 e3 rfl rfl ?_ ?_ ?_ ?_) ?_ hl hv.2.2
    · intro b i hb; simp only [pmu, if_neg hb]
    · intro b i hb; rfl
    · simp [pmFv, hft, pmu, setR, pmur, cv]
    · simp only [pmu, true_and, if_true]; exact hv.1
    · intro q hq
      rcases List.mem_append.mp hq with g | g
      · exact hL q g
      · rw [List.mem_singleton.mp g]; exact hlo
  · exact k.elim
theorem sm_putIF (F : pmF p s m args c G nL cl kt Ts own cc) {ci k idx : Nat} {ki : Int} {ref C : String} {T : u_T} {N : Nat} {ty : Nat → FieldType} (hC : pmC Ts cl ft ci C T N ty) (hki : ki = (k : Int)) (hk : k < N) (hft : ft ci k = false) (hty : ty k = .int) (hfin : (T k).2.2.2 = true) (hin2 : meth.name = "<init>") (hdecl : (T k).1 = own) (hlink : Cond.fieldLink own idx ref (T k).2.1 (T k).2.2.1 ∈ Ts) (hsame : ∀ x, s.fieldFound? (T k).1 (T k).2.1 (T k).2.2.1 = some x → s.fieldFound? ref (T k).2.1 (T k).2.2.1 = some x) (d : decode cc pc = .ok (.putfield idx, 3)) (h : pm_le K (pmV p l e R s m args below meth c G lo H0 nL cl ft Qf (pc + 3))) : pm_le (i_putI K ci ki) (pmV p l e R s m args below meth c G lo H0 nL cl ft Qf pc) := by
  intro ls st B S D k H locs la cells slots hc hs hR hL hl hv
  subst hki
  rename_i kf0
  unfold i_putI at k
  split at k
  · rename_i x a r
    obtain ⟨hS1, k⟩ := k
    obtain ⟨hlo, hlt, hO, -⟩ := hR.2.2.2 a _ hS1
    obtain ⟨r1, hr1, hob, hrng, hmon⟩ := hO hC.1
    have e1 := Option.some.inj (hr1.symm.trans hC.2.1)
    subst e1
    obtain ⟨cell, q1, q2, q3, q4⟩ := hob
    obtain ⟨hSl, hfc, kC, hkC, hkind⟩ := F.2.1 ci _ hC.2.1
    obtain ⟨cf, kf, fi, f, hi, hsl⟩ := hSl _ hk
    have hlay := F.1.2.2.2.2 _ (hC.2.2.1 _ (u_in_lay hk))
    unfold u_lay at hlay
    rw [if_pos hfin] at hlay
    have hst := (u_facts hfc hkC (u_lays F.1.2.2.2.2 hC.2.2.1 hk) hi).1
    simp only [List.forall_mem_cons] at hv
    have hcf : m.cls = cf := by
      obtain ⟨_, _, c', _, _, _, -, -, hf', -, -, -, hown2, -⟩ := Cond.laysFinal_spec hlay
      have e1 : c' = cf := by have := hi.symm.trans hf'; simp at this; exact this.1.symm
      rw [hdecl] at hown2
      rw [← e1]; exact Option.some.inj (F.1.2.2.2.1.symm.trans hown2)
    have h6 := u_fits hfc hkC hkind (Or.inr hlay) hi (hC.2.2.2.1 _ hk) (fits_int hty x).1 (fits_int hty x).2
    refine W.putFinK F.1.1 F.1.2.1 F.1.2.2.2.1 (F.1.2.2.2.2 _ hlink) (hsame _ hi) hst hcf hin2 (by rw [q2]; exact h6) q1 q3 (by rw [hsl]; exact k2_hasslot (q4 _ hk)) rfl rfl d fun H' e1 e2 e3 => ?_
    rw [hsl] at e1 ⊢
    refine h _ _ _ _ _ k H' _ la cells slots hc hs (hR.putf hC hS1 (pm_apart F.1.2.2.2.2 F.2 hC) hk q1 e1 e2 e3 rfl rfl ?_ ?_ ?_ ?_) ?_ hl hv.2.2
    · intro b i hb; simp only [pmu, if_neg hb]
    · intro b i hb; rfl
    · simp [pmFv, hft, pmu, setR, pmur, cv]
    · simp only [pmu, true_and, if_true]; exact hv.1
    · intro q hq
      rcases List.mem_append.mp hq with g | g
      · exact hL q g
      · rw [List.mem_singleton.mp g]; exact hlo
  · exact k.elim
theorem sm_putZ (F : pmF p s m args c G nL cl kt Ts own cc) {ci k idx : Nat} {ki : Int} {ref C : String} {T : u_T} {N : Nat} {ty : Nat → FieldType} (hC : pmC Ts cl ft ci C T N ty) (hki : ki = (k : Int)) (hk : k < N) (hft : ft ci k = false) (hty : ty k = .boolean) (hfin : (T k).2.2.2 = false) (hlink : Cond.fieldLink own idx ref (T k).2.1 (T k).2.2.1 ∈ Ts) (hsame : ∀ x, s.fieldFound? (T k).1 (T k).2.1 (T k).2.2.1 = some x → s.fieldFound? ref (T k).2.1 (T k).2.2.1 = some x) (d : decode cc pc = .ok (.putfield idx, 3)) (h : pm_le K (pmV p l e R s m args below meth c G lo H0 nL cl ft Qf (pc + 3))) : pm_le (i_putZ K ci ki) (pmV p l e R s m args below meth c G lo H0 nL cl ft Qf pc) := by
  intro ls st B S D k H locs la cells slots hc hs hR hL hl hv
  subst hki
  rename_i kf0
  unfold i_putZ at k
  split at k
  · rename_i x a r
    obtain ⟨hx, hS1, k⟩ := k
    obtain ⟨hlo, hlt, hO, -⟩ := hR.2.2.2 a _ hS1
    obtain ⟨r1, hr1, hob, hrng, hmon⟩ := hO hC.1
    have e1 := Option.some.inj (hr1.symm.trans hC.2.1)
    subst e1
    obtain ⟨cell, q1, q2, q3, q4⟩ := hob
    obtain ⟨hSl, hfc, kC, hkC, hkind⟩ := F.2.1 ci _ hC.2.1
    obtain ⟨cf, kf, fi, f, hi, hsl⟩ := hSl _ hk
    have hlay := F.1.2.2.2.2 _ (hC.2.2.1 _ (u_in_lay hk))
    unfold u_lay at hlay
    rw [if_neg (by rw [hfin]; decide)] at hlay
    have hst := (u_facts hfc hkC (u_lays F.1.2.2.2.2 hC.2.2.1 hk) hi).1
    simp only [List.forall_mem_cons] at hv
    have h6 := u_store hfc hkC hkind hlay hi (hC.2.2.2.1 _ hk) (fits_bool hty hx).1 (fits_bool hty hx).2
    refine W.putK F.1.1 F.1.2.1 (f := f) ⟨F.1.2.2.2.1, F.1.2.2.2.2 _ hlink, ⟨_, _, _, hsame _ hi⟩, hst⟩ (by rw [q2]; exact h6) q1 q3 (by rw [hsl]; exact k2_hasslot (q4 _ hk)) rfl rfl d fun H' e1 e2 e3 => ?_
    rw [hsl] at e1 ⊢
    refine h _ _ _ _ _ k H' _ la cells slots hc hs (hR.putf hC hS1 (pm_apart F.1.2.2.2.2 F.2 hC) hk q1 e1 e2 e3 rfl rfl ?_ ?_ ?_ ?_) ?_ hl hv.2.2
    · intro b i hb; simp only [pmu, if_neg hb]
    · intro b i hb; rfl
    · simp [pmFv, hft, pmu, setR, pmur, cv]
    · simp only [pmu, true_and, if_true]; exact hv.1
    · intro q hq
      rcases List.mem_append.mp hq with g | g
      · exact hL q g
      · rw [List.mem_singleton.mp g]; exact hlo
  · exact k.elim
theorem sm_putZN (F : pmF p s m args c G nL cl kt Ts own cc) {ci k idx : Nat} {ki : Int} {ref C host : String} {T : u_T} {N : Nat} {ty : Nat → FieldType} (hC : pmC Ts cl ft ci C T N ty) (hki : ki = (k : Int)) (hk : k < N) (hft : ft ci k = false) (hty : ty k = .boolean) (hfin : (T k).2.2.2 = false) (hlink : va_Nw (.fieldLinkNest own idx ref (T k).2.1 (T k).2.2.1 host) s) (hsame : ∀ x, s.fieldFound? (T k).1 (T k).2.1 (T k).2.2.1 = some x → s.fieldFound? ref (T k).2.1 (T k).2.2.1 = some x) (d : decode cc pc = .ok (.putfield idx, 3)) (h : pm_le K (pmV p l e R s m args below meth c G lo H0 nL cl ft Qf (pc + 3))) : pm_le (i_putZ K ci ki) (pmV p l e R s m args below meth c G lo H0 nL cl ft Qf pc) := by
  intro ls st B S D k H locs la cells slots hc hs hR hL hl hv
  subst hki
  rename_i kf0
  unfold i_putZ at k
  split at k
  · rename_i x a r
    obtain ⟨hx, hS1, k⟩ := k
    obtain ⟨hlo, hlt, hO, -⟩ := hR.2.2.2 a _ hS1
    obtain ⟨r1, hr1, hob, hrng, hmon⟩ := hO hC.1
    have e1 := Option.some.inj (hr1.symm.trans hC.2.1)
    subst e1
    obtain ⟨cell, q1, q2, q3, q4⟩ := hob
    obtain ⟨hSl, hfc, kC, hkC, hkind⟩ := F.2.1 ci _ hC.2.1
    obtain ⟨cf, kf, fi, f, hi, hsl⟩ := hSl _ hk
    have hlay := F.1.2.2.2.2 _ (hC.2.2.1 _ (u_in_lay hk))
    unfold u_lay at hlay
    rw [if_neg (by rw [hfin]; decide)] at hlay
    have hst := (u_facts hfc hkC (u_lays F.1.2.2.2.2 hC.2.2.1 hk) hi).1
    simp only [List.forall_mem_cons] at hv
    have h6 := u_store hfc hkC hkind hlay hi (hC.2.2.2.1 _ hk) (fits_bool hty hx).1 (fits_bool hty hx).2
    refine va_WputK F.1.1 F.1.2.1 (f := f) F.1.2.2.2.1 (va_Nw.use rfl hlink) (hsame _ hi) hst (by rw [q2]; exact h6) q1 q3 (by rw [hsl]; exact k2_hasslot (q4 _ hk)) rfl rfl d fun H' e1 e2 e3 => ?_
    rw [hsl] at e1 ⊢
    refine h _ _ _ _ _ k H' _ la cells slots hc hs (hR.putf hC hS1 (pm_apart F.1.2.2.2.2 F.2 hC) hk q1 e1 e2 e3 rfl rfl ?_ ?_ ?_ ?_) ?_ hl hv.2.2
    · intro b i hb; simp only [pmu, if_neg hb]
    · intro b i hb; rfl
    · simp [pmFv, hft, pmu, setR, pmur, cv]
    · simp only [pmu, true_and, if_true]; exact hv.1
    · intro q hq
      rcases List.mem_append.mp hq with g | g
      · exact hL q g
      · rw [List.mem_singleton.mp g]; exact hlo
  · exact k.elim
theorem sm_putZF (F : pmF p s m args c G nL cl kt Ts own cc) {ci k idx : Nat} {ki : Int} {ref C : String} {T : u_T} {N : Nat} {ty : Nat → FieldType} (hC : pmC Ts cl ft ci C T N ty) (hki : ki = (k : Int)) (hk : k < N) (hft : ft ci k = false) (hty : ty k = .boolean) (hfin : (T k).2.2.2 = true) (hin2 : meth.name = "<init>") (hdecl : (T k).1 = own) (hlink : Cond.fieldLink own idx ref (T k).2.1 (T k).2.2.1 ∈ Ts) (hsame : ∀ x, s.fieldFound? (T k).1 (T k).2.1 (T k).2.2.1 = some x → s.fieldFound? ref (T k).2.1 (T k).2.2.1 = some x) (d : decode cc pc = .ok (.putfield idx, 3)) (h : pm_le K (pmV p l e R s m args below meth c G lo H0 nL cl ft Qf (pc + 3))) : pm_le (i_putZ K ci ki) (pmV p l e R s m args below meth c G lo H0 nL cl ft Qf pc) := by
  intro ls st B S D k H locs la cells slots hc hs hR hL hl hv
  subst hki
  rename_i kf0
  unfold i_putZ at k
  split at k
  · rename_i x a r
    obtain ⟨hx, hS1, k⟩ := k
    obtain ⟨hlo, hlt, hO, -⟩ := hR.2.2.2 a _ hS1
    obtain ⟨r1, hr1, hob, hrng, hmon⟩ := hO hC.1
    have e1 := Option.some.inj (hr1.symm.trans hC.2.1)
    subst e1
    obtain ⟨cell, q1, q2, q3, q4⟩ := hob
    obtain ⟨hSl, hfc, kC, hkC, hkind⟩ := F.2.1 ci _ hC.2.1
    obtain ⟨cf, kf, fi, f, hi, hsl⟩ := hSl _ hk
    have hlay := F.1.2.2.2.2 _ (hC.2.2.1 _ (u_in_lay hk))
    unfold u_lay at hlay
    rw [if_pos hfin] at hlay
    have hst := (u_facts hfc hkC (u_lays F.1.2.2.2.2 hC.2.2.1 hk) hi).1
    simp only [List.forall_mem_cons] at hv
    have hcf : m.cls = cf := by
      obtain ⟨_, _, c', _, _, _, -, -, hf', -, -, -, hown2, -⟩ := Cond.laysFinal_spec hlay
      have e1 : c' = cf := by have := hi.symm.trans hf'; simp at this; exact this.1.symm
      rw [hdecl] at hown2
      rw [← e1]; exact Option.some.inj (F.1.2.2.2.1.symm.trans hown2)
    have h6 := u_fits hfc hkC hkind (Or.inr hlay) hi (hC.2.2.2.1 _ hk) (fits_bool hty hx).1 (fits_bool hty hx).2
    refine W.putFinK F.1.1 F.1.2.1 F.1.2.2.2.1 (F.1.2.2.2.2 _ hlink) (hsame _ hi) hst hcf hin2 (by rw [q2]; exact h6) q1 q3 (by rw [hsl]; exact k2_hasslot (q4 _ hk)) rfl rfl d fun H' e1 e2 e3 => ?_
    rw [hsl] at e1 ⊢
    refine h _ _ _ _ _ k H' _ la cells slots hc hs (hR.putf hC hS1 (pm_apart F.1.2.2.2.2 F.2 hC) hk q1 e1 e2 e3 rfl rfl ?_ ?_ ?_ ?_) ?_ hl hv.2.2
    · intro b i hb; simp only [pmu, if_neg hb]
    · intro b i hb; rfl
    · simp [pmFv, hft, pmu, setR, pmur, cv]
    · simp only [pmu, true_and, if_true]; exact hv.1
    · intro q hq
      rcases List.mem_append.mp hq with g | g
      · exact hL q g
      · rw [List.mem_singleton.mp g]; exact hlo
  · exact k.elim
theorem sm_putR (F : pmF p s m args c G nL cl kt Ts own cc) {ci k idx : Nat} {ki : Int} {ref C : String} {T : u_T} {N : Nat} {ty : Nat → FieldType} (hC : pmC Ts cl ft ci C T N ty) (hki : ki = (k : Int)) (hk : k < N) (hft : ft ci k = true) (hty : (∃ n, ty k = .object n) ∨ ∃ t, ty k = .array t) (hfin : (T k).2.2.2 = false) (hlink : Cond.fieldLink own idx ref (T k).2.1 (T k).2.2.1 ∈ Ts) (hsame : ∀ x, s.fieldFound? (T k).1 (T k).2.1 (T k).2.2.1 = some x → s.fieldFound? ref (T k).2.1 (T k).2.2.1 = some x) (d : decode cc pc = .ok (.putfield idx, 3)) (h : pm_le K (pmV p l e R s m args below meth c G lo H0 nL cl ft Qf (pc + 3))) : pm_le (i_putR K ci ki) (pmV p l e R s m args below meth c G lo H0 nL cl ft Qf pc) := by
  intro ls st B S D k H locs la cells slots hc hs hR hL hl hv
  subst hki
  rename_i kf0
  unfold i_putR at k
  split at k
  · rename_i x a r
    obtain ⟨hS1, k⟩ := k
    obtain ⟨hlo, hlt, hO, -⟩ := hR.2.2.2 a _ hS1
    obtain ⟨r1, hr1, hob, hrng, hmon⟩ := hO hC.1
    have e1 := Option.some.inj (hr1.symm.trans hC.2.1)
    subst e1
    obtain ⟨cell, q1, q2, q3, q4⟩ := hob
    obtain ⟨hSl, hfc, kC, hkC, hkind⟩ := F.2.1 ci _ hC.2.1
    obtain ⟨cf, kf, fi, f, hi, hsl⟩ := hSl _ hk
    have hlay := F.1.2.2.2.2 _ (hC.2.2.1 _ (u_in_lay hk))
    unfold u_lay at hlay
    rw [if_neg (by rw [hfin]; decide)] at hlay
    have hst := (u_facts hfc hkC (u_lays F.1.2.2.2.2 hC.2.2.1 hk) hi).1
    simp only [List.forall_mem_cons] at hv
    have h6 := u_store hfc hkC hkind hlay hi (hC.2.2.2.1 _ hk) (fits_rf hty x).1 (fits_rf hty x).2
    refine W.putK F.1.1 F.1.2.1 (f := f) ⟨F.1.2.2.2.1, F.1.2.2.2.2 _ hlink, ⟨_, _, _, hsame _ hi⟩, hst⟩ (by rw [q2]; exact h6) q1 q3 (by rw [hsl]; exact k2_hasslot (q4 _ hk)) rfl rfl d fun H' e1 e2 e3 => ?_
    rw [hsl] at e1 ⊢
    refine h _ _ _ _ _ k H' _ la cells slots hc hs (hR.putf hC hS1 (pm_apart F.1.2.2.2.2 F.2 hC) hk q1 e1 e2 e3 rfl rfl ?_ ?_ ?_ ?_) ?_ hl hv.2.2
    · intro b i hb; rfl
    · intro b i hb; simp only [setR, pmur, if_neg hb]
    · simp [pmFv, hft, pmu, setR, pmur, cv]
    · exact hrng _ hk
    · intro q hq
      rcases List.mem_append.mp hq with g | g
      · exact hL q g
      · rw [List.mem_singleton.mp g]; exact hlo
  · exact k.elim
theorem sm_putRN (F : pmF p s m args c G nL cl kt Ts own cc) {ci k idx : Nat} {ki : Int} {ref C host : String} {T : u_T} {N : Nat} {ty : Nat → FieldType} (hC : pmC Ts cl ft ci C T N ty) (hki : ki = (k : Int)) (hk : k < N) (hft : ft ci k = true) (hty : (∃ n, ty k = .object n) ∨ ∃ t, ty k = .array t) (hfin : (T k).2.2.2 = false) (hlink : va_Nw (.fieldLinkNest own idx ref (T k).2.1 (T k).2.2.1 host) s) (hsame : ∀ x, s.fieldFound? (T k).1 (T k).2.1 (T k).2.2.1 = some x → s.fieldFound? ref (T k).2.1 (T k).2.2.1 = some x) (d : decode cc pc = .ok (.putfield idx, 3)) (h : pm_le K (pmV p l e R s m args below meth c G lo H0 nL cl ft Qf (pc + 3))) : pm_le (i_putR K ci ki) (pmV p l e R s m args below meth c G lo H0 nL cl ft Qf pc) := by
  intro ls st B S D k H locs la cells slots hc hs hR hL hl hv
  subst hki
  rename_i kf0
  unfold i_putR at k
  split at k
  · rename_i x a r
    obtain ⟨hS1, k⟩ := k
    obtain ⟨hlo, hlt, hO, -⟩ := hR.2.2.2 a _ hS1
    obtain ⟨r1, hr1, hob, hrng, hmon⟩ := hO hC.1
    have e1 := Option.some.inj (hr1.symm.trans hC.2.1)
    subst e1
    obtain ⟨cell, q1, q2, q3, q4⟩ := hob
    obtain ⟨hSl, hfc, kC, hkC, hkind⟩ := F.2.1 ci _ hC.2.1
    obtain ⟨cf, kf, fi, f, hi, hsl⟩ := hSl _ hk
    have hlay := F.1.2.2.2.2 _ (hC.2.2.1 _ (u_in_lay hk))
    unfold u_lay at hlay
    rw [if_neg (by rw [hfin]; decide)] at hlay
    have hst := (u_facts hfc hkC (u_lays F.1.2.2.2.2 hC.2.2.1 hk) hi).1
    simp only [List.forall_mem_cons] at hv
    have h6 := u_store hfc hkC hkind hlay hi (hC.2.2.2.1 _ hk) (fits_rf hty x).1 (fits_rf hty x).2
    refine va_WputK F.1.1 F.1.2.1 (f := f) F.1.2.2.2.1 (va_Nw.use rfl hlink) (hsame _ hi) hst (by rw [q2]; exact h6) q1 q3 (by rw [hsl]; exact k2_hasslot (q4 _ hk)) rfl rfl d fun H' e1 e2 e3 => ?_
    rw [hsl] at e1 ⊢
    refine h _ _ _ _ _ k H' _ la cells slots hc hs (hR.putf hC hS1 (pm_apart F.1.2.2.2.2 F.2 hC) hk q1 e1 e2 e3 rfl rfl ?_ ?_ ?_ ?_) ?_ hl hv.2.2
    · intro b i hb; rfl
    · intro b i hb; simp only [setR, pmur, if_neg hb]
    · simp [pmFv, hft, pmu, setR, pmur, cv]
    · exact hrng _ hk
    · intro q hq
      rcases List.mem_append.mp hq with g | g
      · exact hL q g
      · rw [List.mem_singleton.mp g]; exact hlo
  · exact k.elim
theorem sm_putRF (F : pmF p s m args c G nL cl kt Ts own cc) {ci k idx : Nat} {ki : Int} {ref C : String} {T : u_T} {N : Nat} {ty : Nat → FieldType} (hC : pmC Ts cl ft ci C T N ty) (hki : ki = (k : Int)) (hk : k < N) (hft : ft ci k = true) (hty : (∃ n, ty k = .object n) ∨ ∃ t, ty k = .array t) (hfin : (T k).2.2.2 = true) (hin2 : meth.name = "<init>") (hdecl : (T k).1 = own) (hlink : Cond.fieldLink own idx ref (T k).2.1 (T k).2.2.1 ∈ Ts) (hsame : ∀ x, s.fieldFound? (T k).1 (T k).2.1 (T k).2.2.1 = some x → s.fieldFound? ref (T k).2.1 (T k).2.2.1 = some x) (d : decode cc pc = .ok (.putfield idx, 3)) (h : pm_le K (pmV p l e R s m args below meth c G lo H0 nL cl ft Qf (pc + 3))) : pm_le (i_putR K ci ki) (pmV p l e R s m args below meth c G lo H0 nL cl ft Qf pc) := by
  intro ls st B S D k H locs la cells slots hc hs hR hL hl hv
  subst hki
  rename_i kf0
  unfold i_putR at k
  split at k
  · rename_i x a r
    obtain ⟨hS1, k⟩ := k
    obtain ⟨hlo, hlt, hO, -⟩ := hR.2.2.2 a _ hS1
    obtain ⟨r1, hr1, hob, hrng, hmon⟩ := hO hC.1
    have e1 := Option.some.inj (hr1.symm.trans hC.2.1)
    subst e1
    obtain ⟨cell, q1, q2, q3, q4⟩ := hob
    obtain ⟨hSl, hfc, kC, hkC, hkind⟩ := F.2.1 ci _ hC.2.1
    obtain ⟨cf, kf, fi, f, hi, hsl⟩ := hSl _ hk
    have hlay := F.1.2.2.2.2 _ (hC.2.2.1 _ (u_in_lay hk))
    unfold u_lay at hlay
    rw [if_pos hfin] at hlay
    have hst := (u_facts hfc hkC (u_lays F.1.2.2.2.2 hC.2.2.1 hk) hi).1
    simp only [List.forall_mem_cons] at hv
    have hcf : m.cls = cf := by
      obtain ⟨_, _, c', _, _, _, -, -, hf', -, -, -, hown2, -⟩ := Cond.laysFinal_spec hlay
      have e1 : c' = cf := by have := hi.symm.trans hf'; simp at this; exact this.1.symm
      rw [hdecl] at hown2
      rw [← e1]; exact Option.some.inj (F.1.2.2.2.1.symm.trans hown2)
    have h6 := u_fits hfc hkC hkind (Or.inr hlay) hi (hC.2.2.2.1 _ hk) (fits_rf hty x).1 (fits_rf hty x).2
    refine W.putFinK F.1.1 F.1.2.1 F.1.2.2.2.1 (F.1.2.2.2.2 _ hlink) (hsame _ hi) hst hcf hin2 (by rw [q2]; exact h6) q1 q3 (by rw [hsl]; exact k2_hasslot (q4 _ hk)) rfl rfl d fun H' e1 e2 e3 => ?_
    rw [hsl] at e1 ⊢
    refine h _ _ _ _ _ k H' _ la cells slots hc hs (hR.putf hC hS1 (pm_apart F.1.2.2.2.2 F.2 hC) hk q1 e1 e2 e3 rfl rfl ?_ ?_ ?_ ?_) ?_ hl hv.2.2
    · intro b i hb; rfl
    · intro b i hb; simp only [setR, pmur, if_neg hb]
    · simp [pmFv, hft, pmu, setR, pmur, cv]
    · exact hrng _ hk
    · intro q hq
      rcases List.mem_append.mp hq with g | g
      · exact hL q g
      · rw [List.mem_singleton.mp g]; exact hlo
  · exact k.elim
theorem pmR.arr {S : Stat} {D : Dat} {H : Heap} (hR : pmR G cl ft lo H0 S D H) {a t n : Nat} (hS1 : S.1 a = some (t, n)) (ht : 100 ≤ t) : lo ≤ a ∧ pmAr G S D H a t n := by
  obtain ⟨hlo, hlt, -, hA⟩ := hR.2.2.2 a _ hS1
  exact ⟨hlo, hA ht⟩
theorem pmR.puta {S S' : Stat} {D D' : Dat} {H H' : Heap} (hR : pmR G cl ft lo H0 S D H) {a t n k : Nat} (hS1 : S.1 a = some (t, n)) (ht : 100 ≤ t) (hk : k < n) {v : Value} (e1 : H'[a]? = some ((arrV (G.2 t) n (pmAv t S D a)).setSlot k v)) (e2 : H'.size = H.size) (e3 : ∀ q, q ≠ a → H'[q]? = H[q]?) (hz : S'.2.2 = S.2.2) (hS : S'.1 = S.1) (hD : ∀ b i, ¬ (b = a ∧ i = (k : Int)) → D' b i = D b i) (hRR : ∀ b i, ¬ (b = a ∧ i = (k : Int)) → S'.2.1 b i = S.2.1 b i) (hv : pmAv t S' D' a k = v) (hi : (t < 104 → inI (D' a k)) ∧ (t = 104 → inL (D' a k))) : pmR G cl ft lo H0 S' D' H' := by
  obtain ⟨hlo, g1, g2, g3⟩ := hR.arr hS1 ht
  refine hR.put hlo e2 e3 hz hS (fun b i hb => hD b i fun q => hb q.1) (fun b i hb => hRR b i fun q => hb q.1) fun q hq => ?_
  have eq1 := Option.some.inj (hS1.symm.trans hq)
  subst eq1
  have hoff : ∀ j : Nat, j ≠ k → D' a j = D a j := fun j hj => hD a j fun q => hj (by have := q.2; omega)
  refine ⟨fun h100 => absurd h100 (by simp only; omega), fun _ => ⟨?_, fun h1 j hj => ?_, fun h1 j hj => ?_⟩⟩
  · rw [e1, arrV_store]
    congr 2
    funext j
    by_cases hjk : j = k
    · subst hjk; simp [updV, hv]
    · simp only [updV, if_neg hjk, pmAv]
      rw [hoff j hjk, hRR a j (fun q => hjk (by have := q.2; omega))]
  · by_cases hjk : j = k
    · subst hjk; exact hi.1 h1
    · rw [hoff j hjk]; exact g2 h1 j hj
  · by_cases hjk : j = k
    · subst hjk; exact hi.2 h1
    · rw [hoff j hjk]; exact g3 h1 j hj
theorem nar_b {x : Int} (h : -128 ≤ x ∧ x < 128) : narrow .byte (.int (Int32.ofInt x)) = .int (Int32.ofInt x) := by
  show Value.int (Int32.ofInt x).toInt8.toInt32 = _
  rw [w8 h.1 h.2]
theorem nar_s {x : Int} (h : -32768 ≤ x ∧ x < 32768) : narrow .short (.int (Int32.ofInt x)) = .int (Int32.ofInt x) := by
  show Value.int (Int32.ofInt x).toInt16.toInt32 = _
  rw [w16 h.1 h.2]
theorem nar_z {x : Int} (h : x = 0 ∨ x = 1) : narrow .boolean (.int (Int32.ofInt x)) = .int (Int32.ofInt x) := (fits_bool rfl h).1
theorem sm_iald (F : pmF p s m args c G nL cl kt Ts own cc) (hkt : (100, .int) ∈ kt) (d : decode cc pc = .ok (.iaload, 1)) (h : pm_le K (pmV p l e R s m args below meth c G lo H0 nL cl ft Qf (pc + 1))) : pm_le (i_ald K 100) (pmV p l e R s m args below meth c G lo H0 nL cl ft Qf pc) := by
  intro ls st B S D k H locs la cells slots hc hs hR hL hl hv
  unfold i_ald at k
  split at k
  · rename_i i a r
    obtain ⟨n, hS1, hi0, hi1, k⟩ := k
    simp only [List.forall_mem_cons] at hv
    obtain ⟨hlo, g1, g2, g3⟩ := hR.arr hS1 (by decide)
    have hcl := clampI hi0 hi1 hv.1
    obtain ⟨j, rfl⟩ := Int.eq_ofNat_of_zero_le hi0
    have hj : j < n := by omega
    have hjc : (Int32.ofInt (j : Int)).toNatClampNeg = j := by rw [hcl]; rfl
    refine W.iald F.1.1 F.1.2.1 (v := .int (Int32.ofInt (D a j))) g1 ((F.2.2 _ _ hkt).1 n _) (fun q => by cases q) (idxI hi0 hi1 hv.1) ?_ rfl rfl d (h _ _ _ _ _ k H locs la cells slots hc hs hR hL hl (by simp only [List.forall_mem_cons]; exact ⟨g2 (by decide) j hj, hv.2.2⟩))
    rw [hjc, arrV_read _ _ hj]
    rfl
  · exact k.elim
theorem sm_bald (F : pmF p s m args c G nL cl kt Ts own cc) (hkt : (101, .byte) ∈ kt) (d : decode cc pc = .ok (.baload, 1)) (h : pm_le K (pmV p l e R s m args below meth c G lo H0 nL cl ft Qf (pc + 1))) : pm_le (i_ald K 101) (pmV p l e R s m args below meth c G lo H0 nL cl ft Qf pc) := by
  intro ls st B S D k H locs la cells slots hc hs hR hL hl hv
  unfold i_ald at k
  split at k
  · rename_i i a r
    obtain ⟨n, hS1, hi0, hi1, k⟩ := k
    simp only [List.forall_mem_cons] at hv
    obtain ⟨hlo, g1, g2, g3⟩ := hR.arr hS1 (by decide)
    have hcl := clampI hi0 hi1 hv.1
    obtain ⟨j, rfl⟩ := Int.eq_ofNat_of_zero_le hi0
    have hj : j < n := by omega
    have hjc : (Int32.ofInt (j : Int)).toNatClampNeg = j := by rw [hcl]; rfl
    refine W.bald F.1.1 F.1.2.1 (v := .int (Int32.ofInt (D a j))) g1 ((F.2.2 _ _ hkt).1 n _) (fun q => by cases q) (idxI hi0 hi1 hv.1) ?_ rfl rfl d (h _ _ _ _ _ k H locs la cells slots hc hs hR hL hl (by simp only [List.forall_mem_cons]; exact ⟨g2 (by decide) j hj, hv.2.2⟩))
    rw [hjc, arrV_read _ _ hj]
    rfl
  · exact k.elim
theorem sm_sald (F : pmF p s m args c G nL cl kt Ts own cc) (hkt : (102, .short) ∈ kt) (d : decode cc pc = .ok (.saload, 1)) (h : pm_le K (pmV p l e R s m args below meth c G lo H0 nL cl ft Qf (pc + 1))) : pm_le (i_ald K 102) (pmV p l e R s m args below meth c G lo H0 nL cl ft Qf pc) := by
  intro ls st B S D k H locs la cells slots hc hs hR hL hl hv
  unfold i_ald at k
  split at k
  · rename_i i a r
    obtain ⟨n, hS1, hi0, hi1, k⟩ := k
    simp only [List.forall_mem_cons] at hv
    obtain ⟨hlo, g1, g2, g3⟩ := hR.arr hS1 (by decide)
    have hcl := clampI hi0 hi1 hv.1
    obtain ⟨j, rfl⟩ := Int.eq_ofNat_of_zero_le hi0
    have hj : j < n := by omega
    have hjc : (Int32.ofInt (j : Int)).toNatClampNeg = j := by rw [hcl]; rfl
    refine W.sald F.1.1 F.1.2.1 (v := .int (Int32.ofInt (D a j))) g1 ((F.2.2 _ _ hkt).1 n _) (fun q => by cases q) (idxI hi0 hi1 hv.1) ?_ rfl rfl d (h _ _ _ _ _ k H locs la cells slots hc hs hR hL hl (by simp only [List.forall_mem_cons]; exact ⟨g2 (by decide) j hj, hv.2.2⟩))
    rw [hjc, arrV_read _ _ hj]
    rfl
  · exact k.elim
theorem sm_zald (F : pmF p s m args c G nL cl kt Ts own cc) (hkt : (103, .boolean) ∈ kt) (d : decode cc pc = .ok (.baload, 1)) (h : pm_le K (pmV p l e R s m args below meth c G lo H0 nL cl ft Qf (pc + 1))) : pm_le (i_ald K 103) (pmV p l e R s m args below meth c G lo H0 nL cl ft Qf pc) := by
  intro ls st B S D k H locs la cells slots hc hs hR hL hl hv
  unfold i_ald at k
  split at k
  · rename_i i a r
    obtain ⟨n, hS1, hi0, hi1, k⟩ := k
    simp only [List.forall_mem_cons] at hv
    obtain ⟨hlo, g1, g2, g3⟩ := hR.arr hS1 (by decide)
    have hcl := clampI hi0 hi1 hv.1
    obtain ⟨j, rfl⟩ := Int.eq_ofNat_of_zero_le hi0
    have hj : j < n := by omega
    have hjc : (Int32.ofInt (j : Int)).toNatClampNeg = j := by rw [hcl]; rfl
    refine W.zald F.1.1 F.1.2.1 (v := .int (Int32.ofInt (D a j))) g1 ((F.2.2 _ _ hkt).1 n _) (fun q => by cases q) (idxI hi0 hi1 hv.1) ?_ rfl rfl d (h _ _ _ _ _ k H locs la cells slots hc hs hR hL hl (by simp only [List.forall_mem_cons]; exact ⟨g2 (by decide) j hj, hv.2.2⟩))
    rw [hjc, arrV_read _ _ hj]
    rfl
  · exact k.elim
theorem sm_lald (F : pmF p s m args c G nL cl kt Ts own cc) (hkt : (104, .long) ∈ kt) (d : decode cc pc = .ok (.laload, 1)) (h : pm_le K (pmV p l e R s m args below meth c G lo H0 nL cl ft Qf (pc + 1))) : pm_le (i_ldL K) (pmV p l e R s m args below meth c G lo H0 nL cl ft Qf pc) := by
  intro ls st B S D k H locs la cells slots hc hs hR hL hl hv
  unfold i_ldL at k
  split at k
  · rename_i i a r
    obtain ⟨n, hS1, hi0, hi1, k⟩ := k
    simp only [List.forall_mem_cons] at hv
    obtain ⟨hlo, g1, g2, g3⟩ := hR.arr hS1 (by decide)
    have hcl := clampI hi0 hi1 hv.1
    obtain ⟨j, rfl⟩ := Int.eq_ofNat_of_zero_le hi0
    have hj : j < n := by omega
    have hjc : (Int32.ofInt (j : Int)).toNatClampNeg = j := by rw [hcl]; rfl
    refine W.lald F.1.1 F.1.2.1 (v := .long (Int64.ofInt (D a j))) g1 ((F.2.2 _ _ hkt).1 n _) (fun q => by cases q) (idxI hi0 hi1 hv.1) ?_ rfl rfl d (h _ _ _ _ _ k H locs la cells slots hc hs hR hL hl (by simp only [List.forall_mem_cons]; exact ⟨g3 rfl j hj, hv.2.2⟩))
    rw [hjc, arrV_read _ _ hj]
    rfl
  · exact k.elim
theorem sm_aald (F : pmF p s m args c G nL cl kt Ts own cc) {t : Nat} {ty : FieldType} (ht : 104 < t) (hkt : (t, ty) ∈ kt) (hty : ty.isReference = true) (d : decode cc pc = .ok (.aaload, 1)) (h : pm_le K (pmV p l e R s m args below meth c G lo H0 nL cl ft Qf (pc + 1))) : pm_le (i_ldR K t) (pmV p l e R s m args below meth c G lo H0 nL cl ft Qf pc) := by
  intro ls st B S D k H locs la cells slots hc hs hR hL hl hv
  unfold i_ldR at k
  split at k
  · rename_i i a r
    obtain ⟨n, hS1, hi0, hi1, k⟩ := k
    simp only [List.forall_mem_cons] at hv
    obtain ⟨hlo, g1, g2, g3⟩ := hR.arr hS1 (by omega)
    have hcl := clampI hi0 hi1 hv.1
    obtain ⟨j, rfl⟩ := Int.eq_ofNat_of_zero_le hi0
    have hj : j < n := by omega
    have hjc : (Int32.ofInt (j : Int)).toNatClampNeg = j := by rw [hcl]; rfl
    refine W.aald F.1.1 F.1.2.1 (v := va_rf (S.2.1 a j)) (ty := ty) g1 ((F.2.2 _ _ hkt).1 n _) hty (fun q => by cases q) (idxI hi0 hi1 hv.1) ?_ rfl rfl d (h _ _ _ _ _ k H locs la cells slots hc hs hR hL hl (by simp only [List.forall_mem_cons]; exact ⟨trivial, hv.2.2⟩))
    rw [hjc, arrV_read _ _ hj]
    simp only [pmAv]
    rw [if_neg (by omega), if_neg (by omega)]
  · exact k.elim
theorem sm_iast (F : pmF p s m args c G nL cl kt Ts own cc) (hkt : (100, .int) ∈ kt) (d : decode cc pc = .ok (.iastore, 1)) (h : pm_le K (pmV p l e R s m args below meth c G lo H0 nL cl ft Qf (pc + 1))) : pm_le (i_ast K 100) (pmV p l e R s m args below meth c G lo H0 nL cl ft Qf pc) := by
  intro ls st B S D k H locs la cells slots hc hs hR hL hl hv
  unfold i_ast at k
  split at k
  · rename_i x i a r
    obtain ⟨n, hS1, hi0, hi1, hok, k⟩ := k
    simp only [List.forall_mem_cons] at hv
    obtain ⟨hlo, g1, g2, g3⟩ := hR.arr hS1 (by decide)
    have hcl := clampI hi0 hi1 hv.2.1
    obtain ⟨j, rfl⟩ := Int.eq_ofNat_of_zero_le hi0
    have hj : j < n := by omega
    have hjc : (Int32.ofInt (j : Int)).toNatClampNeg = j := by rw [hcl]; rfl
    refine W.iast F.1.1 F.1.2.1 g1 ((F.2.2 _ _ hkt).1 n _) (fun q => by cases q) (idxI hi0 hi1 hv.2.1) rfl rfl d fun H1 e1 e2 e3 => ?_
    rw [hjc] at e1 ⊢
    refine h _ _ _ _ _ k H1 _ la cells slots hc hs (hR.puta hS1 (by decide) hj e1 e2 e3 rfl rfl ?_ ?_ ?_ ?_) ?_ hl hv.2.2.2
    · intro b i hb; simp only [pmu, if_neg hb]
    · intro b i hb; rfl
    · simp [pmAv, pmu, cv]
    · simp only [pmu, true_and, if_true]; exact ⟨fun h1 => hv.1, fun h1 => absurd h1 (by decide)⟩
    · intro q hq
      rcases List.mem_append.mp hq with g | g
      · exact hL q g
      · rw [List.mem_singleton.mp g]; exact hlo
  · exact k.elim
theorem sm_bast (F : pmF p s m args c G nL cl kt Ts own cc) (hkt : (101, .byte) ∈ kt) (d : decode cc pc = .ok (.bastore, 1)) (h : pm_le K (pmV p l e R s m args below meth c G lo H0 nL cl ft Qf (pc + 1))) : pm_le (i_ast K 101) (pmV p l e R s m args below meth c G lo H0 nL cl ft Qf pc) := by
  intro ls st B S D k H locs la cells slots hc hs hR hL hl hv
  unfold i_ast at k
  split at k
  · rename_i x i a r
    obtain ⟨n, hS1, hi0, hi1, hok, k⟩ := k
    simp only [List.forall_mem_cons] at hv
    obtain ⟨hlo, g1, g2, g3⟩ := hR.arr hS1 (by decide)
    have hcl := clampI hi0 hi1 hv.2.1
    obtain ⟨j, rfl⟩ := Int.eq_ofNat_of_zero_le hi0
    have hj : j < n := by omega
    have hjc : (Int32.ofInt (j : Int)).toNatClampNeg = j := by rw [hcl]; rfl
    refine W.bast F.1.1 F.1.2.1 g1 ((F.2.2 _ _ hkt).1 n _) (fun q => by cases q) (idxI hi0 hi1 hv.2.1) rfl rfl d fun H1 e1 e2 e3 => ?_
    rw [hjc] at e1 ⊢
    rw [nar_b (hok.1 rfl)] at e1
    refine h _ _ _ _ _ k H1 _ la cells slots hc hs (hR.puta hS1 (by decide) hj e1 e2 e3 rfl rfl ?_ ?_ ?_ ?_) ?_ hl hv.2.2.2
    · intro b i hb; simp only [pmu, if_neg hb]
    · intro b i hb; rfl
    · simp [pmAv, pmu, cv]
    · simp only [pmu, true_and, if_true]; exact ⟨fun h1 => hv.1, fun h1 => absurd h1 (by decide)⟩
    · intro q hq
      rcases List.mem_append.mp hq with g | g
      · exact hL q g
      · rw [List.mem_singleton.mp g]; exact hlo
  · exact k.elim
theorem sm_sast (F : pmF p s m args c G nL cl kt Ts own cc) (hkt : (102, .short) ∈ kt) (d : decode cc pc = .ok (.sastore, 1)) (h : pm_le K (pmV p l e R s m args below meth c G lo H0 nL cl ft Qf (pc + 1))) : pm_le (i_ast K 102) (pmV p l e R s m args below meth c G lo H0 nL cl ft Qf pc) := by
  intro ls st B S D k H locs la cells slots hc hs hR hL hl hv
  unfold i_ast at k
  split at k
  · rename_i x i a r
    obtain ⟨n, hS1, hi0, hi1, hok, k⟩ := k
    simp only [List.forall_mem_cons] at hv
    obtain ⟨hlo, g1, g2, g3⟩ := hR.arr hS1 (by decide)
    have hcl := clampI hi0 hi1 hv.2.1
    obtain ⟨j, rfl⟩ := Int.eq_ofNat_of_zero_le hi0
    have hj : j < n := by omega
    have hjc : (Int32.ofInt (j : Int)).toNatClampNeg = j := by rw [hcl]; rfl
    refine W.sast F.1.1 F.1.2.1 g1 ((F.2.2 _ _ hkt).1 n _) (fun q => by cases q) (idxI hi0 hi1 hv.2.1) rfl rfl d fun H1 e1 e2 e3 => ?_
    rw [hjc] at e1 ⊢
    rw [nar_s (hok.2.1 rfl)] at e1
    refine h _ _ _ _ _ k H1 _ la cells slots hc hs (hR.puta hS1 (by decide) hj e1 e2 e3 rfl rfl ?_ ?_ ?_ ?_) ?_ hl hv.2.2.2
    · intro b i hb; simp only [pmu, if_neg hb]
    · intro b i hb; rfl
    · simp [pmAv, pmu, cv]
    · simp only [pmu, true_and, if_true]; exact ⟨fun h1 => hv.1, fun h1 => absurd h1 (by decide)⟩
    · intro q hq
      rcases List.mem_append.mp hq with g | g
      · exact hL q g
      · rw [List.mem_singleton.mp g]; exact hlo
  · exact k.elim
theorem sm_zast (F : pmF p s m args c G nL cl kt Ts own cc) (hkt : (103, .boolean) ∈ kt) (d : decode cc pc = .ok (.bastore, 1)) (h : pm_le K (pmV p l e R s m args below meth c G lo H0 nL cl ft Qf (pc + 1))) : pm_le (i_ast K 103) (pmV p l e R s m args below meth c G lo H0 nL cl ft Qf pc) := by
  intro ls st B S D k H locs la cells slots hc hs hR hL hl hv
  unfold i_ast at k
  split at k
  · rename_i x i a r
    obtain ⟨n, hS1, hi0, hi1, hok, k⟩ := k
    simp only [List.forall_mem_cons] at hv
    obtain ⟨hlo, g1, g2, g3⟩ := hR.arr hS1 (by decide)
    have hcl := clampI hi0 hi1 hv.2.1
    obtain ⟨j, rfl⟩ := Int.eq_ofNat_of_zero_le hi0
    have hj : j < n := by omega
    have hjc : (Int32.ofInt (j : Int)).toNatClampNeg = j := by rw [hcl]; rfl
    refine W.zast F.1.1 F.1.2.1 g1 ((F.2.2 _ _ hkt).1 n _) (fun q => by cases q) (idxI hi0 hi1 hv.2.1) rfl rfl d fun H1 e1 e2 e3 => ?_
    rw [hjc] at e1 ⊢
    rw [nar_z (hok.2.2 rfl)] at e1
    refine h _ _ _ _ _ k H1 _ la cells slots hc hs (hR.puta hS1 (by decide) hj e1 e2 e3 rfl rfl ?_ ?_ ?_ ?_) ?_ hl hv.2.2.2
    · intro b i hb; simp only [pmu, if_neg hb]
    · intro b i hb; rfl
    · simp [pmAv, pmu, cv]
    · simp only [pmu, true_and, if_true]; exact ⟨fun h1 => hv.1, fun h1 => absurd h1 (by decide)⟩
    · intro q hq
      rcases List.mem_append.mp hq with g | g
      · exact hL q g
      · rw [List.mem_singleton.mp g]; exact hlo
  · exact k.elim
theorem sm_last (F : pmF p s m args c G nL cl kt Ts own cc) (hkt : (104, .long) ∈ kt) (d : decode cc pc = .ok (.lastore, 1)) (h : pm_le K (pmV p l e R s m args below meth c G lo H0 nL cl ft Qf (pc + 1))) : pm_le (i_stL K) (pmV p l e R s m args below meth c G lo H0 nL cl ft Qf pc) := by
  intro ls st B S D k H locs la cells slots hc hs hR hL hl hv
  unfold i_stL at k
  split at k
  · rename_i x i a r
    obtain ⟨n, hS1, hi0, hi1, k⟩ := k
    simp only [List.forall_mem_cons] at hv
    obtain ⟨hlo, g1, g2, g3⟩ := hR.arr hS1 (by decide)
    have hcl := clampI hi0 hi1 hv.2.1
    obtain ⟨j, rfl⟩ := Int.eq_ofNat_of_zero_le hi0
    have hj : j < n := by omega
    have hjc : (Int32.ofInt (j : Int)).toNatClampNeg = j := by rw [hcl]; rfl
    refine W.last F.1.1 F.1.2.1 g1 ((F.2.2 _ _ hkt).1 n _) (fun q => by cases q) (idxI hi0 hi1 hv.2.1) rfl rfl d fun H1 e1 e2 e3 => ?_
    rw [hjc] at e1 ⊢
    refine h _ _ _ _ _ k H1 _ la cells slots hc hs (hR.puta hS1 (by decide) hj e1 e2 e3 rfl rfl ?_ ?_ ?_ ?_) ?_ hl hv.2.2.2
    · intro b i hb; simp only [pmu, if_neg hb]
    · intro b i hb; rfl
    · simp [pmAv, pmu, cv]
    · simp only [pmu, true_and, if_true]; exact ⟨fun h1 => absurd h1 (by decide), fun h1 => hv.1⟩
    · intro q hq
      rcases List.mem_append.mp hq with g | g
      · exact hL q g
      · rw [List.mem_singleton.mp g]; exact hlo
  · exact k.elim
end SM
