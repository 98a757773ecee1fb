/-! the component's invariant under change -/
-- needs: f1.cinv2
set_option maxRecDepth 100000
set_option linter.unusedVariables false
section CST
variable {S S' : Stat} {D D' : Dat} {C mn w N : Nat} {s : Cst} {lz : Nat → Option Nat} {own : Nat → Nat}
theorem setR_ne {S : Stat} {a b : Nat} {i j : Int} {v : Option Nat} (h : b ≠ a ∨ j ≠ i) : (setR S a i v).2.1 b j = S.2.1 b j := by
  show pmur _ _ _ _ _ _ = _
  simp only [pmur]
  rw [if_neg (fun q => by rcases h with h | h; exact h q.1; exact h q.2)]
/-- cells may be new, and the divider's own references move -/
def cSr (S S' : Stat) (C : Nat) : Prop := S.2.2 ≤ S'.2.2 ∧ (∀ a, a < S.2.2 → S'.1 a = S.1 a) ∧ ∀ a i, a < S.2.2 → ¬ (a = C + 33 ∧ 7 ≤ i ∧ i ≤ 10) → S'.2.1 a i = S.2.1 a i
theorem cSr.rfl : cSr S S C := ⟨Nat.le_refl _, fun _ _ => Eq.refl _, fun _ _ _ _ => Eq.refl _⟩
theorem cSr.tr {S1 S2 : Stat} (h1 : cSr S S1 C) (h2 : cSr S1 S2 C) : cSr S S2 C := ⟨Nat.le_trans h1.1 h2.1, fun a ha => by rw [h2.2.1 a (Nat.lt_of_lt_of_le ha h1.1), h1.2.1 a ha], fun a i ha hn => by rw [h2.2.2 a i (Nat.lt_of_lt_of_le ha h1.1) hn, h1.2.2 a i ha hn]⟩
theorem cSr.nx {n : Nat} (h : S.2.2 ≤ n) : cSr S (S.1, S.2.1, n) C := ⟨h, fun _ _ => Eq.refl _, fun _ _ _ _ => Eq.refl _⟩
theorem dRel.cSr (h : dRel S S' (C + 33)) : cSr S S' C := ⟨by rw [h.2.1]; exact Nat.le_refl _, fun a _ => by rw [h.1], fun a i _ hn => h.2.2 a i (by omega)⟩
theorem cfx.cSr (h : cfx S C) (hn : C + 28386 ≤ S.2.2) (e : cSr S S' C) : cfx S' C := h.cg (fun a ha => e.2.1 a (by omega)) fun a i ha hm => e.2.2 a i (by omega) fun q => hm (by unfold mvg; omega)
theorem clz.cSr (h : clz S C lz own) (e : cSr S S' C) : clz S' C lz own := ⟨Nat.le_trans h.1 e.1, fun i a hi => by
  obtain ⟨h1, h2, h3, h4, h5, h6⟩ := h.2 i a hi
  have h7 := e.1
  have sE : sEq S S' a (lsz i - 1) := fun c c1 c2 => by
    have : 2 ≤ lsz i := by unfold lsz; split <;> omega
    exact ⟨e.2.1 c (by omega), fun j => e.2.2 c j (by omega) (by omega)⟩
  refine ⟨h1, h2, by omega, h4, fun q => (h5 q).sq ?_, fun q => (h6 q).sq ?_⟩
  · have : lsz i = 4 := by unfold lsz; rw [if_pos q]
    exact sE.sub (by omega) (by omega)
  · have : lsz i = 2 := by unfold lsz; rw [if_neg (by omega)]
    exact sE.sub (by omega) (by omega)⟩
theorem cmv.cSr (h : cmv S C lz mn w s) (hn : C + 28386 ≤ S.2.2) (e : cSr S S' C) : cmv S' C lz mn w s := by
  obtain ⟨h1, h2, h3, h4, h5, h6, h7, h8⟩ := h
  have r : ∀ a i, a < C + 819 → a ≠ C + 33 → S'.2.1 a i = S.2.1 a i := fun a i ha hn => e.2.2 a i (by omega) (by omega)
  exact ⟨h1, by rw [r _ _ (by omega) (by omega)]; exact h2, by rw [r _ _ (by omega) (by omega)]; exact h3, by rw [r _ _ (by omega) (by omega)]; exact h4, by rw [r _ _ (by omega) (by omega)]; exact h5, fun p hp => by rw [r _ _ (by omega) (by omega), r _ _ (by omega) (by omega), r _ _ (by omega) (by omega)]; exact h6 p hp, ⟨h7.1, fun k hk => by rw [r _ _ (by omega) (by omega)]; exact h7.2 k hk⟩, fun c g d m st σ hx => by rw [r _ _ (by omega) (by omega)]; exact h8 c g d m st σ hx⟩
theorem coJ.keep (h : coJ S D C s lz own mn w) (hW : crW N s) (hS : cSr S S' C) (e : ∀ c i, qK C w c i → D' c i = D c i) (hc : cSc D' C) : coJ S' D' C s lz own mn w := by
  obtain ⟨h1, h2, h3, h4, h5, h6, h7, h8, h9, h10, h11, h12, h13, h14⟩ := h
  exact ⟨h1.cSr h2.1 hS, h2.cSr hS, h3.cSr h2.1 hS, h4.cgr h2 fun c i q => e c i (.inl q), h5.cgr fun c i q => e c i (.inr (.inl q)), h6.cgr fun c i q => e c i (.inr (.inr (.inl q))), h7.cgr hW.2.2.1.1 fun c i q => e c i (.inr (.inr (.inr (.inl q)))), h8.cgr fun c i q => e c i (.inr (.inr (.inr (.inr (.inl q))))), h9.cgr hW.2.2.2.2.1.1 fun c i q => e c i (.inr (.inr (.inr (.inr (.inr (.inl q)))))), h10.cgr fun c i q => e c i (.inr (.inr (.inr (.inr (.inr (.inr (.inl q))))))), h11.cgr fun c i q => e c i (.inr (.inr (.inr (.inr (.inr (.inr (.inr (.inl q)))))))), h12.cgr fun c i q => e c i (.inr (.inr (.inr (.inr (.inr (.inr (.inr (.inr (.inl q))))))))), h13.cgr fun c i q => e c i (.inr (.inr (.inr (.inr (.inr (.inr (.inr (.inr (.inr q))))))))), hc⟩
/-- parts are apart -/
theorem q_ap {c : Nat} {i : Int} (hw : w ≤ 1) : (qFn C c i → ¬ qTh C c i ∧ ¬ qFx C c i ∧ ¬ qRw C c i ∧ ¬ qId C c i ∧ ¬ qQt C w c i ∧ ¬ qRs C w c i ∧ ¬ qSp C c i ∧ ¬ qRo C c i ∧ ¬ qTx C c i) ∧ (qRw C c i → ¬ qTh C c i ∧ ¬ qFx C c i ∧ ¬ qId C c i ∧ ¬ qQt C w c i ∧ ¬ qRs C w c i ∧ ¬ qSp C c i ∧ ¬ qRo C c i ∧ ¬ qTx C c i) ∧ (qId C c i → ¬ qTh C c i ∧ ¬ qFx C c i ∧ ¬ qQt C w c i ∧ ¬ qRs C w c i ∧ ¬ qSp C c i ∧ ¬ qRo C c i ∧ ¬ qTx C c i) ∧ (qSp C c i → ¬ qTh C c i ∧ ¬ qFx C c i ∧ ¬ qQt C w c i ∧ ¬ qRs C w c i ∧ ¬ qRo C c i ∧ ¬ qTx C c i) ∧ (qRo C c i → ¬ qTh C c i ∧ ¬ qFx C c i ∧ ¬ qQt C w c i ∧ ¬ qRs C w c i ∧ ¬ qTx C c i) ∧ (qTx C c i → ¬ qTh C c i ∧ ¬ qFx C c i ∧ ¬ qQt C w c i ∧ ¬ qRs C w c i) := by
  have hQ : qQt C w c i → (c = C ∧ i = 25) ∨ (C + 753 ≤ c ∧ c ≤ C + 786) := fun q => by rcases q with q | ⟨k, h1, h2⟩ <;> omega
  refine ⟨fun h => ?_, fun h => ?_, fun h => ?_, fun h => ?_, fun h => ?_, fun h => ?_⟩
  · unfold qFn at h
    refine ⟨by unfold qTh; omega, by unfold qFx; omega, fun q => ?_, by unfold qId; omega, fun q => by have := hQ q; omega, by unfold qRs; omega, by unfold qSp; omega, by unfold qRo; omega, by unfold qTx; omega⟩
    rcases q with q | ⟨k, h1, h2⟩ <;> omega
  · have h0 : (c = C ∧ i = 20) ∨ (C + 751 ≤ c ∧ c ≤ C + 786) := by rcases h with q | ⟨k, h1, h2⟩ <;> omega
    refine ⟨by unfold qTh; omega, by unfold qFx; omega, by unfold qId; omega, fun q => ?_, by unfold qRs; omega, by unfold qSp; omega, by unfold qRo; omega, by unfold qTx; omega⟩
    rcases h with h | ⟨j, h3, h4⟩ <;> rcases q with q | ⟨k, h1, h2⟩ <;> omega
  · unfold qId at h
    exact ⟨by unfold qTh; omega, by unfold qFx; omega, fun q => by have := hQ q; omega, by unfold qRs; omega, by unfold qSp; omega, by unfold qRo; omega, by unfold qTx; omega⟩
  · unfold qSp at h
    exact ⟨by unfold qTh; omega, by unfold qFx; omega, fun q => by have := hQ q; omega, by unfold qRs; omega, by unfold qRo; omega, by unfold qTx; omega⟩
  · unfold qRo at h
    exact ⟨by unfold qTh; omega, by unfold qFx; omega, fun q => by have := hQ q; omega, by unfold qRs; omega, by unfold qTx; omega⟩
  · unfold qTx at h
    exact ⟨by unfold qTh; omega, by unfold qFx; omega, fun q => by have := hQ q; omega, by unfold qRs; omega⟩
theorem coJ.setFn {x : Nat × (Nat → Nat)} (h : coJ S D C s lz own mn w) (hW : crW N s) (hS : cSr S S' C) (e : ∀ c i, qK C w c i → ¬ qFn C c i → D' c i = D c i) (hx : cFn D' C x) (hc : cSc D' C) : coJ S' D' C (s.1, x, s.2.2) lz own mn w := by
  obtain ⟨h1, h2, h3, h4, h5, h6, h7, h8, h9, h10, h11, h12, h13, h14⟩ := h
  have hw := h3.1
  exact ⟨h1.cSr h2.1 hS, h2.cSr hS, h3.cSr h2.1 hS, h4.cgr h2 fun c i q => e c i (.inl q) fun z => (q_ap hw).1 z |>.1 q, h5.cgr fun c i q => e c i (.inr (.inl q)) fun z => (q_ap hw).1 z |>.2.1 q, hx, h7.cgr hW.2.2.1.1 fun c i q => e c i (.inr (.inr (.inr (.inl q)))) fun z => (q_ap hw).1 z |>.2.2.1 q, h8.cgr fun c i q => e c i (.inr (.inr (.inr (.inr (.inl q))))) fun z => (q_ap hw).1 z |>.2.2.2.1 q, h9.cgr hW.2.2.2.2.1.1 fun c i q => e c i (.inr (.inr (.inr (.inr (.inr (.inl q)))))) fun z => (q_ap hw).1 z |>.2.2.2.2.1 q, h10.cgr fun c i q => e c i (.inr (.inr (.inr (.inr (.inr (.inr (.inl q))))))) fun z => (q_ap hw).1 z |>.2.2.2.2.2.1 q, h11.cgr fun c i q => e c i (.inr (.inr (.inr (.inr (.inr (.inr (.inr (.inl q)))))))) fun z => (q_ap hw).1 z |>.2.2.2.2.2.2.1 q, h12.cgr fun c i q => e c i (.inr (.inr (.inr (.inr (.inr (.inr (.inr (.inr (.inl q))))))))) fun z => (q_ap hw).1 z |>.2.2.2.2.2.2.2.1 q, h13.cgr fun c i q => e c i (.inr (.inr (.inr (.inr (.inr (.inr (.inr (.inr (.inr q))))))))) fun z => (q_ap hw).1 z |>.2.2.2.2.2.2.2.2 q, hc⟩
theorem coJ.setRw {x : Nat × (Nat → Nat → Rat)} (h : coJ S D C s lz own mn w) (hW : crW N s) (hS : cSr S S' C) (e : ∀ c i, qK C w c i → ¬ qRw C c i → D' c i = D c i) (hx : cRw D' C x) (hc : cSc D' C) : coJ S' D' C (uRw s x) lz own mn w := by
  obtain ⟨h1, h2, h3, h4, h5, h6, h7, h8, h9, h10, h11, h12, h13, h14⟩ := h
  have hw := h3.1
  exact ⟨h1.cSr h2.1 hS, h2.cSr hS, h3.cSr h2.1 hS, h4.cgr h2 fun c i q => e c i (.inl q) fun z => (q_ap hw).2.1 z |>.1 q, h5.cgr fun c i q => e c i (.inr (.inl q)) fun z => (q_ap hw).2.1 z |>.2.1 q, h6.cgr fun c i q => e c i (.inr (.inr (.inl q))) fun z => (q_ap hw).1 q |>.2.2.1 z, hx, h8.cgr fun c i q => e c i (.inr (.inr (.inr (.inr (.inl q))))) fun z => (q_ap hw).2.1 z |>.2.2.1 q, h9.cgr hW.2.2.2.2.1.1 fun c i q => e c i (.inr (.inr (.inr (.inr (.inr (.inl q)))))) fun z => (q_ap hw).2.1 z |>.2.2.2.1 q, h10.cgr fun c i q => e c i (.inr (.inr (.inr (.inr (.inr (.inr (.inl q))))))) fun z => (q_ap hw).2.1 z |>.2.2.2.2.1 q, h11.cgr fun c i q => e c i (.inr (.inr (.inr (.inr (.inr (.inr (.inr (.inl q)))))))) fun z => (q_ap hw).2.1 z |>.2.2.2.2.2.1 q, h12.cgr fun c i q => e c i (.inr (.inr (.inr (.inr (.inr (.inr (.inr (.inr (.inl q))))))))) fun z => (q_ap hw).2.1 z |>.2.2.2.2.2.2.1 q, h13.cgr fun c i q => e c i (.inr (.inr (.inr (.inr (.inr (.inr (.inr (.inr (.inr q))))))))) fun z => (q_ap hw).2.1 z |>.2.2.2.2.2.2.2 q, hc⟩
theorem coJ.setId {x : Nat × (Nat → Nat → Int)} (h : coJ S D C s lz own mn w) (hW : crW N s) (hS : cSr S S' C) (e : ∀ c i, qK C w c i → ¬ qId C c i → D' c i = D c i) (hx : cId D' C x) (hc : cSc D' C) : coJ S' D' C (uId s x) lz own mn w := by
  obtain ⟨h1, h2, h3, h4, h5, h6, h7, h8, h9, h10, h11, h12, h13, h14⟩ := h
  have hw := h3.1
  exact ⟨h1.cSr h2.1 hS, h2.cSr hS, h3.cSr h2.1 hS, h4.cgr h2 fun c i q => e c i (.inl q) fun z => (q_ap hw).2.2.1 z |>.1 q, h5.cgr fun c i q => e c i (.inr (.inl q)) fun z => (q_ap hw).2.2.1 z |>.2.1 q, h6.cgr fun c i q => e c i (.inr (.inr (.inl q))) fun z => (q_ap hw).1 q |>.2.2.2.1 z, h7.cgr hW.2.2.1.1 fun c i q => e c i (.inr (.inr (.inr (.inl q)))) fun z => (q_ap hw).2.1 q |>.2.2.1 z, hx, h9.cgr hW.2.2.2.2.1.1 fun c i q => e c i (.inr (.inr (.inr (.inr (.inr (.inl q)))))) fun z => (q_ap hw).2.2.1 z |>.2.2.1 q, h10.cgr fun c i q => e c i (.inr (.inr (.inr (.inr (.inr (.inr (.inl q))))))) fun z => (q_ap hw).2.2.1 z |>.2.2.2.1 q, h11.cgr fun c i q => e c i (.inr (.inr (.inr (.inr (.inr (.inr (.inr (.inl q)))))))) fun z => (q_ap hw).2.2.1 z |>.2.2.2.2.1 q, h12.cgr fun c i q => e c i (.inr (.inr (.inr (.inr (.inr (.inr (.inr (.inr (.inl q))))))))) fun z => (q_ap hw).2.2.1 z |>.2.2.2.2.2.1 q, h13.cgr fun c i q => e c i (.inr (.inr (.inr (.inr (.inr (.inr (.inr (.inr (.inr q))))))))) fun z => (q_ap hw).2.2.1 z |>.2.2.2.2.2.2 q, hc⟩
theorem coJ.setRo {x : Rq × List (Nat × Int)} (h : coJ S D C s lz own mn w) (hW : crW N s) (hS : cSr S S' C) (e : ∀ c i, qK C w c i → ¬ qRo C c i → D' c i = D c i) (hx : cRo D' C (some x)) (hc : cSc D' C) : coJ S' D' C (uRo s x) lz own mn w := by
  obtain ⟨h1, h2, h3, h4, h5, h6, h7, h8, h9, h10, h11, h12, h13, h14⟩ := h
  have hw := h3.1
  exact ⟨h1.cSr h2.1 hS, h2.cSr hS, h3.cSr h2.1 hS, h4.cgr h2 fun c i q => e c i (.inl q) fun z => (q_ap hw).2.2.2.2.1 z |>.1 q, h5.cgr fun c i q => e c i (.inr (.inl q)) fun z => (q_ap hw).2.2.2.2.1 z |>.2.1 q, h6.cgr fun c i q => e c i (.inr (.inr (.inl q))) fun z => (q_ap hw).1 q |>.2.2.2.2.2.2.2.1 z, h7.cgr hW.2.2.1.1 fun c i q => e c i (.inr (.inr (.inr (.inl q)))) fun z => (q_ap hw).2.1 q |>.2.2.2.2.2.2.1 z, h8.cgr fun c i q => e c i (.inr (.inr (.inr (.inr (.inl q))))) fun z => (q_ap hw).2.2.1 q |>.2.2.2.2.2.1 z, h9.cgr hW.2.2.2.2.1.1 fun c i q => e c i (.inr (.inr (.inr (.inr (.inr (.inl q)))))) fun z => (q_ap hw).2.2.2.2.1 z |>.2.2.1 q, h10.cgr fun c i q => e c i (.inr (.inr (.inr (.inr (.inr (.inr (.inl q))))))) fun z => (q_ap hw).2.2.2.2.1 z |>.2.2.2.1 q, h11.cgr fun c i q => e c i (.inr (.inr (.inr (.inr (.inr (.inr (.inr (.inl q)))))))) fun z => (q_ap hw).2.2.2.1 q |>.2.2.2.2.1 z, hx, h13.cgr fun c i q => e c i (.inr (.inr (.inr (.inr (.inr (.inr (.inr (.inr (.inr q))))))))) fun z => (q_ap hw).2.2.2.2.1 z |>.2.2.2.2 q, hc⟩
theorem coJ.setTx {x : Nat × (Nat → Int)} (h : coJ S D C s lz own mn w) (hW : crW N s) (hS : cSr S S' C) (e : ∀ c i, qK C w c i → ¬ qTx C c i → D' c i = D c i) (hx : cTx D' C x) (hc : cSc D' C) : coJ S' D' C (uTx s x) lz own mn w := by
  obtain ⟨h1, h2, h3, h4, h5, h6, h7, h8, h9, h10, h11, h12, h13, h14⟩ := h
  have hw := h3.1
  exact ⟨h1.cSr h2.1 hS, h2.cSr hS, h3.cSr h2.1 hS, h4.cgr h2 fun c i q => e c i (.inl q) fun z => (q_ap hw).2.2.2.2.2 z |>.1 q, h5.cgr fun c i q => e c i (.inr (.inl q)) fun z => (q_ap hw).2.2.2.2.2 z |>.2.1 q, h6.cgr fun c i q => e c i (.inr (.inr (.inl q))) fun z => (q_ap hw).1 q |>.2.2.2.2.2.2.2.2 z, h7.cgr hW.2.2.1.1 fun c i q => e c i (.inr (.inr (.inr (.inl q)))) fun z => (q_ap hw).2.1 q |>.2.2.2.2.2.2.2 z, h8.cgr fun c i q => e c i (.inr (.inr (.inr (.inr (.inl q))))) fun z => (q_ap hw).2.2.1 q |>.2.2.2.2.2.2 z, h9.cgr hW.2.2.2.2.1.1 fun c i q => e c i (.inr (.inr (.inr (.inr (.inr (.inl q)))))) fun z => (q_ap hw).2.2.2.2.2 z |>.2.2.1 q, h10.cgr fun c i q => e c i (.inr (.inr (.inr (.inr (.inr (.inr (.inl q))))))) fun z => (q_ap hw).2.2.2.2.2 z |>.2.2.2 q, h11.cgr fun c i q => e c i (.inr (.inr (.inr (.inr (.inr (.inr (.inr (.inl q)))))))) fun z => (q_ap hw).2.2.2.1 q |>.2.2.2.2.2 z, h12.cgr fun c i q => e c i (.inr (.inr (.inr (.inr (.inr (.inr (.inr (.inr (.inl q))))))))) fun z => (q_ap hw).2.2.2.2.1 q |>.2.2.2.2 z, hx, hc⟩
/-- another thing stands at a place -/
theorem coJ.setPl {p : Nat} {x : Th} {v : Option Nat} (h : coJ S D C s lz own mn w) (hp : p < 16) (hv : v = thA C lz p x) (hx : cTh D lz p x) : coJ (setR S (C + 735 + p) 0 v) D C (uTh s p x) lz own mn w := by
  obtain ⟨h1, h2, h3, h4, h5, h6, h7, h8, h9, h10, h11, h12, h13, h14⟩ := h
  obtain ⟨m1, m2, m3, m4, m5, m6, m7, m8⟩ := h3
  have r : ∀ a i, a ≠ C + 735 + p ∨ i ≠ 0 → (setR S (C + 735 + p) 0 v).2.1 a i = S.2.1 a i := fun a i hn => by
    show pmur _ _ _ _ a i = _
    simp only [pmur]
    rw [if_neg (fun q => by omega)]
  have r0 : (setR S (C + 735 + p) 0 v).2.1 (C + 735 + p) 0 = v := by
    show pmur _ _ _ _ _ _ = _
    simp only [pmur, and_self, if_true]
  refine ⟨h1.cg (fun a _ => rfl) fun a i ha hm => r a i ?_, ⟨h2.1, fun i a hi => ?_⟩, ⟨m1, by rw [r _ _ (by omega)]; exact m2, by rw [r _ _ (by omega)]; exact m3, by rw [r _ _ (by omega)]; exact m4, by rw [r _ _ (by omega)]; exact m5, fun q hq => ?_, ⟨m7.1, fun k hk => by rw [r _ _ (by omega)]; exact m7.2 k hk⟩, fun c g d m st σ hx => by rw [r _ _ (by omega)]; exact m8 c g d m st σ hx⟩, ⟨fun q hq => ?_, h4.2⟩, h5, h6, h7, h8, h9, h10, h11, h12, h13, h14⟩
  · unfold mvg at hm; omega
  · obtain ⟨a1, a2, a3, a4, a5, a6⟩ := h2.2 i a hi
    have sE : ∀ n, sEq S (setR S (C + 735 + p) 0 v) a n := fun n c c1 c2 => ⟨rfl, fun j => r c j (by omega)⟩
    exact ⟨a1, a2, a3, a4, fun q => (a5 q).sq (sE _), fun q => (a6 q).sq (sE _)⟩
  · rw [r (C + 735 + q) 1 (by omega), r (C + 735 + q) 2 (by omega)]
    refine ⟨?_, (m6 q hq).2⟩
    show _ = thA C lz q (if (q : Int) = (p : Int) then x else sTh s q)
    rcases Nat.decEq q p with e | e
    · rw [if_neg (by omega), r _ _ (by omega)]
      exact (m6 q hq).1
    · subst e
      rw [if_pos rfl, r0]
      exact hv
  · show cTh D lz q (if (q : Int) = (p : Int) then x else sTh s q)
    rcases Nat.decEq q p with e | e
    · rw [if_neg (by omega)]; exact h4.1 q hq
    · subst e
      rw [if_pos rfl]; exact hx
end CST
