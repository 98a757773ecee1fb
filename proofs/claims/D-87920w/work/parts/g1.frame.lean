/-! each side stands while the other one works -/
-- needs: g0.uniq
set_option maxRecDepth 100000
set_option linter.unusedVariables false
theorem msE.congrB {D D' : Dat} {M c g d n : Nat} {tc : Nat → Nat} {st : spst} {σ : Nat → Nat} (h : msE D M c g d n tc st σ) (e : ∀ x y, M ≤ x → x ≤ M + 27566 → D' x y = D x y) : msE D' M c g d n tc st σ := by
  obtain ⟨⟨c1, c2, c3⟩, h2, h3, h4, ⟨V, pm, s1, s2, s3, s4⟩, h6⟩ := h
  have hk := h2.1
  refine ⟨⟨c1, by rw [e _ _ (by omega) (by omega)]; exact c2, fun i hi => by rw [e _ _ (by omega) (by omega), e _ _ (by omega) (by omega)]; exact c3 i hi⟩, h2, h3, h4, ⟨V, pm, by rw [e _ _ (by omega) (by omega)]; exact s1, by rw [e _ _ (by omega) (by omega)]; exact s2, s3, fun r hr => ?_⟩, fun k hk => ?_⟩
  · obtain ⟨x1, x2, x3, x4, x5, x6⟩ := s4 r hr
    exact ⟨x1.congr fun x y b1 b2 => e x y (by omega) (by omega), x2, x3, by rw [e _ _ (by omega) (by omega)]; exact x4, by rw [e _ _ (by omega) (by omega)]; exact x5, by rw [e _ _ (by omega) (by omega)]; exact x6⟩
  · obtain ⟨x1, x2⟩ := h6 k hk
    exact ⟨by rw [e _ _ (by omega) (by omega)]; exact x1, x2.congr fun x y b1 b2 => e x y (by omega) (by omega)⟩
section FRM
variable {S S' : Stat} {D D' : Dat} {C mn w N : Nat} {s : Cst} {lz : Nat → Option Nat} {own : Nat → Nat}
set_option maxHeartbeats 8000000 in
theorem mfx.cg {M : Nat} (h : mfx S M) (h1 : ∀ a, M ≤ a → a ≤ M + 27566 → S'.1 a = S.1 a) (h2 : ∀ a i, M ≤ a → a ≤ M + 27566 → S'.2.1 a i = S.2.1 a i) : mfx S' M := by
  have e : mfx S' M = mfx S M := by
    unfold mfx mdS mvS sgS anS mrS mthS mtS muS mhS msS plS wkS mgS mS mwS mcS mpS smS nmS wS
    simp +contextual (disch := omega) only [h1, h2]
  rw [e]; exact h
theorem moI.loc {M : Nat} (h : moI S D M s) (hW : crW N s) (h1 : ∀ a, M ≤ a → a ≤ M + 27566 → S'.1 a = S.1 a) (h2 : ∀ a i, M ≤ a → a ≤ M + 27566 → S'.2.1 a i = S.2.1 a i) (e : ∀ c i, M ≤ c → c ≤ M + 27566 → D' c i = D c i) : moI S' D' M s := by
  obtain ⟨g1, g2, g3, g4, g5, g6, g7, g8, g9, g10, g11⟩ := h
  refine ⟨g1.cg h1 h2, fun p hp => (g2 p hp).cgr hp fun c i hc => e c i (by omega) (by omega), g3.cgr fun c i q => e c i (by unfold pFn at q; omega) (by unfold pFn at q; omega), g4.cgr hW.2.2.1.1 fun c i q => e c i (by rcases q with q | ⟨k, k1, k2, k3⟩ <;> omega) (by rcases q with q | ⟨k, k1, k2, k3⟩ <;> omega), g5.cgr fun c i q => e c i (by unfold pId at q; omega) (by unfold pId at q; omega), g6.cgr hW.2.2.2.2.1.1 fun c i q => e c i (by rcases q with q | ⟨k, k1, k2, k3⟩ <;> omega) (by rcases q with q | ⟨k, k1, k2, k3⟩ <;> omega), g7.cgr fun c i q => e c i (by unfold pRs at q; omega) (by unfold pRs at q; omega), ?_, g9.cgr fun c i q => e c i (by unfold pRo at q; omega) (by unfold pRo at q; omega), g10.cgr fun c i q => e c i (by unfold pTx at q; omega) (by unfold pTx at q; omega), g11.cgr fun c i q => e c i (by unfold pSm at q; omega) (by unfold pSm at q; omega)⟩
  refine ⟨by rw [e M 44 (by omega) (by omega)]; exact g8.1, fun c g d m I st σ hx => ?_⟩
  obtain ⟨x1, x2, x3, x4, n, tc, x5⟩ := g8.2 c g d m I st σ hx
  exact ⟨by rw [e M 45 (by omega) (by omega)]; exact x1, by rw [e M 46 (by omega) (by omega)]; exact x2, by rw [e M 47 (by omega) (by omega)]; exact x3, by rw [e M 48 (by omega) (by omega)]; exact x4, n, tc, x5.congrB e⟩
/-- the model stands while the component works -/
theorem moI.fr (h : moI S D (C + 819) s) (hW : crW N s) (hn : C + 28386 ≤ S.2.2) (f : cFr S D S' D' C) : moI S' D' (C + 819) s :=
  h.loc hW (fun a a1 a2 => f.2.1 a (by omega)) (fun a i a1 a2 => (f.2.2 a i a1 (by omega)).1) fun a i a1 a2 => (f.2.2 a i a1 (by omega)).2
/-- the component stands while the model works -/
theorem coI.mo (h : coI S D C s mn) (hW : crW N s) (f : mO (C + 819) D D') (e1 : S'.1 = S.1) (e2 : S'.2.2 = S.2.2) (e3 : ∀ a i, a ≠ C + 819 + 10789 → S'.2.1 a i = S.2.1 a i) : coI S' D' C s mn := by
  obtain ⟨lz, own, w, h⟩ := h
  have hw1 := h.mv.1
  have hC := h.lzz.1
  refine ⟨lz, own, w, ?_⟩
  have j1 : coJ S D' C s lz own mn w := h.keep hW cSr.rfl (fun c i q => f c i (by have := qK.bd hw1 q; omega)) (h.sc.cgr fun c i q => f c i (by rcases q with q | q | q | q | q | ⟨z, z1, z2, z3⟩ <;> omega))
  obtain ⟨h1, h2, h3, h4⟩ := j1
  obtain ⟨m1, m2, m3, m4, m5, m6, ⟨m7, m8⟩, m9⟩ := h3
  have r : ∀ a i, a < C + 819 → S'.2.1 a i = S.2.1 a i := fun a i ha => e3 a i (by omega)
  refine ⟨h1.cg (fun a _ => by rw [e1]) (fun a i ha _ => r a i ha), ⟨by rw [e2]; exact h2.1, fun i a ha => ?_⟩, ⟨m1, by rw [r _ _ (by omega)]; exact m2, by rw [r _ _ (by omega)]; exact m3, by rw [r _ _ (by omega)]; exact m4, by rw [r _ _ (by omega)]; exact m5, fun p hp => by rw [r _ _ (by omega), r _ _ (by omega), r _ _ (by omega)]; exact m6 p hp, ⟨m7, fun k hk => by rw [r _ _ (by omega)]; exact m8 k hk⟩, fun c g d m st σ hx => by rw [r _ _ (by omega)]; exact m9 c g d m st σ hx⟩, h4⟩
  obtain ⟨z1, z2, z3, z4, z5, z6⟩ := h2.2 i a ha
  have sE : ∀ n, sEq S S' a n := fun n c c1 c2 => ⟨by rw [e1], fun j => e3 c j (by omega)⟩
  exact ⟨z1, z2, by rw [e2]; exact z3, z4, fun q => (z5 q).sq (sE _), fun q => (z6 q).sq (sE _)⟩
end FRM
