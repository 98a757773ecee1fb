/-! the model's statics and what stands in it -/
-- needs: e1.state
set_option maxRecDepth 100000
set_option linter.unusedVariables false
/-- all that never changes -/
def mfx (S : Stat) (M : Nat) : Prop := mdS S M ∧ mvS S M ∧ sgS S M ∧ anS S M ∧
  (S.2.1 M 12 = some (M + 21) ∧ S.1 (M + 21) = some (100, 16)) ∧
  (S.2.1 M 13 = some (M + 22) ∧ S.1 (M + 22) = some (116, 16) ∧ ∀ k : Nat, k < 16 → S.2.1 (M + 22) k = some (M + 12195 + 244 * k) ∧ mpS S (M + 12195 + 244 * k)) ∧
  (S.2.1 M 14 = some (M + 23) ∧ S.1 (M + 23) = some (100, 16)) ∧ (S.2.1 M 15 = some (M + 24) ∧ S.1 (M + 24) = some (100, 16)) ∧
  (S.2.1 M 17 = some (M + 42) ∧ S.1 (M + 42) = some (100, 16)) ∧ (S.2.1 M 18 = some (M + 43) ∧ nmS S (M + 43) (M + 44) 16 130) ∧ (S.2.1 M 19 = some (M + 76) ∧ S.1 (M + 76) = some (100, 16)) ∧
  (S.2.1 M 22 = some (M + 78) ∧ S.1 (M + 78) = some (116, 6) ∧ ∀ k : Nat, k < 6 → S.2.1 (M + 78) k = some (M + 16099 + 488 * k) ∧ mpS S (M + 16099 + 488 * k)) ∧
  (S.2.1 M 28 = some (M + 324) ∧ mpS S (M + 324)) ∧ (S.2.1 M 37 = some (M + 4225) ∧ S.1 (M + 4225) = some (101, 20000)) ∧ (S.2.1 M 39 = some (M + 4226) ∧ S.1 (M + 4226) = some (103, 60)) ∧
  (S.2.1 M 64 = some (M + 10789) ∧ S.1 (M + 10789) = some (116, 35) ∧ S.2.1 M 65 = some (M + 10790) ∧ S.1 (M + 10790) = some (100, 35)) ∧ (S.2.1 M 66 = some (M + 10791) ∧ wS 17 S (M + 10791) 260)
section MFX
variable {S : Stat} {M : Nat}
theorem mfx.md (h : mfx S M) : mdS S M := h.1
theorem mfx.mv (h : mfx S M) : mvS S M := h.2.1
theorem mfx.mt (h : mfx S M) : mtS S M := h.2.1.1
theorem mfx.mg (h : mfx S M) : mgS S M := h.1.1
theorem mfx.m (h : mfx S M) : mS S M := h.1.1.1
theorem mfx.o (h : mfx S M) : S.1 M = some (16, 0) := h.1.1.1.1
theorem mfx.sg (h : mfx S M) : sgS S M := h.2.2.1
theorem mfx.mr (h : mfx S M) : mrS S M := h.2.2.1.1
theorem mfx.an (h : mfx S M) : anS S M := h.2.2.2.1
theorem mfx.h12 (h : mfx S M) : S.2.1 M 12 = some (M + 21) ∧ S.1 (M + 21) = some (100, 16) := h.2.2.2.2.1
theorem mfx.h13 (h : mfx S M) : S.2.1 M 13 = some (M + 22) ∧ S.1 (M + 22) = some (116, 16) ∧ ∀ k : Nat, k < 16 → S.2.1 (M + 22) k = some (M + 12195 + 244 * k) ∧ mpS S (M + 12195 + 244 * k) := h.2.2.2.2.2.1
theorem mfx.h14 (h : mfx S M) : S.2.1 M 14 = some (M + 23) ∧ S.1 (M + 23) = some (100, 16) := h.2.2.2.2.2.2.1
theorem mfx.h15 (h : mfx S M) : S.2.1 M 15 = some (M + 24) ∧ S.1 (M + 24) = some (100, 16) := h.2.2.2.2.2.2.2.1
theorem mfx.h17 (h : mfx S M) : S.2.1 M 17 = some (M + 42) ∧ S.1 (M + 42) = some (100, 16) := h.2.2.2.2.2.2.2.2.1
theorem mfx.h18 (h : mfx S M) : S.2.1 M 18 = some (M + 43) ∧ nmS S (M + 43) (M + 44) 16 130 := h.2.2.2.2.2.2.2.2.2.1
theorem mfx.h19 (h : mfx S M) : S.2.1 M 19 = some (M + 76) ∧ S.1 (M + 76) = some (100, 16) := h.2.2.2.2.2.2.2.2.2.2.1
theorem mfx.h22 (h : mfx S M) : S.2.1 M 22 = some (M + 78) ∧ S.1 (M + 78) = some (116, 6) ∧ ∀ k : Nat, k < 6 → S.2.1 (M + 78) k = some (M + 16099 + 488 * k) ∧ mpS S (M + 16099 + 488 * k) := h.2.2.2.2.2.2.2.2.2.2.2.1
theorem mfx.h28 (h : mfx S M) : S.2.1 M 28 = some (M + 324) ∧ mpS S (M + 324) := h.2.2.2.2.2.2.2.2.2.2.2.2.1
theorem mfx.h37 (h : mfx S M) : S.2.1 M 37 = some (M + 4225) ∧ S.1 (M + 4225) = some (101, 20000) := h.2.2.2.2.2.2.2.2.2.2.2.2.2.1
theorem mfx.h39 (h : mfx S M) : S.2.1 M 39 = some (M + 4226) ∧ S.1 (M + 4226) = some (103, 60) := h.2.2.2.2.2.2.2.2.2.2.2.2.2.2.1
theorem mfx.h64 (h : mfx S M) : S.2.1 M 64 = some (M + 10789) ∧ S.1 (M + 10789) = some (116, 35) ∧ S.2.1 M 65 = some (M + 10790) ∧ S.1 (M + 10790) = some (100, 35) := h.2.2.2.2.2.2.2.2.2.2.2.2.2.2.2.1
theorem mfx.h66 (h : mfx S M) : S.2.1 M 66 = some (M + 10791) ∧ wS 17 S (M + 10791) 260 := h.2.2.2.2.2.2.2.2.2.2.2.2.2.2.2.2
theorem mfx.h29 (h : mfx S M) : S.2.1 M 29 = some (M + 568) ∧ smS S (M + 568) := ⟨h.1.2.1, h.1.2.2.1⟩
theorem mfx.h30 (h : mfx S M) : S.2.1 M 30 = some (M + 2393) ∧ smS S (M + 2393) := ⟨h.1.2.2.2.1, h.1.2.2.2.2.1⟩
theorem mfx.h35 (h : mfx S M) : S.2.1 M 35 = some (M + 4221) ∧ wS 17 S (M + 4221) 260 := h.2.1.2.1
theorem mfx.h36 (h : mfx S M) : S.2.1 M 36 = some (M + 4223) ∧ wS 17 S (M + 4223) 260 := ⟨h.1.2.2.2.2.2.2.2.1, h.1.2.2.2.2.2.2.2.2.1⟩
theorem mfx.h24 (h : mfx S M) : S.2.1 M 24 = some (M + 79) ∧ S.1 (M + 79) = some (116, 6) ∧ ∀ k : Nat, k < 6 → S.2.1 (M + 79) k = some (M + 16343 + 488 * k) ∧ mpS S (M + 16343 + 488 * k) := h.2.1.2.2.1
theorem mfx.h26 (h : mfx S M) : S.2.1 M 26 = some (M + 80) ∧ mpS S (M + 80) := h.2.1.2.2.2
theorem mfx.h43 (h : mfx S M) : S.2.1 M 43 = some (M + 4232) ∧ S.1 (M + 4232) = some (116, 6) ∧ ∀ k : Nat, k < 6 → S.2.1 (M + 4232) k = some (M + 4233 + 244 * k) ∧ mpS S (M + 4233 + 244 * k) := ⟨h.1.2.2.2.2.2.2.2.2.2.2.2.2.2.2.2.1, h.1.2.2.2.2.2.2.2.2.2.2.2.2.2.2.2.2.1, h.1.2.2.2.2.2.2.2.2.2.2.2.2.2.2.2.2.2⟩
theorem mfx.pl (h : mfx S M) : plS S M := h.2.2.1.1.2.2.1
end MFX
def mth (D : Dat) (M p : Nat) : Th → Prop
  | none => D (M + 21) p = 0
  | some (.inl φ) => D (M + 21) p = 1 ∧ mpP D (M + 12195 + 244 * p) φ
  | some (.inr (.inl o)) => D (M + 21) p = 2 ∧ D (M + 23) p = (o.1 : Int) - 9 ∧ D (M + 24) p = (o.2 : Int)
  | some (.inr (.inr (.inl r))) => D (M + 21) p = 3 ∧ D (M + 23) p = (r.2.2.2 : Int) ∧ D (M + 76) p = (r.2.1 : Int) ∧ wD 2 1 D (M + 44 + 2 * p) (mlw r.2.1 r.2.2.1) ∧ ∃ s a, smW r.1 s a ∧ D (M + 42) p = (a : Int) ∧ ∀ k : Nat, k < 9 → D (M + 26 + p) k = s k
  | some (.inr (.inr (.inr k))) => D (M + 21) p = 4 ∧ D (M + 23) p = -(k : Int) ∧ D (M + 24) p = 0
def mTh (D : Dat) (M : Nat) (t : Nat → Th) : Prop := ∀ p : Nat, p < 16 → mth D M p (t p)
def mFn (D : Dat) (M : Nat) (f : Nat × (Nat → Nat)) : Prop := D M 20 = -(f.1 : Int) ∧ ∀ k : Nat, k < 8 → D (M + 77) k = f.2 k
def mRw (D : Dat) (M : Nat) (r : Nat × (Nat → Nat → Rat)) : Prop := D M 23 = r.1 ∧ ∀ k : Nat, k < r.1 → mpP D (M + 16099 + 488 * k) (r.2 k)
def mQt (D : Dat) (M : Nat) (r : Nat × (Nat → Nat → Rat)) : Prop := D M 25 = r.1 ∧ (∀ k : Nat, k < r.1 → mpP D (M + 16343 + 488 * k) (r.2 k)) ∧ ∀ k : Nat, k < 6 → ∃ χ, mpP D (M + 16343 + 488 * k) χ
def mRs (D : Dat) (M : Nat) (r : Option (Nat → Rat)) : Prop := D M 27 = (if r = none then 0 else 1) ∧ (∀ ρ, r = some ρ → mpP D (M + 80) ρ) ∧ ∃ χ, mpP D (M + 80) χ
def mSp (D : Dat) (M : Nat) (x : Option Spn) : Prop := D M 44 = (if x = none then 0 else 1) ∧ ∀ c g d m I st σ, x = some ((c, g, d), (m, I), st, σ) → D M 45 = (c : Int) - 9 ∧ D M 46 = (g : Int) ∧ D M 47 = (d : Int) ∧ D M 48 = (m : Int) ∧ ∃ n tc, msE D M c g d n tc st σ
def mRo (D : Dat) (M : Nat) (x : Option (Rq × List (Nat × Int))) : Prop := D M 77 = (if x = none then 0 else 1) ∧ ∀ q L, x = some (q, L) → mrtL D M L ∧ (L ≠ [] → ∃ s a, smW q s a ∧ D M 76 = (a : Int) ∧ ∀ k : Nat, k < 9 → D (M + 11296) k = s k)
def mTx (D : Dat) (M : Nat) (x : Nat × (Nat → Int)) : Prop := (D M 38 = x.1 ∨ (x.1 = 0 ∧ D M 38 = -1)) ∧ ∀ i : Nat, i < x.1 → D (M + 4225) i = x.2 i
def mSm (D : Dat) (M : Nat) : Prop := (∃ φ, smP D (M + 568) φ) ∧ (∃ φ, smP D (M + 2393) φ) ∧ ∀ k, k < 6 → ∃ χ, mpP D (M + 4233 + 244 * k) χ
def moI (S : Stat) (D : Dat) (M : Nat) (s : Cst) : Prop := mfx S M ∧ mTh D M (sTh s) ∧ mFn D M (sFn s) ∧ mRw D M (sRw s) ∧ midD D M (sId s).1 (sId s).2 ∧ mQt D M (sQt s) ∧ mRs D M (sRs s) ∧ mSp D M (sSp s) ∧ mRo D M (sRo s) ∧ mTx D M (sTx s) ∧ mSm D M
section MCG
variable {D D' : Dat} {M : Nat}
theorem wD.cgr {kn ks : Int} {w : Nat} {z : Int} (h : wD kn ks D w z) (e : ∀ c i, c = w ∨ c = w + 1 → D' c i = D c i) : wD kn ks D' w z := by
  have e1 : D' (w + 1) = D (w + 1) := by funext i; exact e _ i (.inr rfl)
  unfold wD
  rw [e1, e w kn (.inl rfl), e w ks (.inl rfl)]
  exact h
theorem mpP.cgr {p : Nat} {φ : Nat → Rat} (h : mpP D p φ) (e : ∀ c i, p ≤ c → c ≤ p + 243 → D' c i = D c i) : mpP D' p φ := by
  obtain ⟨n, f, h1, h2, h3, h4⟩ := h
  refine ⟨n, f, h1, by rw [e p 0 (by omega) (by omega)]; exact h2, fun k hk => ?_, h4⟩
  obtain ⟨a1, a2, a3, a4⟩ := h3 k hk
  exact ⟨a1, by rw [e (p + 1) k (by omega) (by omega)]; exact a2, ⟨a3.1.cgr fun c i hc => e c i (by omega) (by omega), a3.2.cgr fun c i hc => e c i (by omega) (by omega)⟩, a4⟩
theorem smP.cgr {p : Nat} {φ : Nat → Rat} (h : smP D p φ) (e : ∀ c i, p ≤ c → c ≤ p + 1824 → D' c i = D c i) : smP D' p φ := by
  obtain ⟨n, f, h1, h2, h3, h4, h5⟩ := h
  refine ⟨n, f, h1, by rw [e p 0 (by omega) (by omega)]; exact h2, fun k hk => ?_, fun z z0 z1 z2 => by rw [e (p + 2) z (by omega) (by omega)]; exact h4 z z0 z1 z2, h5⟩
  obtain ⟨a1, a2, a3, a4⟩ := h3 k hk
  exact ⟨a1, by rw [e (p + 1) k (by omega) (by omega)]; exact a2, by rw [e (p + 2) _ (by omega) (by omega)]; exact a3, ⟨a4.1.cgr fun c i hc => e c i (by omega) (by omega), a4.2.cgr fun c i hc => e c i (by omega) (by omega)⟩⟩
/-- which cells a part speaks of -/
def pTh (M c : Nat) (i : Int) : Prop := (M + 21 ≤ c ∧ c ≤ M + 76) ∨ (M + 12195 ≤ c ∧ c ≤ M + 16098)
def pFn (M c : Nat) (i : Int) : Prop := (c = M ∧ i = 20) ∨ c = M + 77
def pRw (M c : Nat) (i : Int) : Prop := (c = M ∧ i = 23) ∨ ∃ k : Nat, k < 6 ∧ M + 16099 + 488 * k ≤ c ∧ c ≤ M + 16099 + 488 * k + 243
def pId (M c : Nat) (i : Int) : Prop := (c = M ∧ i = 31) ∨ (M + 4218 ≤ c ∧ c ≤ M + 4220)
def pQt (M c : Nat) (i : Int) : Prop := (c = M ∧ i = 25) ∨ ∃ k : Nat, k < 6 ∧ M + 16343 + 488 * k ≤ c ∧ c ≤ M + 16343 + 488 * k + 243
def pRs (M c : Nat) (i : Int) : Prop := (c = M ∧ i = 27) ∨ (M + 80 ≤ c ∧ c ≤ M + 323)
def pSp (M c : Nat) (i : Int) : Prop := (c = M ∧ 44 ≤ i ∧ i ≤ 57) ∨ (M + 5697 ≤ c ∧ c ≤ M + 10780) ∨ M + 19027 ≤ c
def pRo (M c : Nat) (i : Int) : Prop := (c = M ∧ (i = 72 ∨ i = 76 ∨ i = 77)) ∨ (M + 11279 ≤ c ∧ c ≤ M + 11296)
def pTx (M c : Nat) (i : Int) : Prop := (c = M ∧ i = 38) ∨ c = M + 4225
def pSm (M c : Nat) (i : Int) : Prop := (M + 568 ≤ c ∧ c ≤ M + 4217) ∨ (M + 4233 ≤ c ∧ c ≤ M + 5696)
theorem mth.cgr {p : Nat} {t : Th} (h : mth D M p t) (hp : p < 16) (e : ∀ c i, (c = M + 21 ∨ c = M + 23 ∨ c = M + 24 ∨ c = M + 42 ∨ c = M + 76) ∧ i = (p : Int) ∨ c = M + 26 + p ∨ c = M + 44 + 2 * p ∨ c = M + 44 + 2 * p + 1 ∨ (M + 12195 + 244 * p ≤ c ∧ c ≤ M + 12195 + 244 * p + 243) → D' c i = D c i) : mth D' M p t := by
  have k1 : D' (M + 21) p = D (M + 21) p := e _ _ (by omega)
  have k3 : D' (M + 23) p = D (M + 23) p := e _ _ (by omega)
  have k4 : D' (M + 24) p = D (M + 24) p := e _ _ (by omega)
  have k5 : D' (M + 42) p = D (M + 42) p := e _ _ (by omega)
  have k6 : D' (M + 76) p = D (M + 76) p := e _ _ (by omega)
  rcases t with _ | (φ | (o | (r | k)))
  · show D' (M + 21) p = 0
    rw [k1]; exact h
  · exact ⟨by rw [k1]; exact h.1, h.2.cgr fun c i h1 h2 => e c i (by omega)⟩
  · exact ⟨by rw [k1]; exact h.1, by rw [k3]; exact h.2.1, by rw [k4]; exact h.2.2⟩
  · obtain ⟨h1, h2, h3, h4, s, a, h7, h5, h6⟩ := h
    exact ⟨by rw [k1]; exact h1, by rw [k3]; exact h2, by rw [k6]; exact h3, h4.cgr fun c i hc => e c i (by omega), s, a, h7, by rw [k5]; exact h5, fun k hk => by rw [e (M + 26 + p) k (by omega)]; exact h6 k hk⟩
  · exact ⟨by rw [k1]; exact h.1, by rw [k3]; exact h.2.1, by rw [k4]; exact h.2.2⟩
theorem mTh.cgr {t : Nat → Th} (h : mTh D M t) (e : ∀ c i, pTh M c i → D' c i = D c i) : mTh D' M t := fun p hp => (h p hp).cgr hp fun c i hc => e c i (by unfold pTh; omega)
theorem mFn.cgr {f : Nat × (Nat → Nat)} (h : mFn D M f) (e : ∀ c i, pFn M c i → D' c i = D c i) : mFn D' M f := ⟨by rw [e M 20 (by unfold pFn; omega)]; exact h.1, fun k hk => by rw [e (M + 77) k (by unfold pFn; omega)]; exact h.2 k hk⟩
theorem mRw.cgr {r : Nat × (Nat → Nat → Rat)} (hr : r.1 ≤ 6) (h : mRw D M r) (e : ∀ c i, pRw M c i → D' c i = D c i) : mRw D' M r := ⟨by rw [e M 23 (.inl ⟨rfl, rfl⟩)]; exact h.1, fun k hk => (h.2 k hk).cgr fun c i h1 h2 => e c i (.inr ⟨k, by omega, h1, h2⟩)⟩
theorem midD.cgr {m : Nat} {I : Nat → Nat → Int} (h : midD D M m I) (e : ∀ c i, pId M c i → D' c i = D c i) : midD D' M m I := by
  obtain ⟨h1, h2, h3⟩ := h
  refine ⟨h1, by rw [e M 31 (by unfold pId; omega)]; exact h2, fun k hk => ?_⟩
  obtain ⟨⟨mk, ek, a1, a2, a3, a4⟩, h4⟩ := h3 k hk
  refine ⟨⟨mk, ek, a1, by rw [e (M + 4218) k (by unfold pId; omega)]; exact a2, fun j hj => ?_, a4⟩, h4⟩
  obtain ⟨b1, b2, b3, b4⟩ := a3 j hj
  exact ⟨b1, by rw [e (M + 4219) _ (by unfold pId; omega)]; exact b2, by rw [e (M + 4220) _ (by unfold pId; omega)]; exact b3, b4⟩
theorem mQt.cgr {r : Nat × (Nat → Nat → Rat)} (hr : r.1 ≤ 6) (h : mQt D M r) (e : ∀ c i, pQt M c i → D' c i = D c i) : mQt D' M r := ⟨by rw [e M 25 (.inl ⟨rfl, rfl⟩)]; exact h.1, fun k hk => (h.2.1 k hk).cgr fun c i h1 h2 => e c i (.inr ⟨k, by omega, h1, h2⟩), fun k hk => by
  obtain ⟨χ, hχ⟩ := h.2.2 k hk
  exact ⟨χ, hχ.cgr fun c i h1 h2 => e c i (.inr ⟨k, hk, h1, h2⟩)⟩⟩
theorem mRs.cgr {r : Option (Nat → Rat)} (h : mRs D M r) (e : ∀ c i, pRs M c i → D' c i = D c i) : mRs D' M r := by
  obtain ⟨h1, h2, χ, h3⟩ := h
  exact ⟨by rw [e M 27 (by unfold pRs; omega)]; exact h1, fun ρ hρ => (h2 ρ hρ).cgr fun c i h4 h5 => e c i (by unfold pRs; omega), χ, h3.cgr fun c i h4 h5 => e c i (by unfold pRs; omega)⟩
theorem mSp.cgr {x : Option Spn} (h : mSp D M x) (e : ∀ c i, pSp M c i → D' c i = D c i) : mSp D' M x := by
  refine ⟨by rw [e M 44 (by unfold pSp; omega)]; exact h.1, fun c g d m I st σ hx => ?_⟩
  obtain ⟨h1, h2, h3, h4, n, tc, h5⟩ := h.2 c g d m I st σ hx
  exact ⟨by rw [e M 45 (by unfold pSp; omega)]; exact h1, by rw [e M 46 (by unfold pSp; omega)]; exact h2, by rw [e M 47 (by unfold pSp; omega)]; exact h3, by rw [e M 48 (by unfold pSp; omega)]; exact h4, n, tc, h5.congrA fun x y hxy => e x y (by unfold pSp; omega)⟩
theorem mRo.cgr {x : Option (Rq × List (Nat × Int))} (h : mRo D M x) (e : ∀ c i, pRo M c i → D' c i = D c i) : mRo D' M x := by
  refine ⟨by rw [e M 77 (by unfold pRo; omega)]; exact h.1, fun q L hx => ?_⟩
  obtain ⟨h1, h2⟩ := h.2 q L hx
  refine ⟨h1.congr fun c i hc => e c i (by unfold pRo; omega), fun hL => ?_⟩
  obtain ⟨s, a, h5, h3, h4⟩ := h2 hL
  exact ⟨s, a, h5, by rw [e M 76 (by unfold pRo; omega)]; exact h3, fun k hk => by rw [e (M + 11296) k (by unfold pRo; omega)]; exact h4 k hk⟩
theorem mTx.cgr {x : Nat × (Nat → Int)} (h : mTx D M x) (e : ∀ c i, pTx M c i → D' c i = D c i) : mTx D' M x := ⟨by rw [e M 38 (by unfold pTx; omega)]; exact h.1, fun k hk => by rw [e (M + 4225) k (by unfold pTx; omega)]; exact h.2 k hk⟩
theorem mSm.cgr (h : mSm D M) (e : ∀ c i, pSm M c i → D' c i = D c i) : mSm D' M := by
  obtain ⟨⟨φ, h1⟩, ⟨ψ, h2⟩, h3⟩ := h
  refine ⟨⟨φ, h1.cgr fun c i a b => e c i (by unfold pSm; omega)⟩, ⟨ψ, h2.cgr fun c i a b => e c i (by unfold pSm; omega)⟩, fun k hk => ?_⟩
  obtain ⟨χ, h4⟩ := h3 k hk
  exact ⟨χ, h4.cgr fun c i a b => e c i (by unfold pSm; omega)⟩
end MCG
section MKP
variable {S : Stat} {D D' : Dat} {M N : Nat} {s : Cst}
/-- the cells that speak of the court, but for the places to work in -/
def pK (M c : Nat) (i : Int) : Prop := (c = M ∧ (i = 20 ∨ i = 23 ∨ i = 25 ∨ i = 27 ∨ i = 31 ∨ i = 38 ∨ (44 ≤ i ∧ i ≤ 57) ∨ i = 72 ∨ i = 76 ∨ i = 77)) ∨ (M + 21 ≤ c ∧ c ≤ M + 323) ∨ (M + 4218 ≤ c ∧ c ≤ M + 4220) ∨ c = M + 4225 ∨ (M + 5697 ≤ c ∧ c ≤ M + 10780) ∨ (M + 11279 ≤ c ∧ c ≤ M + 11296) ∨ M + 12195 ≤ c
theorem pRw.bd {c : Nat} {i : Int} (h : pRw M c i) : (c = M ∧ i = 23) ∨ (M + 16099 ≤ c ∧ c ≤ M + 19026) := by
  rcases h with h | ⟨k, h1, h2, h3⟩
  · exact .inl h
  · exact .inr (by omega)
theorem pQt.bd {c : Nat} {i : Int} (h : pQt M c i) : (c = M ∧ i = 25) ∨ (M + 16099 ≤ c ∧ c ≤ M + 19026) := by
  rcases h with h | ⟨k, h1, h2, h3⟩
  · exact .inl h
  · exact .inr (by omega)
theorem pTh.k {c : Nat} {i : Int} (h : pTh M c i) : pK M c i := by unfold pTh at h; unfold pK; omega
theorem pFn.k {c : Nat} {i : Int} (h : pFn M c i) : pK M c i := by unfold pFn at h; unfold pK; omega
theorem pRw.k {c : Nat} {i : Int} (h : pRw M c i) : pK M c i := by have := h.bd; unfold pK; omega
theorem pId.k {c : Nat} {i : Int} (h : pId M c i) : pK M c i := by unfold pId at h; unfold pK; omega
theorem pQt.k {c : Nat} {i : Int} (h : pQt M c i) : pK M c i := by have := h.bd; unfold pK; omega
theorem pRs.k {c : Nat} {i : Int} (h : pRs M c i) : pK M c i := by unfold pRs at h; unfold pK; omega
theorem pSp.k {c : Nat} {i : Int} (h : pSp M c i) : pK M c i := by unfold pSp at h; unfold pK; omega
theorem pRo.k {c : Nat} {i : Int} (h : pRo M c i) : pK M c i := by unfold pRo at h; unfold pK; omega
theorem pTx.k {c : Nat} {i : Int} (h : pTx M c i) : pK M c i := by unfold pTx at h; unfold pK; omega
theorem pmu_ne {D : Dat} {a c : Nat} {i j z : Int} (h : c ≠ a ∨ i ≠ j) : pmu D a j z c i = D c i := by
  simp only [pmu]
  rw [if_neg (fun w => by rcases h with h | h; exact h w.1; exact h w.2)]
theorem pmu_eq {D : Dat} {a : Nat} {j z : Int} : pmu D a j z a j = z := by simp only [pmu, and_self, if_true]
theorem moI.keep (h : moI S D M s) (hW : crW N s) (e : ∀ c i, pK M c i → D' c i = D c i) (hS : mSm D' M) : moI S D' M s := by
  obtain ⟨h1, h2, h3, h4, h5, h6, h7, h8, h9, h10, h11⟩ := h
  exact ⟨h1, h2.cgr fun c i w => e c i w.k, h3.cgr fun c i w => e c i w.k, h4.cgr hW.2.2.1.1 fun c i w => e c i w.k, h5.cgr fun c i w => e c i w.k, h6.cgr hW.2.2.2.2.1.1 fun c i w => e c i w.k, h7.cgr fun c i w => e c i w.k, h8.cgr fun c i w => e c i w.k, h9.cgr fun c i w => e c i w.k, h10.cgr fun c i w => e c i w.k, hS⟩
theorem moI.setTh {t : Nat → Th} (h : moI S D M s) (hW : crW N s) (e : ∀ c i, pK M c i → ¬ pTh M c i → D' c i = D c i) (hT : mTh D' M t) (hS : mSm D' M) : moI S D' M (t, s.2) := by
  obtain ⟨h1, h2, h3, h4, h5, h6, h7, h8, h9, h10, h11⟩ := h
  refine ⟨h1, hT, h3.cgr fun c i w => e c i w.k ?_, h4.cgr hW.2.2.1.1 fun c i w => e c i w.k ?_, h5.cgr fun c i w => e c i w.k ?_, h6.cgr hW.2.2.2.2.1.1 fun c i w => e c i w.k ?_, h7.cgr fun c i w => e c i w.k ?_, h8.cgr fun c i w => e c i w.k ?_, h9.cgr fun c i w => e c i w.k ?_, h10.cgr fun c i w => e c i w.k ?_, hS⟩
  · unfold pFn at w; unfold pTh; omega
  · have := w.bd; unfold pTh; omega
  · unfold pId at w; unfold pTh; omega
  · have := w.bd; unfold pTh; omega
  · unfold pRs at w; unfold pTh; omega
  · unfold pSp at w; unfold pTh; omega
  · unfold pRo at w; unfold pTh; omega
  · unfold pTx at w; unfold pTh; omega
theorem moI.setFn {f : Nat × (Nat → Nat)} (h : moI S D M s) (hW : crW N s) (e : ∀ c i, pK M c i → ¬ pFn M c i → D' c i = D c i) (hT : mFn D' M f) (hS : mSm D' M) : moI S D' M (s.1, f, s.2.2) := by
  obtain ⟨h1, h2, h3, h4, h5, h6, h7, h8, h9, h10, h11⟩ := h
  refine ⟨h1, h2.cgr fun c i w => e c i w.k ?_, hT, h4.cgr hW.2.2.1.1 fun c i w => e c i w.k ?_, h5.cgr fun c i w => e c i w.k ?_, h6.cgr hW.2.2.2.2.1.1 fun c i w => e c i w.k ?_, h7.cgr fun c i w => e c i w.k ?_, h8.cgr fun c i w => e c i w.k ?_, h9.cgr fun c i w => e c i w.k ?_, h10.cgr fun c i w => e c i w.k ?_, hS⟩
  · unfold pTh at w; unfold pFn; omega
  · have := w.bd; unfold pFn; omega
  · unfold pId at w; unfold pFn; omega
  · have := w.bd; unfold pFn; omega
  · unfold pRs at w; unfold pFn; omega
  · unfold pSp at w; unfold pFn; omega
  · unfold pRo at w; unfold pFn; omega
  · unfold pTx at w; unfold pFn; omega
theorem moI.setRw {r : Nat × (Nat → Nat → Rat)} (h : moI S D M s) (hW : crW N s) (e : ∀ c i, pK M c i → ¬ pRw M c i → D' c i = D c i) (hT : mRw D' M r) (hS : mSm D' M) : moI S D' M (uRw s r) := by
  obtain ⟨h1, h2, h3, h4, h5, h6, h7, h8, h9, h10, h11⟩ := h
  refine ⟨h1, h2.cgr fun c i w => e c i w.k ?_, h3.cgr fun c i w => e c i w.k ?_, hT, h5.cgr fun c i w => e c i w.k ?_, h6.cgr hW.2.2.2.2.1.1 fun c i w => e c i w.k ?_, h7.cgr fun c i w => e c i w.k ?_, h8.cgr fun c i w => e c i w.k ?_, h9.cgr fun c i w => e c i w.k ?_, h10.cgr fun c i w => e c i w.k ?_, hS⟩
  · intro q; have := q.bd; unfold pTh at w; omega
  · intro q; have := q.bd; unfold pFn at w; omega
  · intro q; have := q.bd; unfold pId at w; omega
  · intro q
    rcases w with w | ⟨k, a1, a2, a3⟩ <;> rcases q with q | ⟨j, b1, b2, b3⟩ <;> omega
  · intro q; have := q.bd; unfold pRs at w; omega
  · intro q; have := q.bd; unfold pSp at w; omega
  · intro q; have := q.bd; unfold pRo at w; omega
  · intro q; have := q.bd; unfold pTx at w; omega
theorem moI.setId {r : Nat × (Nat → Nat → Int)} (h : moI S D M s) (hW : crW N s) (e : ∀ c i, pK M c i → ¬ pId M c i → D' c i = D c i) (hT : midD D' M r.1 r.2) (hS : mSm D' M) : moI S D' M (uId s r) := by
  obtain ⟨h1, h2, h3, h4, h5, h6, h7, h8, h9, h10, h11⟩ := h
  refine ⟨h1, h2.cgr fun c i w => e c i w.k ?_, h3.cgr fun c i w => e c i w.k ?_, h4.cgr hW.2.2.1.1 fun c i w => e c i w.k ?_, hT, h6.cgr hW.2.2.2.2.1.1 fun c i w => e c i w.k ?_, h7.cgr fun c i w => e c i w.k ?_, h8.cgr fun c i w => e c i w.k ?_, h9.cgr fun c i w => e c i w.k ?_, h10.cgr fun c i w => e c i w.k ?_, hS⟩
  · unfold pTh at w; unfold pId; omega
  · unfold pFn at w; unfold pId; omega
  · have := w.bd; unfold pId; omega
  · have := w.bd; unfold pId; omega
  · unfold pRs at w; unfold pId; omega
  · unfold pSp at w; unfold pId; omega
  · unfold pRo at w; unfold pId; omega
  · unfold pTx at w; unfold pId; omega
theorem moI.setQt {r : Nat × (Nat → Nat → Rat)} {ρ : Nat → Rat} (h : moI S D M s) (hW : crW N s) (e : ∀ c i, pK M c i → ¬ pQt M c i → ¬ pRs M c i → D' c i = D c i) (hT : mQt D' M r) (hR : mRs D' M (some ρ)) (hS : mSm D' M) : moI S D' M (uQt s r ρ) := by
  obtain ⟨h1, h2, h3, h4, h5, h6, h7, h8, h9, h10, h11⟩ := h
  refine ⟨h1, h2.cgr fun c i w => e c i w.k ?_ ?_, h3.cgr fun c i w => e c i w.k ?_ ?_, h4.cgr hW.2.2.1.1 fun c i w => e c i w.k ?_ ?_, h5.cgr fun c i w => e c i w.k ?_ ?_, hT, hR, h8.cgr fun c i w => e c i w.k ?_ ?_, h9.cgr fun c i w => e c i w.k ?_ ?_, h10.cgr fun c i w => e c i w.k ?_ ?_, hS⟩
  · intro q; have := q.bd; unfold pTh at w; omega
  · unfold pTh at w; unfold pRs; omega
  · intro q; have := q.bd; unfold pFn at w; omega
  · unfold pFn at w; unfold pRs; omega
  · intro q
    rcases w with w | ⟨k, a1, a2, a3⟩ <;> rcases q with q | ⟨j, b1, b2, b3⟩ <;> omega
  · have := w.bd; unfold pRs; omega
  · intro q; have := q.bd; unfold pId at w; omega
  · unfold pId at w; unfold pRs; omega
  · intro q; have := q.bd; unfold pSp at w; omega
  · unfold pSp at w; unfold pRs; omega
  · intro q; have := q.bd; unfold pRo at w; omega
  · unfold pRo at w; unfold pRs; omega
  · intro q; have := q.bd; unfold pTx at w; omega
  · unfold pTx at w; unfold pRs; omega
theorem moI.setSp {x : Spn} (h : moI S D M s) (hW : crW N s) (e : ∀ c i, pK M c i → ¬ pSp M c i → D' c i = D c i) (hT : mSp D' M (some x)) (hS : mSm D' M) : moI S D' M (uSp s x) := by
  obtain ⟨h1, h2, h3, h4, h5, h6, h7, h8, h9, h10, h11⟩ := h
  refine ⟨h1, h2.cgr fun c i w => e c i w.k ?_, h3.cgr fun c i w => e c i w.k ?_, h4.cgr hW.2.2.1.1 fun c i w => e c i w.k ?_, h5.cgr fun c i w => e c i w.k ?_, h6.cgr hW.2.2.2.2.1.1 fun c i w => e c i w.k ?_, h7.cgr fun c i w => e c i w.k ?_, hT, h9.cgr fun c i w => e c i w.k ?_, h10.cgr fun c i w => e c i w.k ?_, hS⟩
  · unfold pTh at w; unfold pSp; omega
  · unfold pFn at w; unfold pSp; omega
  · have := w.bd; unfold pSp; omega
  · unfold pId at w; unfold pSp; omega
  · have := w.bd; unfold pSp; omega
  · unfold pRs at w; unfold pSp; omega
  · unfold pRo at w; unfold pSp; omega
  · unfold pTx at w; unfold pSp; omega
theorem moI.setRo {x : Rq × List (Nat × Int)} (h : moI S D M s) (hW : crW N s) (e : ∀ c i, pK M c i → ¬ pRo M c i → D' c i = D c i) (hT : mRo D' M (some x)) (hS : mSm D' M) : moI S D' M (uRo s x) := by
  obtain ⟨h1, h2, h3, h4, h5, h6, h7, h8, h9, h10, h11⟩ := h
  refine ⟨h1, h2.cgr fun c i w => e c i w.k ?_, h3.cgr fun c i w => e c i w.k ?_, h4.cgr hW.2.2.1.1 fun c i w => e c i w.k ?_, h5.cgr fun c i w => e c i w.k ?_, h6.cgr hW.2.2.2.2.1.1 fun c i w => e c i w.k ?_, h7.cgr fun c i w => e c i w.k ?_, h8.cgr fun c i w => e c i w.k ?_, hT, h10.cgr fun c i w => e c i w.k ?_, hS⟩
  · unfold pTh at w; unfold pRo; omega
  · unfold pFn at w; unfold pRo; omega
  · have := w.bd; unfold pRo; omega
  · unfold pId at w; unfold pRo; omega
  · have := w.bd; unfold pRo; omega
  · unfold pRs at w; unfold pRo; omega
  · unfold pSp at w; unfold pRo; omega
  · unfold pTx at w; unfold pRo; omega
theorem moI.setTx {x : Nat × (Nat → Int)} (h : moI S D M s) (hW : crW N s) (e : ∀ c i, pK M c i → ¬ pTx M c i → D' c i = D c i) (hT : mTx D' M x) (hS : mSm D' M) : moI S D' M (uTx s x) := by
  obtain ⟨h1, h2, h3, h4, h5, h6, h7, h8, h9, h10, h11⟩ := h
  refine ⟨h1, h2.cgr fun c i w => e c i w.k ?_, h3.cgr fun c i w => e c i w.k ?_, h4.cgr hW.2.2.1.1 fun c i w => e c i w.k ?_, h5.cgr fun c i w => e c i w.k ?_, h6.cgr hW.2.2.2.2.1.1 fun c i w => e c i w.k ?_, h7.cgr fun c i w => e c i w.k ?_, h8.cgr fun c i w => e c i w.k ?_, h9.cgr fun c i w => e c i w.k ?_, hT, hS⟩
  · unfold pTh at w; unfold pTx; omega
  · unfold pFn at w; unfold pTx; omega
  · have := w.bd; unfold pTx; omega
  · unfold pId at w; unfold pTx; omega
  · have := w.bd; unfold pTx; omega
  · unfold pRs at w; unfold pTx; omega
  · unfold pSp at w; unfold pTx; omega
  · unfold pRo at w; unfold pTx; omega
/-- the cells of a place -/
def pPl (M p c : Nat) (i : Int) : Prop := ((c = M + 21 ∨ c = M + 23 ∨ c = M + 24 ∨ c = M + 42 ∨ c = M + 76) ∧ i = (p : Int)) ∨ c = M + 26 + p ∨ c = M + 44 + 2 * p ∨ c = M + 44 + 2 * p + 1 ∨ (M + 12195 + 244 * p ≤ c ∧ c ≤ M + 12195 + 244 * p + 243)
theorem moI.place {p : Int} {x : Th} (h : moI S D M s) (hW : crW N s) (hp : 0 ≤ p ∧ p < 16) (e : ∀ c i, pK M c i → ¬ pPl M p.toNat c i → D' c i = D c i) (hx : mth D' M p.toNat x) (hS : mSm D' M) : moI S D' M (uTh s p x) := by
  have hp2 : ((p.toNat : Nat) : Int) = p := by omega
  refine h.setTh hW (fun c i w1 w2 => e c i w1 fun w3 => w2 (by unfold pPl at w3; unfold pTh; omega)) (fun q hq => ?_) hS
  rcases Nat.decEq q p.toNat with w | w
  · rw [if_neg (by omega)]
    refine (h.2.1 q hq).cgr hq fun c i hc => e c i ?_ ?_
    · unfold pK; omega
    · unfold pPl; omega
  · subst w
    rw [if_pos hp2]
    exact hx
theorem moI.look (h : moI S D M s) (x : Int) (k : Nat) : lookV (D (M + 21)) x k = -(lkN s x k : Int) := by
  unfold lookV lkN
  split
  · rename_i hx
    have hm := h.2.1 x.toNat (by omega)
    have e : ((x.toNat : Nat) : Int) = x := by omega
    have ek : D (M + 21) x = (tkN (sTh s x.toNat) : Int) := by
      revert hm
      rcases sTh s x.toNat with _ | (φ | (o | (r | k))) <;> intro hm
      · have : D (M + 21) ((x.toNat : Nat) : Int) = 0 := hm
        rw [e] at this; exact this
      all_goals (have := hm.1; rw [e] at this; exact this)
    rw [ek]
    by_cases h0 : tkN (sTh s x.toNat) = 0
    · rw [if_pos (by omega), if_pos h0]; rfl
    · rw [if_neg (by omega), if_neg h0]
      by_cases h1 : k = 0 ∨ tkN (sTh s x.toNat) = k
      · rw [if_pos (by omega), if_pos h1]; rfl
      · rw [if_neg (by omega), if_neg h1]; rfl
  · rfl
end MKP
