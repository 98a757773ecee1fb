/-! what each call does to the court -/
-- needs: e2.minv
set_option maxRecDepth 100000
set_option linter.unusedVariables false
def fR (k : Nat) (s s' : Cst) (v : Int) : Prop := s' = uFn s k ∧ v = -(k : Int)
/-- a polynomial comes to a place, if all went well -/
def rP (s : Cst) (r : Int) (good : Prop) (χ : Nat → Rat) (s' : Cst) (v : Int) : Prop := (good ∧ pcnt χ 455 ≤ 60 ∧ s' = uTh s r (some (.inl χ)) ∧ v = (pcnt χ 455 : Nat)) ∨ (¬ (good ∧ pcnt χ 455 ≤ 60) ∧ fR 6 s s' v)
def oOrder (x k n : Int) (s s' : Cst) (v : Int) : Prop := rR (foN (glN x) (if 0 ≤ k ∧ k ≤ 3 ∧ (k < 3 ∨ n = 1 ∨ n = 2) then 0 else 6)) (fun s' v => v = 0 ∧ s' = uTh s x (some (.inr (.inl (9 + k.toNat, if k = 3 then n.toNat else 0))))) s s' v
def oZero (x : Int) (s s' : Cst) (v : Int) : Prop := rR (glN x) (fun s' v => v = 0 ∧ s' = uTh s x (some (.inl fun _ => 0))) s s' v
def oTerm (p num den code : Int) (s s' : Cst) (v : Int) : Prop := rR (foN (lkN s p 1) (foN (if den = 0 then 5 else 0) (if 0 ≤ code ∧ code ≤ 4095 ∧ zdg code ≤ 12 then 0 else 6))) (fun s' v => ∃ φ t, sTh s p.toNat = some (.inl φ) ∧ t < 455 ∧ tcode t = code ∧ rP s p (qfit (φ t + Rat.divInt num den)) (pupd φ t (φ t + Rat.divInt num den)) s' v) s s' v
def oSum (sg : Int) (p q r : Int) (s s' : Cst) (v : Int) : Prop := rR (foN (lkN s p 1) (foN (lkN s q 1) (glN r))) (fun s' v => ∃ φ ψ, sTh s p.toNat = some (.inl φ) ∧ sTh s q.toNat = some (.inl ψ) ∧ rP s r (∀ t, t < 455 → qfit (φ t + sg * ψ t)) (fun t => φ t + sg * ψ t) s' v) s s' v
/-- products: term by term, from the greatest by LEX on -/
def mu1 (x : Rat) (t : Nat) (ψ : Nat → Rat) (χ : Nat → Rat) : Nat → Nat → Rat
  | 0 => χ
  | j + 1 => if ψ (454 - j) = 0 then mu1 x t ψ χ j else pupd (mu1 x t ψ χ j) (tmu t (454 - j)) (mu1 x t ψ χ j (tmu t (454 - j)) + ψ (454 - j) * x)
def mk1 (x : Rat) (t : Nat) (ψ : Nat → Rat) (χ : Nat → Rat) (n : Nat) : Prop := ∀ j, j < n → ψ (454 - j) ≠ 0 → qfit (mu1 x t ψ χ j (tmu t (454 - j)) + ψ (454 - j) * x)
def mu2 (φ ψ : Nat → Rat) : Nat → Nat → Rat
  | 0 => fun _ => 0
  | i + 1 => if φ (454 - i) = 0 then mu2 φ ψ i else mu1 (φ (454 - i)) (454 - i) ψ (mu2 φ ψ i) 455
def mk2 (φ ψ : Nat → Rat) (n : Nat) : Prop := ∀ i, i < n → φ (454 - i) ≠ 0 → mk1 (φ (454 - i)) (454 - i) ψ (mu2 φ ψ i) 455
def oTimes (p q r : Int) (s s' : Cst) (v : Int) : Prop := rR (foN (lkN s p 1) (foN (lkN s q 1) (glN r))) (fun s' v => ∃ φ ψ, sTh s p.toNat = some (.inl φ) ∧ sTh s q.toNat = some (.inl ψ) ∧ rP s r ((pcnt φ 455 = 0 ∨ pcnt ψ 455 = 0 ∨ degI φ 455 + degI ψ 455 ≤ 12) ∧ mk2 φ ψ 455) (mu2 φ ψ 455) s' v) s s' v
/-- some terms of a polynomial, counted from the greatest by LEX on -/
def prtI (φ : Nat → Rat) (a n : Int) : Nat → Rat := fun t => if a ≤ (pcnt φ 455 : Int) - pcnt φ (t + 1) ∧ (pcnt φ 455 : Int) - pcnt φ (t + 1) < a + n ∧ t < 455 then φ t else 0
def oPart (p r a n : Int) (s s' : Cst) (v : Int) : Prop := rR (foN (lkN s p 1) (foN (glN r) (if n < 0 then 4 else 0))) (fun s' v => ∃ φ, sTh s p.toNat = some (.inl φ) ∧ ((0 ≤ a ∧ a + n ≤ pcnt φ 455 ∧ s' = uTh s r (some (.inl (prtI φ a n))) ∧ v = n) ∨ (¬ (0 ≤ a ∧ a + n ≤ pcnt φ 455) ∧ fR 1 s s' v))) s s' v
def oSize (p deep : Int) (s s' : Cst) (v : Int) : Prop := rR (lkN s p 1) (fun s' v => ∃ φ, sTh s p.toNat = some (.inl φ) ∧ ((deep = 0 ∧ s' = s ∧ v = (pcnt φ 455 : Nat)) ∨ (deep ≠ 0 ∧ pcnt φ 455 = 0 ∧ fR 7 s s' v) ∨ (deep ≠ 0 ∧ pcnt φ 455 ≠ 0 ∧ s' = s ∧ v = degI φ 455))) s s' v
def oLead (p o : Int) (s s' : Cst) (v : Int) : Prop := rR (foN (lkN s p 1) (lkN s o 2)) (fun s' v => ∃ φ c g, sTh s p.toNat = some (.inl φ) ∧ sTh s o.toNat = some (.inr (.inl (c, g))) ∧ ((pcnt φ 455 = 0 ∧ fR 7 s s' v) ∨ (pcnt φ 455 ≠ 0 ∧ s' = s ∧ ∃ t, isLead c g φ t ∧ v = tcode t))) s s' v
def oLetter (i : Int) (s s' : Cst) (v : Int) : Prop := (0 ≤ i ∧ i < (sTx s).1 ∧ s' = s ∧ v = (sTx s).2 i.toNat) ∨ (¬ (0 ≤ i ∧ i < (sTx s).1) ∧ fR 7 s s' v)
def oRow (p : Int) (s s' : Cst) (v : Int) : Prop := rR (lkN s p 1) (fun s' v => ∃ φ, sTh s p.toNat = some (.inl φ) ∧ (((sRw s).1 < 6 ∧ s' = uRw s ((sRw s).1 + 1, fun k => if k = (sRw s).1 then φ else (sRw s).2 k) ∧ v = (((sRw s).1 + 1 : Nat) : Int)) ∨ (¬ (sRw s).1 < 6 ∧ fR 6 s s' v))) s s' v
def oUnrow (s s' : Cst) (v : Int) : Prop := s' = uRw s (0, (sRw s).2) ∧ v = (sRw s).1
def oDivide (p o : Int) (s s' : Cst) (v : Int) : Prop := rR (foN (lkN s p 1) (lkN s o 2)) (fun s' v => ∃ φ c g, sTh s p.toNat = some (.inl φ) ∧ sTh s o.toNat = some (.inr (.inl (c, g))) ∧ ∃ n res, dvR c g (sRw s).1 (sRw s).2 n (φ, fun _ => 0, fun _ => 0, fun _ _ => 0) res ∧ ((res = none ∧ fR 6 s s' v) ∨ ∃ st, res = some st ∧ s' = uQt s ((sRw s).1, st.2.2.2) st.2.1 ∧ v = (pcnt st.2.1 455 : Nat))) s s' v
def oIdeal (p : Int) (s s' : Cst) (v : Int) : Prop := rR (lkN s p 1) (fun s' v => ∃ φ, sTh s p.toNat = some (.inl φ) ∧ ((pcnt φ 455 = 0 ∧ fR 5 s s' v) ∨ (pcnt φ 455 ≠ 0 ∧ ¬ (pcnt φ 455 ≤ 12 ∧ degI φ 455 ≤ 4 ∧ isPln φ 99 ∧ (sId s).1 < 4) ∧ fR 6 s s' v) ∨ (pcnt φ 455 ≠ 0 ∧ pcnt φ 455 ≤ 12 ∧ degI φ 455 ≤ 4 ∧ isPln φ 99 ∧ (sId s).1 < 4 ∧ s' = uId s ((sId s).1 + 1, fun k => if k = (sId s).1 then fun t => (φ t).num else (sId s).2 k) ∧ v = (((sId s).1 + 1 : Nat) : Int)))) s s' v
def oUnideal (s s' : Cst) (v : Int) : Prop := s' = uId s (0, (sId s).2) ∧ v = (sId s).1
def cutN (σ : Nat → Nat) (n : Nat) : Nat → Nat := fun i => if i < n then σ i else 0
def oSpan (o d : Int) (s s' : Cst) (v : Int) : Prop := rR (foN (lkN s o 2) (if 0 ≤ d ∧ d ≤ 4 then 0 else 6)) (fun s' v => ∃ c g st σ, sTh s o.toNat = some (.inr (.inl (c, g))) ∧ spR c g (sId s).2 d (sId s).1 st ∧ spSo c g st σ ∧ s' = uSp s ((c, g, d.toNat), sId s, st, cutN σ st.1) ∧ v = st.1) s s' v
def oElement (k r : Int) (s s' : Cst) (v : Int) : Prop := rR (glN r) (fun s' v => (∃ o m st σ, sSp s = some (o, m, st, σ) ∧ 0 ≤ k ∧ k < st.1 ∧ s' = uTh s r (some (.inl (spEl st σ k.toNat))) ∧ v = tcode (spLd st σ k.toNat)) ∨ ((∀ o m st σ, sSp s = some (o, m, st, σ) → ¬ (0 ≤ k ∧ k < st.1)) ∧ fR 7 s s' v)) s s' v
def oClosed (s s' : Cst) (v : Int) : Prop := (sSp s = none ∧ fR 7 s s' v) ∨ ∃ c g d m st σ, sSp s = some ((c, g, d), m, st, σ) ∧ ∃ r μ v0, isMinL st σ st.1 r μ ∧ clR c g r (fun i => spEl st σ (μ i)) (fun i => spLd st σ (μ i)) v0 ∧ ((v0 = -6 ∧ fR 6 s s' v) ∨ (v0 ≠ -6 ∧ s' = s ∧ v = v0))
def oWithout (n : Int) (s s' : Cst) (v : Int) : Prop := (sSp s = none ∧ fR 7 s s' v) ∨ ∃ o m st σ, sSp s = some (o, m, st, σ) ∧ ((¬ (n = 1 ∨ n = 2) ∧ fR 6 s s' v) ∨ ((n = 1 ∨ n = 2) ∧ s' = s ∧ ∃ r : Nat, isCnt (spWo st σ n.toNat) st.1 r ∧ v = r))
def oMany (s s' : Cst) (v : Int) : Prop := (sSp s = none ∧ fR 7 s s' v) ∨ ∃ o m st σ, sSp s = some (o, m, st, σ) ∧ (((∃ l, l < 3 ∧ spFree st σ (spPw l)) ∧ fR 7 s s' v) ∨ ((∀ l, l < 3 → ¬ spFree st σ (spPw l)) ∧ s' = s ∧ ∃ r : Nat, isCnt (spFree st σ) 455 r ∧ v = r))
def oMember (p : Int) (s s' : Cst) (v : Int) : Prop := rR (lkN s p 1) (fun s' v => ∃ φ, sTh s p.toNat = some (.inl φ) ∧ ((sSp s = none ∧ fR 7 s s' v) ∨ ∃ c g d m I st σ, sSp s = some ((c, g, d), (m, I), st, σ) ∧ ((¬ (degI φ 455 ≤ d ∧ isPln φ 999) ∧ fR 6 s s' v) ∨ (degI φ 455 ≤ d ∧ isPln φ 999 ∧ (((∀ t, t < 455 → spRest st φ t = 0) ∧ s' = uQt s (m, fun j => spWay st φ st.1 j) (spRest st φ) ∧ v = 1) ∨ ((¬ ∀ t, t < 455 → spRest st φ t = 0) ∧ s' = uQt s (0, fun _ _ => 0) (spRest st φ) ∧ v = 0)))))) s s' v
def oQuotient (k r : Int) (s s' : Cst) (v : Int) : Prop := rR (glN r) (fun s' v => (0 ≤ k ∧ k < (sQt s).1 ∧ s' = uTh s r (some (.inl ((sQt s).2 k.toNat))) ∧ v = (pcnt ((sQt s).2 k.toNat) 455 : Nat)) ∨ (¬ (0 ≤ k ∧ k < (sQt s).1) ∧ fR 7 s s' v)) s s' v
def oRest (r : Int) (s s' : Cst) (v : Int) : Prop := rR (glN r) (fun s' v => (∃ ρ, sRs s = some ρ ∧ s' = uTh s r (some (.inl ρ)) ∧ v = (pcnt ρ 455 : Nat)) ∨ (sRs s = none ∧ fR 7 s s' v)) s s' v
def oRoots (p : Int) (s s' : Cst) (v : Int) : Prop := rR (lkN s p 1) (fun s' v => ∃ φ, sTh s p.toNat = some (.inl φ) ∧ ((pcnt φ 455 = 0 ∧ fR 5 s s' v) ∨ (pcnt φ 455 ≠ 0 ∧ ¬ uniP φ ∧ fR 6 s s' v) ∨ (pcnt φ 455 ≠ 0 ∧ uniP φ ∧ ∃ f d, uniR φ f d ∧ ((d = 0 ∧ s' = uRo s ((f, 0), []) ∧ v = 0) ∨ (1 ≤ d ∧ s' = uRo s ((f, d), lv (nR (zp f (d + 1))) 390 0 0) ∧ v = ((lv (nR (zp f (d + 1))) 390 0 0).length : Nat)))))) s s' v
def oRoot (k r : Int) (s s' : Cst) (v : Int) : Prop := rR (glN r) (fun s' v => (∃ q L h w, sRo s = some (q, L) ∧ 0 ≤ k ∧ L[k.toNat]? = some (h, w) ∧ s' = uTh s r (some (.inr (.inr (.inl (q, h, w, 0))))) ∧ v = 0) ∨ ((∀ q L, sRo s = some (q, L) → ¬ (0 ≤ k ∧ k < L.length)) ∧ fR 7 s s' v)) s s' v
def oNarrow (p : Int) (s s' : Cst) (v : Int) : Prop := rR (lkN s p 3) (fun s' v => ∃ q h w n, sTh s p.toNat = some (.inr (.inr (.inl (q, h, w, n)))) ∧ ((¬ n < 60 ∧ fR 6 s s' v) ∨ (n < 60 ∧ s' = uTh s p (some (.inr (.inr (.inl (q, h + 1, 2 * w + (if nR (zp q.1 (q.2 + 1)) (h + 1) (2 * w) = 1 then 0 else 1), n + 1))))) ∧ v = if nR (zp q.1 (q.2 + 1)) (h + 1) (2 * w) = 1 then 0 else 1))) s s' v
/-- signs: by the one's way (sgC) or the other's (sgM) -/
def oSign (sg : pf → pf → Rat → Rat → Int → Prop) (p q : Int) (s s' : Cst) (v : Int) : Prop := rR (foN (lkN s p 1) (lkN s q 3)) (fun s' v => ∃ φ f d h w n, sTh s p.toNat = some (.inl φ) ∧ sTh s q.toNat = some (.inr (.inr (.inl ((f, d), h, w, n)))) ∧ ((pcnt φ 455 = 0 ∧ s' = s ∧ v = 1) ∨ (pcnt φ 455 ≠ 0 ∧ ¬ uniP φ ∧ fR 6 s s' v) ∨ (pcnt φ 455 ≠ 0 ∧ uniP φ ∧ s' = s ∧ ∃ g dq τ, uniR φ g dq ∧ sg (zp f (d + 1)) (zp g (dq + 1)) (rpt h w) (rpt h (w + 1)) τ ∧ v = 1 + τ))) s s' v
def thL : Th → Th → Prop
  | some (.inl φ), some (.inl ψ) => φ = ψ
  | some (.inr (.inl o)), some (.inr (.inl q)) => o = q
  | some (.inr (.inr (.inl r))), some (.inr (.inr (.inl q))) => r.2.1 = q.2.1 ∧ r.2.2.1 = q.2.2.1
  | some (.inr (.inr (.inr k))), some (.inr (.inr (.inr j))) => k = j
  | _, _ => False
def oSame (p q : Int) (s s' : Cst) (v : Int) : Prop := rR (foN (lkN s p 0) (lkN s q 0)) (fun s' v => s' = s ∧ (v = 0 ∨ v = 1) ∧ (v = 1 ↔ thL (sTh s p.toNat) (sTh s q.toNat))) s s' v
def oKind (p : Int) (s s' : Cst) (v : Int) : Prop := rR (lkN s p 0) (fun s' v => s' = s ∧ v = tkN (sTh s p.toNat)) s s' v
def oPut (p r : Int) (s s' : Cst) (v : Int) : Prop := rR (foN (lkN s p 0) (glN r)) (fun s' v => s' = uTh s r (sTh s p.toNat) ∧ v = tkN (sTh s p.toNat)) s s' v
def oGone (r : Int) (s s' : Cst) (v : Int) : Prop := rR (glN r) (fun s' v => s' = uTh s r none ∧ v = 0) s s' v
def oKeep (r : Int) (s s' : Cst) (v : Int) : Prop := rR (foN (glN r) (if (sFn s).1 = 0 then 7 else 0)) (fun s' v => s' = uTh s r (some (.inr (.inr (.inr (sFn s).1)))) ∧ v = (sFn s).1) s s' v
def oRaise (p : Int) (s s' : Cst) (v : Int) : Prop := rR (lkN s p 4) (fun s' v => s' = s ∧ ∃ k : Nat, sTh s p.toNat = some (.inr (.inr (.inr k))) ∧ v = k) s s' v
def oFound (x : Int) (s s' : Cst) (v : Int) : Prop := rR (if -7 ≤ x ∧ x ≤ -1 then 0 else 7) (fun s' v => s' = s ∧ v = ((sFn s).2 (-x).toNat : Nat)) s s' v
/-- what looks tell -/
theorem lk_in {s : Cst} {x : Int} {k : Nat} (h : lkN s x k = 0) : ∃ p : Nat, x = p ∧ p < 16 ∧ tkN (sTh s p) ≠ 0 ∧ (k = 0 ∨ tkN (sTh s p) = k) := by
  unfold lkN at h
  split at h
  · rename_i hx
    refine ⟨x.toNat, by omega, by omega, ?_⟩
    split at h
    · exact absurd h (by decide)
    · rename_i h1
      split at h
      · rename_i h2; exact ⟨h1, h2⟩
      · exact absurd h (by decide)
  · exact absurd h (by decide)
theorem gl_in {x : Int} (h : glN x = 0) : ∃ p : Nat, x = p ∧ p < 16 := by
  unfold glN at h
  split at h
  · exact ⟨x.toNat, by omega, by omega⟩
  · exact absurd h (by decide)
theorem tk_1 {t : Th} (h : tkN t = 1) : ∃ φ, t = some (.inl φ) := by
  rcases t with _ | (φ | (o | (r | k))) <;> first | exact ⟨_, rfl⟩ | (simp [tkN] at h)
theorem tk_2 {t : Th} (h : tkN t = 2) : ∃ c g, t = some (.inr (.inl (c, g))) := by
  rcases t with _ | (φ | (o | (r | k))) <;> first | exact ⟨_, _, rfl⟩ | (simp [tkN] at h)
theorem tk_3 {t : Th} (h : tkN t = 3) : ∃ r, t = some (.inr (.inr (.inl r))) := by
  rcases t with _ | (φ | (o | (r | k))) <;> first | exact ⟨_, rfl⟩ | (simp [tkN] at h)
theorem tk_4 {t : Th} (h : tkN t = 4) : ∃ k, t = some (.inr (.inr (.inr k))) := by
  rcases t with _ | (φ | (o | (r | k))) <;> first | exact ⟨_, rfl⟩ | (simp [tkN] at h)
theorem lk1 {s : Cst} {x : Int} (h : lkN s x 1 = 0) : ∃ (p : Nat) (φ : Nat → Rat), x = p ∧ p < 16 ∧ sTh s p = some (.inl φ) := by
  obtain ⟨p, h1, h2, h3, h4⟩ := lk_in h
  obtain ⟨φ, h5⟩ := tk_1 (by omega : tkN (sTh s p) = 1)
  exact ⟨p, φ, h1, h2, h5⟩
theorem lk2 {s : Cst} {x : Int} (h : lkN s x 2 = 0) : ∃ (p c g : Nat), x = p ∧ p < 16 ∧ sTh s p = some (.inr (.inl (c, g))) := by
  obtain ⟨p, h1, h2, h3, h4⟩ := lk_in h
  obtain ⟨c, g, h5⟩ := tk_2 (by omega : tkN (sTh s p) = 2)
  exact ⟨p, c, g, h1, h2, h5⟩
theorem lk3 {s : Cst} {x : Int} (h : lkN s x 3 = 0) : ∃ (p : Nat) (r : Rt), x = p ∧ p < 16 ∧ sTh s p = some (.inr (.inr (.inl r))) := by
  obtain ⟨p, h1, h2, h3, h4⟩ := lk_in h
  obtain ⟨r, h5⟩ := tk_3 (by omega : tkN (sTh s p) = 3)
  exact ⟨p, r, h1, h2, h5⟩
theorem lk4 {s : Cst} {x : Int} (h : lkN s x 4 = 0) : ∃ (p k : Nat), x = p ∧ p < 16 ∧ sTh s p = some (.inr (.inr (.inr k))) := by
  obtain ⟨p, h1, h2, h3, h4⟩ := lk_in h
  obtain ⟨r, h5⟩ := tk_4 (by omega : tkN (sTh s p) = 4)
  exact ⟨p, r, h1, h2, h5⟩
theorem foN_0 {a b : Nat} : foN a b = 0 ↔ a = 0 ∧ b = 0 := by
  unfold foN
  split <;> omega
theorem foN_le {a b n : Nat} (h1 : a ≤ n) (h2 : b ≤ n) : foN a b ≤ n := by
  unfold foN
  split <;> omega
theorem rR_f {f : Nat} {Q : Cst → Int → Prop} {s : Cst} {f' : Nat} (h : f' ≠ 0) (e : f = f') : rR f Q s (uFn s f') (-(f' : Int)) := .inl ⟨by omega, by rw [e], by rw [e]⟩
theorem rR_q {f : Nat} {Q : Cst → Int → Prop} {s s' : Cst} {v : Int} (h : f = 0) (q : Q s' v) : rR f Q s s' v := .inr ⟨h, q⟩
theorem rR.uniq {f : Nat} {Q Q' : Cst → Int → Prop} {s s1 s2 : Cst} {v1 v2 : Int} (h1 : rR f Q s s1 v1) (h2 : rR f Q' s s2 v2) (hq : ∀ s1 v1 s2 v2, Q s1 v1 → Q' s2 v2 → s1 = s2 ∧ v1 = v2) : s1 = s2 ∧ v1 = v2 := by
  rcases h1 with ⟨a, b, c⟩ | ⟨a, b⟩ <;> rcases h2 with ⟨a', b', c'⟩ | ⟨a', b'⟩
  · exact ⟨by rw [c, c'], by rw [b, b']⟩
  · exact absurd a' a
  · exact absurd a a'
  · exact hq _ _ _ _ b b'
theorem rP.uniq {s : Cst} {r : Int} {good : Prop} {χ : Nat → Rat} {s1 s2 : Cst} {v1 v2 : Int} (h1 : rP s r good χ s1 v1) (h2 : rP s r good χ s2 v2) : s1 = s2 ∧ v1 = v2 := by
  rcases h1 with ⟨a, b, c, d⟩ | ⟨a, b, c⟩ <;> rcases h2 with ⟨a', b', c', d'⟩ | ⟨a', b', c'⟩
  · exact ⟨by rw [c, c'], by rw [d, d']⟩
  · exact absurd ⟨a, b⟩ a'
  · exact absurd ⟨a', b'⟩ a
  · exact ⟨by rw [b, b'], by rw [c, c']⟩
theorem fR.uniq {k : Nat} {s s1 s2 : Cst} {v1 v2 : Int} (h1 : fR k s s1 v1) (h2 : fR k s s2 v2) : s1 = s2 ∧ v1 = v2 := ⟨by rw [h1.1, h2.1], by rw [h1.2, h2.2]⟩
theorem uTh_self (s : Cst) (p : Nat) : uTh s p (sTh s p) = s := by
  unfold uTh
  have : (fun q : Nat => if (q : Int) = (p : Int) then sTh s p else sTh s q) = s.1 := by
    funext q
    split
    · rename_i h
      have : q = p := by omega
      rw [this]; rfl
    · rfl
  rw [this]
theorem thL_kd {a b : Th} (h : thL a b) : tkN a = tkN b := by
  rcases a with _ | (φ | (o | (r | k))) <;> rcases b with _ | (φ' | (o' | (r' | k'))) <;> first | rfl | exact absurd h (fun h => h)
