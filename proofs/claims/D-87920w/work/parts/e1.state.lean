/-! the court as it stands: things at places, findings, rows, ideal, quotients, rest, span, roots, text -/
-- needs: e0.answer
set_option maxRecDepth 100000
set_option linter.unusedVariables false
/-- a polynomial in one letter -/
abbrev Rq : Type := (Nat → Int) × Nat
/-- a root: its polynomial, depth, which span, how often narrowed -/
abbrev Rt : Type := Rq × Nat × Int × Nat
abbrev Th : Type := Option ((Nat → Rat) ⊕ (Nat × Nat) ⊕ Rt ⊕ Nat)
/-- a span: order and degree, ideal, rows, their order -/
abbrev Spn : Type := (Nat × Nat × Nat) × (Nat × (Nat → Nat → Int)) × spst × (Nat → Nat)
abbrev Cst : Type := (Nat → Th) × (Nat × (Nat → Nat)) × (Nat × (Nat → Nat → Rat)) × (Nat × (Nat → Nat → Int)) × (Nat × (Nat → Nat → Rat)) × Option (Nat → Rat) × Option Spn × Option (Rq × List (Nat × Int)) × (Nat × (Nat → Int))
def sTh (s : Cst) : Nat → Th := s.1
def sFn (s : Cst) : Nat × (Nat → Nat) := s.2.1
def sRw (s : Cst) : Nat × (Nat → Nat → Rat) := s.2.2.1
def sId (s : Cst) : Nat × (Nat → Nat → Int) := s.2.2.2.1
def sQt (s : Cst) : Nat × (Nat → Nat → Rat) := s.2.2.2.2.1
def sRs (s : Cst) : Option (Nat → Rat) := s.2.2.2.2.2.1
def sSp (s : Cst) : Option Spn := s.2.2.2.2.2.2.1
def sRo (s : Cst) : Option (Rq × List (Nat × Int)) := s.2.2.2.2.2.2.2.1
def sTx (s : Cst) : Nat × (Nat → Int) := s.2.2.2.2.2.2.2.2
def uTh (s : Cst) (p : Int) (x : Th) : Cst := (fun q => if (q : Int) = p then x else sTh s q, s.2)
def uFn (s : Cst) (k : Nat) : Cst := (sTh s, (k, fun j => if j = k then (sFn s).2 j + 1 else (sFn s).2 j), s.2.2)
def uRw (s : Cst) (x : Nat × (Nat → Nat → Rat)) : Cst := (sTh s, sFn s, x, sId s, sQt s, sRs s, sSp s, sRo s, sTx s)
def uId (s : Cst) (x : Nat × (Nat → Nat → Int)) : Cst := (sTh s, sFn s, sRw s, x, sQt s, sRs s, sSp s, sRo s, sTx s)
def uQt (s : Cst) (x : Nat × (Nat → Nat → Rat)) (y : Nat → Rat) : Cst := (sTh s, sFn s, sRw s, sId s, x, some y, sSp s, sRo s, sTx s)
def uSp (s : Cst) (x : Spn) : Cst := (sTh s, sFn s, sRw s, sId s, sQt s, sRs s, some x, sRo s, sTx s)
def uRo (s : Cst) (x : Rq × List (Nat × Int)) : Cst := (sTh s, sFn s, sRw s, sId s, sQt s, sRs s, sSp s, some x, sTx s)
def uTx (s : Cst) (x : Nat × (Nat → Int)) : Cst := (sTh s, sFn s, sRw s, sId s, sQt s, sRs s, sSp s, sRo s, x)
/-- kinds -/
def tkN : Th → Nat
  | none => 0
  | some (.inl _) => 1
  | some (.inr (.inl _)) => 2
  | some (.inr (.inr (.inl _))) => 3
  | some (.inr (.inr (.inr _))) => 4
/-- the finding of a look: 0 none -/
def lkN (s : Cst) (x : Int) (k : Nat) : Nat := if 0 ≤ x ∧ x < 16 then (if tkN (sTh s x.toNat) = 0 then 2 else if k = 0 ∨ tkN (sTh s x.toNat) = k then 0 else 3) else 1
def glN (x : Int) : Nat := if 0 ≤ x ∧ x < 16 then 0 else 1
def foN (a b : Nat) : Nat := if a = 0 then b else a
/-- a finding, or what is done -/
def rR (f : Nat) (Q : Cst → Int → Prop) (s s' : Cst) (v : Int) : Prop := (f ≠ 0 ∧ v = -(f : Int) ∧ s' = uFn s f) ∨ (f = 0 ∧ Q s' v)
theorem lkN_le (s : Cst) (x : Int) (k : Nat) : lkN s x k < 4 := by unfold lkN; split <;> (try split) <;> (try split) <;> omega
theorem glN_le (x : Int) : glN x < 2 := by unfold glN; split <;> omega
theorem tkN_le (t : Th) : tkN t < 5 := by
  rcases t with _ | (_ | (_ | (_ | _))) <;> simp [tkN]
/-- good things -/
def rqW (q : Rq) : Prop := 1 ≤ q.2 ∧ q.2 ≤ 8 ∧ q.1 q.2 ≠ 0 ∧ (∀ k, q.2 < k → q.1 k = 0) ∧ (∀ k, (q.1 k).natAbs ≤ 99) ∧ gdN (nR (zp q.1 (q.2 + 1)))
/-- a simple part of a polynomial -/
def smW (q : Rq) (s : Nat → Int) (a : Nat) : Prop := 1 ≤ a ∧ a ≤ q.2 ∧ s a ≠ 0 ∧ (∀ k, a < k → s k = 0) ∧ smp (zp q.1 (q.2 + 1)) (zp s (a + 1)) ∧ (∀ k, k ≤ a → (s k).natAbs ≤ 2 ^ 47) ∧ (a = 8 → ∀ k, k ≤ a → (s k).natAbs ≤ 99)
def rtW (r : Rt) : Prop := rqW r.1 ∧ 0 ≤ r.2.2.1 ∧ r.2.2.1 < ((2 ^ r.2.1 : Nat) : Int) ∧ nR (zp r.1.1 (r.1.2 + 1)) r.2.1 r.2.2.1 = 1 ∧ r.2.1 ≤ 389 + r.2.2.2 ∧ r.2.2.2 ≤ 60
def thW : Th → Prop
  | none => True
  | some (.inl φ) => phi φ ∧ pcnt φ 455 ≤ 60
  | some (.inr (.inl o)) => ordOK o.1 o.2 ∧ (o.1 ≠ 12 → o.2 = 0)
  | some (.inr (.inr (.inl r))) => rtW r
  | some (.inr (.inr (.inr k))) => 1 ≤ k ∧ k ≤ 7
def pyW (φ : Nat → Rat) : Prop := phi φ ∧ pcnt φ 455 ≤ 60
def snpW (x : Spn) : Prop := ordOK x.1.1 x.1.2.1 ∧ (x.1.1 ≠ 12 → x.1.2.1 = 0) ∧ x.1.2.2 ≤ 4 ∧ x.2.1.1 ≤ 4 ∧ spR x.1.1 x.1.2.1 x.2.1.2 x.1.2.2 x.2.1.1 x.2.2.1 ∧ spSo x.1.1 x.1.2.1 x.2.2.1 x.2.2.2
def roW (x : Rq × List (Nat × Int)) : Prop := x.2 = [] ∨ (rqW x.1 ∧ x.2.length ≤ 8 ∧ ∀ h w, (h, w) ∈ x.2 → h ≤ 389 ∧ 0 ≤ w ∧ w < ((2 ^ h : Nat) : Int) ∧ nR (zp x.1.1 (x.1.2 + 1)) h w = 1)
/-- all stands well after N calls -/
def crW (N : Nat) (s : Cst) : Prop := (∀ p, p < 16 → thW (sTh s p)) ∧ ((sFn s).1 ≤ 7 ∧ ∀ k, (sFn s).2 k ≤ N) ∧ ((sRw s).1 ≤ 6 ∧ ∀ k, k < (sRw s).1 → pyW ((sRw s).2 k)) ∧ ((sId s).1 ≤ 4 ∧ ∀ k, k < (sId s).1 → idW ((sId s).2 k) ∧ (∃ t, t < 455 ∧ (sId s).2 k t ≠ 0) ∧ ∀ t, 455 ≤ t → (sId s).2 k t = 0) ∧ ((sQt s).1 ≤ 6 ∧ ∀ k, k < (sQt s).1 → pyW ((sQt s).2 k)) ∧ (∀ ρ, sRs s = some ρ → pyW ρ) ∧ (∀ x, sSp s = some x → snpW x) ∧ (∀ x, sRo s = some x → roW x) ∧ (sTx s).1 ≤ 20000
theorem crW.mono {N N' : Nat} {s : Cst} (h : crW N s) (hN : N ≤ N') : crW N' s := ⟨h.1, ⟨h.2.1.1, fun k => Nat.le_trans (h.2.1.2 k) hN⟩, h.2.2⟩
theorem crW.uTh {N : Nat} {s : Cst} {p : Int} {x : Th} (h : crW N s) (hx : thW x) : crW N (uTh s p x) := ⟨fun q hq => by
  show thW (if (q : Int) = p then x else sTh s q)
  split
  · exact hx
  · exact h.1 q hq, h.2⟩
theorem crW.uFn {N k : Nat} {s : Cst} (h : crW N s) (hk : k ≤ 7) : crW (N + 1) (uFn s k) := ⟨h.1, ⟨hk, fun j => by
  have := h.2.1.2 j
  show (if j = k then (sFn s).2 j + 1 else (sFn s).2 j) ≤ _
  split <;> omega⟩, h.2.2⟩
