/-! what write answers, as a relation of the court's state -/
-- needs: e3.rel eq.wtext
set_option maxRecDepth 100000
set_option linter.unusedVariables false
/-- an order's name -/
def wdK (c g : Nat) : Nat := if c = 9 then 0 else if c = 10 then 1 else if c = 11 then 2 else if g = 1 then 4 else 3
def wdT (c g : Nat) : List Int := strTx.getD (wdK c g) []
def wrT (s : Cst) (o : Int) : Th → List Int → Prop
  | none, _ => False
  | some (.inl φ), L => ∃ c g l, sTh s o.toNat = some (.inr (.inl (c, g))) ∧ ldsT c g φ l ∧ l.length = pcnt φ 455 ∧ L = pyT φ l
  | some (.inr (.inl a)), L => L = wdT a.1 a.2
  | some (.inr (.inr (.inl r))), L => L = (eT (rpt r.2.1 r.2.2.1) ++ [32]) ++ eT (rpt r.2.1 (r.2.2.1 + 1))
  | some (.inr (.inr (.inr k))), L => L = [45, 48 + (k : Int)]
def wrF (s : Cst) (p o : Int) : Nat := foN (lkN s p 0) (if tkN (sTh s p.toNat) = 1 then lkN s o 2 else 0)
def oWrite (p o : Int) (s s' : Cst) (v : Int) : Prop := rR (wrF s p o) (fun s' v => ∃ L, wrT s o (sTh s p.toNat) L ∧ L.length ≤ 20000 ∧ s' = uTx s (L.length, fun i => L.getD i 0) ∧ v = (L.length : Nat)) s s' v
theorem wrT.uniq {s : Cst} (hW : ∀ p c g, p < 16 → sTh s p = some (.inr (.inl (c, g))) → ordOK c g) {o : Int} {t : Th} {L L' : List Int} (ho : t = none ∨ 0 ≤ o ∧ o < 16 ∨ ∀ φ, t ≠ some (.inl φ)) (h1 : wrT s o t L) (h2 : wrT s o t L') : L = L' := by
  rcases t with _ | φ | a | r | k
  · exact absurd h1 (fun h => h)
  · obtain ⟨c, g, l, a1, a2, a3, a4⟩ := h1
    obtain ⟨c', g', l', b1, b2, b3, b4⟩ := h2
    rw [a1] at b1
    have e : (c, g) = (c', g') := Sum.inl.inj (Sum.inr.inj (Option.some.inj b1))
    obtain ⟨e1, e2⟩ := Prod.mk.inj e
    subst e1; subst e2
    rcases ho with ho | ho | ho
    · exact absurd ho (fun h => nomatch h)
    · rw [a4, b4, ldsT.uniq (hW o.toNat c g (by omega) a1) a2 b2 (by rw [a3, b3])]
    · exact absurd rfl (ho φ)
  · exact (show L = _ from h1).trans (show L' = _ from h2).symm
  · exact (show L = _ from h1).trans (show L' = _ from h2).symm
  · exact (show L = _ from h1).trans (show L' = _ from h2).symm
theorem wdT_ok {c g : Nat} : wdK c g < 10 ∧ (wdT c g).length ≤ 7 := by
  have h : wdK c g < 5 := by unfold wdK; split <;> (try split) <;> (try split) <;> (try split) <;> omega
  refine ⟨by omega, ?_⟩
  have : ∀ k : Fin 5, (strTx.getD k []).length ≤ 7 := by decide
  exact this ⟨_, h⟩
