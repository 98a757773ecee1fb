/-! the order of the rows is one -/
set_option maxRecDepth 100000
set_option linter.unusedVariables false
theorem spSo.surj {c g : Nat} {st : spst} {σ : Nat → Nat} (ho : ordOK c g) (h : spSo c g st σ) {x : Nat} (hx : x < st.1) : ∃ j, j < st.1 ∧ σ j = x := by
  refine Classical.byContradiction fun w => ?_
  obtain ⟨i, j, hij, hj, he⟩ := pigeon st.1 (st.1 + 1) (fun i => if i < st.1 then σ i else x) (by omega) fun i hi => by
    show (if i < st.1 then σ i else x) < st.1
    split
    · exact h.1 i (by omega)
    · exact hx
  have he' : (if i < st.1 then σ i else x) = (if j < st.1 then σ j else x) := he
  rw [if_pos (by omega)] at he'
  by_cases q : j < st.1
  · rw [if_pos q] at he'
    exact h.perm ho i j hij q he'
  · rw [if_neg q] at he'
    exact w ⟨i, by omega, he'⟩
theorem spSo.uniq {c g : Nat} {st : spst} {σ τ : Nat → Nat} (ho : ordOK c g) (h : spSo c g st σ) (h' : spSo c g st τ) : ∀ n i, i < n → i < st.1 → σ i = τ i := by
  intro n
  induction n with
  | zero => intro i hi; omega
  | succ n ih =>
    intro i hi his
    by_cases hin : i < n
    · exact ih i hin his
    have : i = n := by omega
    subst this
    have big : ∀ (α β : Nat → Nat), spSo c g st α → spSo c g st β → (∀ j, j < i → α j = β j) → α i ≠ β i → 0 < rankI c g (st.2.2.1 (α i)) (st.2.2.1 (β i)) := fun α β ha hb heq hne => by
      obtain ⟨j, hj, e⟩ := ha.surj ho (hb.1 i his)
      rcases Nat.lt_trichotomy j i with w | w | w
      · exfalso
        rw [heq j w] at e
        exact hb.perm ho j i w his e
      · rw [w] at e; exact absurd e hne
      · rw [← e]; exact ha.2 i j w hj
    refine Classical.byContradiction fun w => ?_
    have a := big σ τ h h' (fun j hj => ih j hj (by omega)) w
    have b := big τ σ h' h (fun j hj => (ih j hj (by omega)).symm) fun q => w q.symm
    have := rank_anti ho (st.2.2.1 (σ i)) (st.2.2.1 (τ i))
    omega
