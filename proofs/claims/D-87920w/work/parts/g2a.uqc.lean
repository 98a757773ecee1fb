/-! closed answers in one way -/
-- needs: g0.uniq
set_option maxRecDepth 100000
set_option linter.unusedVariables false
theorem dvR.cgr {c g m : Nat} {ψ ψ' : Nat → Nat → Rat} (e : ∀ k, k < m → ψ k = ψ' k) : ∀ (n : Nat) (st : dst) (r : Option dst), dvR c g m ψ n st r → dvR c g m ψ' n st r := by
  have el : ∀ k, k < m → leads c g ψ k = leads c g ψ' k := fun k hk => by unfold leads; rw [e k hk]
  intro n
  induction n with
  | zero => intro st r h; exact h.elim
  | succ n ih =>
    intro st r h
    rcases h with h | ⟨t, k, h1, ⟨d1, d2, d3⟩, h3⟩
    · exact Or.inl h
    · refine Or.inr ⟨t, k, h1, ⟨d1, fun j hj => by rw [← el j (by omega)]; exact d2 j hj, fun hk => by rw [← el k hk]; exact d3 hk⟩, ?_⟩
      rcases h3 with ⟨hk, h3⟩ | h3
      · have eg : dgood c g ψ st t k = dgood c g ψ' st t k := by unfold dgood; rw [el k hk, e k hk]
        have es : dstp c g ψ st t k = dstp c g ψ' st t k := by unfold dstp; rw [el k hk, e k hk]
        rw [eg, es] at h3
        exact Or.inl ⟨hk, h3.imp id fun q => ⟨q.1, ih _ _ q.2⟩⟩
      · exact Or.inr ⟨h3.1, h3.2.imp id fun q => ⟨q.1, ih _ _ q.2⟩⟩
theorem isMinL.uniq {st : spst} {σ : Nat → Nat} {K r r' : Nat} {μ μ' : Nat → Nat} (h : isMinL st σ K r μ) (h' : isMinL st σ K r' μ') : r = r' ∧ ∀ i, i < r → μ i = μ' i := by
  obtain ⟨a1, a2, a3⟩ := h
  obtain ⟨b1, b2, b3⟩ := h'
  have key : ∀ n i, i < n → i < r → i < r' → μ i = μ' i := by
    intro n
    induction n with
    | zero => intro i hi; omega
    | succ n ih =>
      intro i hi h1 h2
      obtain ⟨x, x1, x2⟩ := b3 (μ i) (a1 i h1).1 (a1 i h1).2
      obtain ⟨y, y1, y2⟩ := a3 (μ' i) (b1 i h2).1 (b1 i h2).2
      rcases Nat.lt_trichotomy x i with q | q | q
      · have := ih x (by omega) (by omega) x1
        have := a2 x i q h1
        omega
      · subst q; exact x2.symm
      · have l1 := b2 i x q x1
        rcases Nat.lt_trichotomy y i with p | p | p
        · have := ih y (by omega) y1 (by omega)
          have := b2 y i p h2
          omega
        · subst p; exact y2
        · have := a2 i y p y1
          omega
  have e : r = r' := by
    rcases Nat.lt_trichotomy r r' with q | q | q
    · obtain ⟨y, y1, y2⟩ := a3 (μ' r) (b1 r q).1 (b1 r q).2
      have := key (y + 1) y (by omega) y1 (by omega)
      have := b2 y r y1 q
      omega
    · exact q
    · obtain ⟨y, y1, y2⟩ := b3 (μ r') (a1 r' q).1 (a1 r' q).2
      have := key (y + 1) y (by omega) (by omega) y1
      have := a2 y r' y1 q
      omega
  exact ⟨e, fun i hi => key (i + 1) i (by omega) hi (by omega)⟩
section UQ
variable {c g n : Nat} {ψ ψ' : Nat → Nat → Rat} {l l' : Nat → Nat}
theorem clP.cgr (e : ∀ k, k < n → ψ k = ψ' k) (el : ∀ k, k < n → l k = l' k) {i j : Nat} {v : Int} (hi : i < n) (hj : j < n) (h : clP c g n ψ l i j v) : clP c g n ψ' l' i j v := by
  unfold clP at h ⊢
  rw [e i hi, e j hj, el i hi, el j hj] at h
  rcases h with h | ⟨h1, k, res, h2, h3⟩
  · exact Or.inl h
  · exact Or.inr ⟨h1, k, res, dvR.cgr e _ _ _ h2, h3⟩
theorem clB.cgr (e : ∀ k, k < n → ψ k = ψ' k) (el : ∀ k, k < n → l k = l' k) {i j : Nat} (hij : i < n → j ≤ n) (hi : i ≤ n) (h : clB c g n ψ l i j) (h0 : i = n → j = 0) : clB c g n ψ' l' i j :=
  ⟨fun a b h1 h2 h3 => (h.1 a b h1 h2 h3).cgr e el (by omega) h3, fun b h1 h2 => (h.2 b h1 h2).cgr e el (by omega) (by
    by_cases q : i < n
    · have := hij q; omega
    · have := h0 (by omega); omega)⟩
theorem clR.cgr (e : ∀ k, k < n → ψ k = ψ' k) (el : ∀ k, k < n → l k = l' k) {v : Int} (h : clR c g n ψ l v) : clR c g n ψ' l' v := by
  rcases h with ⟨h1, h2⟩ | ⟨i, j, h1, h2, h3, h4, h5⟩
  · exact Or.inl ⟨h1, h2.cgr e el (fun h => by omega) (Nat.le_refl _) fun _ => rfl⟩
  · exact Or.inr ⟨i, j, h1, h2, h3.cgr e el (fun _ => by omega) (by omega) (fun q => by omega), h4.cgr e el (by omega) h2, h5⟩
theorem clP.uniq (ho : ordOK c g) {i j : Nat} {v v' : Int} (h : clP c g n ψ l i j v) (h' : clP c g n ψ l i j v') : v = v' := by
  rcases h with ⟨a1, a2⟩ | ⟨a1, k, res, a2, a3⟩ <;> rcases h' with ⟨b1, b2⟩ | ⟨b1, k', res', b2, b3⟩
  · exact a2.trans b2.symm
  · exact absurd b1 a1
  · exact absurd a1 b1
  · have := dvR.uniq ho _ _ _ _ _ a2 b2
    subst this
    rcases a3 with ⟨a3, a4⟩ | ⟨s, a3, a4⟩ <;> rcases b3 with ⟨b3, b4⟩ | ⟨s', b3, b4⟩
    · exact a4.trans b4.symm
    · rw [a3] at b3; exact nomatch b3
    · rw [a3] at b3; exact nomatch b3
    · rw [a3] at b3
      have := Option.some.inj b3
      subst this
      rcases a4 with ⟨a4, a5⟩ | ⟨a4, a5⟩ <;> rcases b4 with ⟨b4, b5⟩ | ⟨b4, b5⟩
      · exact a4.trans b4.symm
      · exact absurd b5 a5
      · exact absurd a5 b5
      · exact a4.trans b4.symm
theorem clR.uniq (ho : ordOK c g) {v v' : Int} (h : clR c g n ψ l v) (h' : clR c g n ψ l v') : v = v' := by
  rcases h with ⟨a1, a2⟩ | ⟨i, j, a1, a2, a3, a4, a5⟩ <;> rcases h' with ⟨b1, b2⟩ | ⟨i', j', b1, b2, b3, b4, b5⟩
  · exact a1.trans b1.symm
  · exact absurd (b4.uniq ho (a2.1 i' j' (by omega) b1 b2)) b5
  · exact absurd (a4.uniq ho (b2.1 i j (by omega) a1 a2)) a5
  · have key : ∀ {i j i' j' : Nat} {v : Int}, i < j → j < n → clB c g n ψ l i' j' → clP c g n ψ l i j v → v ≠ 1 → ¬ (i < i' ∨ (i = i' ∧ j < j')) := by
      intro i j i' j' v h1 h2 h3 h4 h5 q
      rcases q with q | ⟨q1, q2⟩
      · exact h5 (h4.uniq ho (h3.1 i j q h1 h2))
      · subst q1
        exact h5 (h4.uniq ho (h3.2 j h1 q2))
    have k1 := key a1 a2 b3 a4 a5
    have k2 := key b1 b2 a3 b4 b5
    have e1 : i = i' := by omega
    have e2 : j = j' := by omega
    subst e1; subst e2
    exact a4.uniq ho b4
end UQ
theorem uq_closed {N : Nat} {s s1 s2 : Cst} {v1 v2 : Int} (hW : crW N s) (h1 : oClosed s s1 v1) (h2 : oClosed s s2 v2) : s1 = s2 ∧ v1 = v2 := by
  rcases h1 with ⟨a1, a2⟩ | ⟨c, g, d, m, st, σ, a1, r, μ, v0, a2, a3, a4⟩ <;> rcases h2 with ⟨b1, b2⟩ | ⟨c', g', d', m', st', σ', b1, r', μ', v0', b2, b3, b4⟩
  · exact a2.uniq b2
  · rw [a1] at b1; exact nomatch b1
  · rw [b1] at a1; exact nomatch a1
  · have ho : ordOK c g := (hW.2.2.2.2.2.2.1 _ a1).1
    have := a1.symm.trans b1
    cases this
    obtain ⟨e1, e2⟩ := a2.uniq b2
    subst e1
    have := (a3.cgr (ψ' := fun i => spEl st σ (μ' i)) (l' := fun i => spLd st σ (μ' i)) (fun k hk => by show spEl st σ (μ k) = _; rw [e2 k hk]) (fun k hk => by show spLd st σ (μ k) = _; rw [e2 k hk])).uniq ho b3
    subst this
    rcases a4 with ⟨a4, a5⟩ | ⟨a4, a5, a6⟩ <;> rcases b4 with ⟨b4, b5⟩ | ⟨b4, b5, b6⟩
    · exact a5.uniq b5
    · exact absurd a4 b4
    · exact absurd b4 a4
    · exact ⟨a5.trans b5.symm, a6.trans b6.symm⟩
