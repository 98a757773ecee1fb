/-! division as a law of numbers -/
set_option maxRecDepth 100000
set_option linter.unusedVariables false
/-- what is divided, the rest, the counts, the quotients -/
abbrev dst : Type := (Nat → Rat) × (Nat → Rat) × (Nat → Nat) × (Nat → Nat → Rat)
def dvo (L : Int) (t : Nat) : Prop := L ≠ -7 ∧ tdv L.toNat t
/-- the first one whose greatest term divides t; m: none -/
def isDiv (L : Nat → Int) (m t k : Nat) : Prop := k ≤ m ∧ (∀ j, j < k → ¬ dvo (L j) t) ∧ (k < m → dvo (L k) t)
theorem isDiv.uniq {L : Nat → Int} {m t k k' : Nat} (h : isDiv L m t k) (h' : isDiv L m t k') : k = k' := by
  rcases Nat.lt_trichotomy k k' with q | q | q
  · exact absurd (h.2.2 (by have := h'.1; omega)) (h'.2.1 k q)
  · exact q
  · exact absurd (h'.2.2 (by have := h.1; omega)) (h.2.1 k' q)
def leads (c g : Nat) (ψ : Nat → Nat → Rat) (k : Nat) : Int := leadI c g (ψ k) 455
def dgood (c g : Nat) (ψ : Nat → Nat → Rat) (st : dst) (t k : Nat) : Prop := qfit (st.1 t / ψ k (leads c g ψ k).toNat) ∧ st.2.2.1 k + 1 ≤ 60 ∧ sok st.1 (ψ k) (st.1 t / ψ k (leads c g ψ k).toNat) (tqu t (leads c g ψ k).toNat) 455 ∧ pcnt (sbm st.1 (ψ k) (st.1 t / ψ k (leads c g ψ k).toNat) (tqu t (leads c g ψ k).toNat) 455) 455 ≤ 60
def kupd (κ : Nat → Nat) (k : Nat) : Nat → Nat := fun j => if j = k then κ k + 1 else κ j
def xupd (χ : Nat → Nat → Rat) (k t : Nat) (x : Rat) : Nat → Nat → Rat := fun j => if j = k then pupd (χ k) t x else χ j
def dstp (c g : Nat) (ψ : Nat → Nat → Rat) (st : dst) (t k : Nat) : dst := (sbm st.1 (ψ k) (st.1 t / ψ k (leads c g ψ k).toNat) (tqu t (leads c g ψ k).toNat) 455, st.2.1, kupd st.2.2.1 k, xupd st.2.2.2 k (tqu t (leads c g ψ k).toNat) (st.1 t / ψ k (leads c g ψ k).toNat))
def dmov (st : dst) (t : Nat) : dst := (pupd st.1 t 0, pupd st.2.1 t (st.1 t), st.2.2.1, st.2.2.2)
def dvR (c g m : Nat) (ψ : Nat → Nat → Rat) : Nat → dst → Option dst → Prop
  | 0, _, _ => False
  | n + 1, st, r => ((∀ u, u < 455 → st.1 u = 0) ∧ r = some st) ∨ ∃ t k, isLead c g st.1 t ∧ isDiv (leads c g ψ) m t k ∧
      ((k < m ∧ ((¬ dgood c g ψ st t k ∧ r = none) ∨ (dgood c g ψ st t k ∧ dvR c g m ψ n (dstp c g ψ st t k) r))) ∨
       (k = m ∧ ((¬ pcnt (dmov st t).2.1 455 ≤ 60 ∧ r = none) ∨ (pcnt (dmov st t).2.1 455 ≤ 60 ∧ dvR c g m ψ n (dmov st t) r))))
theorem dvR.uniq {c g m : Nat} (ho : ordOK c g) {ψ : Nat → Nat → Rat} : ∀ (n n' : Nat) (st : dst) (r r' : Option dst), dvR c g m ψ n st r → dvR c g m ψ n' st r' → r = r' := by
  intro n
  induction n with
  | zero => intro n' st r r' h; exact h.elim
  | succ n ih =>
    intro n' st r r' h h'
    rcases n' with _ | n'
    · exact h'.elim
    rcases h with ⟨h1, h2⟩ | ⟨t, k, h1, h2, h3⟩ <;> rcases h' with ⟨g1, g2⟩ | ⟨t', k', g1, g2, g3⟩
    · rw [h2, g2]
    · exact absurd (h1 t' g1.1) g1.2.1
    · exact absurd (g1 t h1.1) h1.2.1
    · have e := h1.uniq ho g1
      subst e
      have e := h2.uniq g2
      subst e
      rcases h3 with ⟨a1, a2⟩ | ⟨a1, a2⟩ <;> rcases g3 with ⟨b1, b2⟩ | ⟨b1, b2⟩
      · rcases a2 with ⟨a3, a4⟩ | ⟨a3, a4⟩ <;> rcases b2 with ⟨b3, b4⟩ | ⟨b3, b4⟩
        · rw [a4, b4]
        · exact absurd b3 a3
        · exact absurd a3 b3
        · exact ih _ _ _ _ a4 b4
      · omega
      · omega
      · rcases a2 with ⟨a3, a4⟩ | ⟨a3, a4⟩ <;> rcases b2 with ⟨b3, b4⟩ | ⟨b3, b4⟩
        · rw [a4, b4]
        · exact absurd b3 a3
        · exact absurd a3 b3
        · exact ih _ _ _ _ a4 b4
/-- what a step leaves is below -/
theorem sbm_below {c g : Nat} (ho : ordOK c g) {φ ψ : Nat → Rat} {t u : Nat} (ht : isLead c g φ t) (hu : isLead c g ψ u) (hd : tdv u t) {a : Rat} (ha : a = φ t / ψ u) (hs : sok φ ψ a (tqu t u) 455) : ∀ n, n ≤ 455 → ∀ w, w < 455 → sbm φ ψ a (tqu t u) n w ≠ 0 → (w = t ∧ n ≤ u) ∨ 0 < rankI c g t w := by
  obtain ⟨q1, q2, q3, q4⟩ := tqu_tx ht.1 hd
  have hdt : tdg u + tdg (tqu t u) = tdg t := by obtain ⟨d1, d2, d3⟩ := hd; unfold tdg; omega
  have h12 : tdg t ≤ 12 := by have := tx_le ht.1; unfold tdg; omega
  have eu : tmu u (tqu t u) = t := by
    obtain ⟨a1, a2, a3, a4⟩ := tmu_tx (s := u) (b := tqu t u) (by omega)
    obtain ⟨d1, d2, d3⟩ := hd
    exact tx_ext a4 ht.1 (by omega) (by omega) (by omega)
  intro n
  induction n with
  | zero =>
    intro _ w hw h0
    by_cases e : w = t
    · exact .inl ⟨e, Nat.zero_le _⟩
    · exact .inr (ht.2.2 w hw h0 e)
  | succ n ih =>
    intro hn w hw h0
    simp only [sbm] at h0
    split at h0
    · rename_i hz
      rcases ih (by omega) w hw h0 with ⟨e1, e2⟩ | e
      · left
        refine ⟨e1, ?_⟩
        rcases Nat.lt_or_ge u (n + 1) with q | q
        · have : u = n := by omega
          rw [← this] at hz; exact absurd hz hu.2.1
        · exact q
      · exact .inr e
    · rename_i hz
      have hsn := hs n (by omega) hz
      by_cases e : w = tmu n (tqu t u)
      · by_cases en : n = u
        · subst en
          exfalso
          rw [e] at h0
          simp only [pupd, if_true] at h0
          rw [sbm_at n (hs.mono (by omega)) n (Nat.le_refl _) (by omega) hsn.1, eu, ha] at h0
          refine h0 ?_
          rw [Rat.mul_comm, Rat.div_mul_cancel hz]; grind
        · right
          rw [e]
          have h1 := hu.2.2 n (by omega) hz en
          have h2 := rank_mu ho (s := u) (u := n) (b := tqu t u) (by omega) hsn.1
          rw [eu] at h2
          omega
      · simp only [pupd] at h0
        rw [if_neg e] at h0
        rcases ih (by omega) w hw h0 with ⟨e1, e2⟩ | e3
        · left
          refine ⟨e1, ?_⟩
          rcases Nat.lt_or_ge u (n + 1) with q | q
          · have : u = n := by omega
            subst this
            rw [eu] at e
            exact absurd e1 e
          · exact q
        · exact .inr e3
theorem leads_is {c g : Nat} (ho : ordOK c g) {ψ : Nat → Nat → Rat} {k : Nat} (h : leads c g ψ k ≠ -7) : isLead c g (ψ k) (leads c g ψ k).toNat := by
  unfold leads at *
  rcases leadI_law ho (φ := ψ k) 455 (Nat.le_refl _) with ⟨h1, _⟩ | ⟨t, h1, h2, h3, h4⟩
  · exact absurd h1 h
  · rw [h1, Int.toNat_natCast]; exact ⟨h2, h3, h4⟩
theorem dstp_below {c g : Nat} (ho : ordOK c g) {ψ : Nat → Nat → Rat} {st : dst} {t k : Nat} (ht : isLead c g st.1 t) (hk : dvo (leads c g ψ k) t) (hg : dgood c g ψ st t k) : ∀ w, isLead c g (dstp c g ψ st t k).1 w → 0 < rankI c g t w := fun w hw => by
  have hl := leads_is ho hk.1
  rcases sbm_below ho ht hl hk.2 rfl hg.2.2.1 455 (Nat.le_refl _) w hw.1 hw.2.1 with ⟨_, q⟩ | q
  · have := hl.1; omega
  · exact q
theorem dmov_below {c g : Nat} {st : dst} {t : Nat} (ht : isLead c g st.1 t) : ∀ w, isLead c g (dmov st t).1 w → 0 < rankI c g t w := fun w hw => by
  have h1 : pupd st.1 t 0 w ≠ 0 := hw.2.1
  simp only [pupd] at h1
  split at h1
  · exact absurd rfl h1
  · rename_i e
    exact ht.2.2 w hw.1 h1 e
