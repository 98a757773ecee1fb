/-! the orders' laws; the greatest term -/
set_option maxRecDepth 100000
set_option linter.unusedVariables false
/-- an order by the differences of the letters -/
def rkI (c g : Nat) (x y z : Int) : Int := match c with
  | 9 => if x = 0 then (if y = 0 then z else y) else x
  | 10 => if x + y + z = 0 then (if x = 0 then (if y = 0 then z else y) else x) else x + y + z
  | 11 => if x + y + z = 0 then (if -z = 0 then -y else -z) else x + y + z
  | _ => if g = 1 then (if x = 0 then (if y + z = 0 then -z else y + z) else x) else (if x + y = 0 then (if -y = 0 then z else -y) else x + y)
theorem rankI_rkI {c g : Nat} (h : ordOK c g) (t u : Nat) : rankI c g t u = rkI c g (td 0 t u) (td 1 t u) (td 2 t u) := by
  rcases h with rfl | rfl | rfl | ⟨rfl, rfl | rfl⟩
  · simp only [rankI, rkI, lexI]
  · simp only [rankI, rkI, lexI, wsum, Int.zero_add, Nat.zero_add]
  · simp only [rankI, rkI, amongI, arev, wsum]
    simp
  · have a0 : ∀ f b, arev f t u 0 b = b := fun _ _ => rfl
    simp only [rankI, rkI, amongI, arev, wsum]
    simp [a0, arev]
  · have a0 : ∀ f b, arev f t u 0 b = b := fun _ _ => rfl
    simp only [rankI, rkI, amongI, arev, wsum]
    simp [a0, arev]
    repeat' split <;> first | rfl | omega
theorem rkI_neg {c g : Nat} (h : ordOK c g) (x y z : Int) : rkI c g (-x) (-y) (-z) = - rkI c g x y z := by
  rcases h with rfl | rfl | rfl | ⟨rfl, rfl | rfl⟩ <;> simp only [rkI] <;> repeat' split <;> omega
theorem rkI_add {c g : Nat} (h : ordOK c g) {x y z x' y' z' : Int} (h1 : 0 < rkI c g x y z) (h2 : 0 < rkI c g x' y' z') : 0 < rkI c g (x + x') (y + y') (z + z') := by
  rcases h with rfl | rfl | rfl | ⟨rfl, rfl | rfl⟩ <;> simp only [rkI] at h1 h2 ⊢
  · repeat' split at h1
    all_goals (repeat' split at h2)
    all_goals (repeat' split)
    all_goals omega
  · repeat' split at h1
    all_goals (repeat' split at h2)
    all_goals (repeat' split)
    all_goals omega
  · repeat' split at h1
    all_goals (repeat' split at h2)
    all_goals (repeat' split)
    all_goals omega
  · simp only [if_true] at h1 h2 ⊢
    repeat' split at h1
    all_goals (repeat' split at h2)
    all_goals (repeat' split)
    all_goals omega
  · simp only [show ¬ ((2 : Nat) = 1) by decide, if_false] at h1 h2 ⊢
    repeat' split at h1
    all_goals (repeat' split at h2)
    all_goals (repeat' split)
    all_goals omega
theorem rkI_zero {c g : Nat} (h : ordOK c g) {x y z : Int} (h1 : rkI c g x y z = 0) : x = 0 ∧ y = 0 ∧ z = 0 := by
  rcases h with rfl | rfl | rfl | ⟨rfl, rfl | rfl⟩ <;> simp only [rkI] at h1
  · repeat' split at h1
    all_goals omega
  · repeat' split at h1
    all_goals omega
  · repeat' split at h1
    all_goals omega
  · simp only [if_true] at h1
    repeat' split at h1
    all_goals omega
  · simp only [show ¬ ((2 : Nat) = 1) by decide, if_false] at h1
    repeat' split at h1
    all_goals omega
theorem td_neg (l t u : Nat) : td l u t = - td l t u := by unfold td; omega
theorem td_add (l t u v : Nat) : td l t v = td l t u + td l u v := by unfold td; omega
theorem rank_anti {c g : Nat} (h : ordOK c g) (t u : Nat) : rankI c g u t = - rankI c g t u := by
  rw [rankI_rkI h, rankI_rkI h, td_neg 0 t u, td_neg 1 t u, td_neg 2 t u, rkI_neg h]
theorem rank_trans {c g : Nat} (h : ordOK c g) {t u v : Nat} (h1 : 0 < rankI c g t u) (h2 : 0 < rankI c g u v) : 0 < rankI c g t v := by
  rw [rankI_rkI h] at *
  rw [td_add 0 t u v, td_add 1 t u v, td_add 2 t u v]
  exact rkI_add h h1 h2
theorem rank_ne {c g : Nat} (h : ordOK c g) {t u : Nat} (ht : t < 455) (hu : u < 455) (hne : t ≠ u) : rankI c g t u ≠ 0 := fun q => by
  rw [rankI_rkI h] at q
  obtain ⟨h0, h1, h2⟩ := rkI_zero h q
  simp only [td, txl] at h0 h1 h2
  exact hne (tx_ext ht hu (by omega) (by omega) (by omega))
theorem rank_self {c g : Nat} (h : ordOK c g) (t : Nat) : rankI c g t t = 0 := by have := rank_anti h t t; omega
theorem rank_mu {c g : Nat} (h : ordOK c g) {s u b : Nat} (h1 : tdg s + tdg b ≤ 12) (h2 : tdg u + tdg b ≤ 12) : rankI c g (tmu s b) (tmu u b) = rankI c g s u := by
  obtain ⟨a1, a2, a3, -⟩ := tmu_tx h1
  obtain ⟨b1, b2, b3, -⟩ := tmu_tx h2
  rw [rankI_rkI h, rankI_rkI h]
  have e : td 0 (tmu s b) (tmu u b) = td 0 s u ∧ td 1 (tmu s b) (tmu u b) = td 1 s u ∧ td 2 (tmu s b) (tmu u b) = td 2 s u := by
    simp only [td, txl]; omega
  rw [e.1, e.2.1, e.2.2]
/-- the greatest of the terms with a number -/
def isLead (c g : Nat) (φ : Nat → Rat) (t : Nat) : Prop := t < 455 ∧ φ t ≠ 0 ∧ ∀ u, u < 455 → φ u ≠ 0 → u ≠ t → 0 < rankI c g t u
theorem isLead.uniq {c g : Nat} (h : ordOK c g) {φ : Nat → Rat} {t u : Nat} (h1 : isLead c g φ t) (h2 : isLead c g φ u) : t = u := by
  refine Classical.byContradiction fun q => ?_
  have a := h1.2.2 u h2.1 h2.2.1 (fun w => q w.symm)
  have b := h2.2.2 t h1.1 h1.2.1 q
  have := rank_anti h t u
  omega
theorem leadI_law {c g : Nat} (h : ordOK c g) {φ : Nat → Rat} : ∀ n, n ≤ 455 → (leadI c g φ n = -7 ∧ ∀ u, u < n → φ u = 0) ∨ (∃ t, leadI c g φ n = (t : Nat) ∧ t < n ∧ φ t ≠ 0 ∧ ∀ u, u < n → φ u ≠ 0 → u ≠ t → 0 < rankI c g t u) := by
  intro n
  induction n with
  | zero => intro _; exact .inl ⟨rfl, fun u hu => by omega⟩
  | succ n ih =>
    intro hn
    simp only [leadI]
    rcases Classical.em (φ n = 0) with z | z
    · rw [if_pos z]
      rcases ih (by omega) with ⟨h1, h2⟩ | ⟨t, h1, h2, h3, h4⟩
      · refine .inl ⟨h1, fun u hu => ?_⟩
        by_cases e : u = n
        · rw [e]; exact z
        · exact h2 u (by omega)
      · refine .inr ⟨t, h1, by omega, h3, fun u hu hu0 hne => ?_⟩
        by_cases e : u = n
        · rw [e] at hu0; exact absurd z hu0
        · exact h4 u (by omega) hu0 hne
    · rw [if_neg z]
      right
      rcases ih (by omega) with ⟨h1, h2⟩ | ⟨t, h1, h2, h3, h4⟩
      · rw [if_pos h1]
        exact ⟨n, rfl, by omega, z, fun u hu hu0 hne => absurd (h2 u (by omega)) hu0⟩
      · rw [h1, if_neg (by omega), Int.toNat_natCast]
        split
        · rename_i hr
          refine ⟨n, rfl, by omega, z, fun u hu hu0 hne => ?_⟩
          by_cases e : u = t
          · rw [e]; exact hr
          · exact rank_trans h hr (h4 u (by omega) hu0 e)
        · rename_i hr
          refine ⟨t, rfl, by omega, h3, fun u hu hu0 hne => ?_⟩
          by_cases e : u = n
          · subst e
            have a := rank_anti h t u
            have b := rank_ne h (t := t) (u := u) (by omega) (by omega) (fun w => hne w.symm)
            omega
          · exact h4 u (by omega) hu0 hne
theorem leadI_is {c g : Nat} (h : ordOK c g) {φ : Nat → Rat} {t : Nat} (hl : isLead c g φ t) : leadI c g φ 455 = t := by
  rcases leadI_law h 455 (Nat.le_refl _) with ⟨_, h2⟩ | ⟨u, h1, h2, h3, h4⟩
  · exact absurd (h2 t hl.1) hl.2.1
  · rw [h1, hl.uniq h ⟨h2, h3, h4⟩]
theorem leadI_none {c g : Nat} (h : ordOK c g) {φ : Nat → Rat} (hl : ∀ u, u < 455 → φ u = 0) : leadI c g φ 455 = -7 := by
  rcases leadI_law h 455 (Nat.le_refl _) with ⟨h1, _⟩ | ⟨u, h1, h2, h3, h4⟩
  · exact h1
  · exact absurd (hl u h2) h3
theorem lead_or {c g : Nat} (h : ordOK c g) (φ : Nat → Rat) : (∀ u, u < 455 → φ u = 0) ∨ ∃ t, isLead c g φ t := by
  rcases leadI_law h 455 (Nat.le_refl _) with ⟨_, h2⟩ | ⟨u, h1, h2, h3, h4⟩
  · exact .inl h2
  · exact .inr ⟨u, h2, h3, h4⟩
/-- how many terms are below t -/
def posc (c g t : Nat) : Nat → Nat
  | 0 => 0
  | n + 1 => posc c g t n + (if 0 < rankI c g t n then 1 else 0)
theorem posc_le (c g t n : Nat) : posc c g t n ≤ n := by
  induction n with
  | zero => exact Nat.le_refl _
  | succ n ih => simp only [posc]; split <;> omega
theorem posc_lt {c g : Nat} (h : ordOK c g) {t u : Nat} (hr : 0 < rankI c g t u) : ∀ n, posc c g u n + (if u < n then 1 else 0) ≤ posc c g t n := by
  intro n
  induction n with
  | zero => rw [if_neg (by omega)]; exact Nat.le_refl _
  | succ n ih =>
    simp only [posc]
    have k : 0 < rankI c g u n → 0 < rankI c g t n := fun q => rank_trans h hr q
    by_cases e : u = n
    · subst e
      rw [if_neg (Nat.lt_irrefl _)] at ih
      rw [if_pos (Nat.lt_succ_self _), if_pos hr, if_neg (show ¬ 0 < rankI c g u u by rw [rank_self h]; omega)]
      omega
    · by_cases e2 : u < n
      · rw [if_pos e2] at ih
        rw [if_pos (show u < n + 1 by omega)]
        split <;> split <;> first | omega | (rename_i q1 q2; exact absurd (k q1) q2)
      · rw [if_neg e2] at ih
        rw [if_neg (show ¬ u < n + 1 by omega)]
        split <;> split <;> first | omega | (rename_i q1 q2; exact absurd (k q1) q2)
