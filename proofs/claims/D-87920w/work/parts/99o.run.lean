/-! the divider: the whole division -/
set_option maxRecDepth 100000
set_option linter.unusedVariables false
/-- statics that stand as they were from a to a + n -/
def sEq (S S' : Stat) (a n : Nat) : Prop := ∀ c, a ≤ c → c ≤ a + n → S'.1 c = S.1 c ∧ ∀ i, S'.2.1 c i = S.2.1 c i
theorem sEq.sub {S S' : Stat} {a n b m : Nat} (h : sEq S S' a n) (h1 : a ≤ b) (h2 : b + m ≤ a + n) : sEq S S' b m := fun c h3 h4 => h c (by omega) (by omega)
theorem wS.sq {k : Nat} {S S' : Stat} {w r : Nat} (h : wS k S w r) (e : sEq S S' w 1) : wS k S' w r := by
  obtain ⟨h1, h2, h3⟩ := h
  obtain ⟨a1, a2⟩ := e w (by omega) (by omega)
  obtain ⟨b1, b2⟩ := e (w + 1) (by omega) (by omega)
  exact ⟨by rw [a1, h1], by rw [a2, h2], by rw [b1, h3]⟩
theorem pS.sq {S S' : Stat} {p : Nat} (h : pS S p) (e : sEq S S' p 1) : pS S' p := by
  obtain ⟨h1, h2, h3⟩ := h
  obtain ⟨a1, a2⟩ := e p (by omega) (by omega)
  obtain ⟨b1, b2⟩ := e (p + 1) (by omega) (by omega)
  exact ⟨by rw [a1, h1], by rw [a2, h2], by rw [b1, h3]⟩
theorem qS.sq {S S' : Stat} {o q : Nat} (h : qS S o q) (e : sEq S S' q 8) : qS S' o q := by
  obtain ⟨h1, h2, h3, h4, h5, h6, h7, h8, h9, h10⟩ := h
  obtain ⟨a1, a2⟩ := e q (by omega) (by omega)
  exact ⟨by rw [a1, h1], by rw [a2, h2], by rw [a2, h3], h4.sq (e.sub (by omega) (by omega)), by rw [a2, h5], h6.sq (e.sub (by omega) (by omega)), by rw [a2, h7], h8.sq (e.sub (by omega) (by omega)), by rw [a2, h9], h10.sq (e.sub (by omega) (by omega))⟩
theorem rS.sq {S S' : Stat} {o : Nat} (h : rS S o) (e : sEq S S' o 10) : rS S' o := by
  obtain ⟨h1, h2, h3, h4, h5, h6, h7, h8, h9, h10, h11, h12, h13⟩ := h
  obtain ⟨a1, a2⟩ := e o (by omega) (by omega)
  exact ⟨by rw [a1, h1], by rw [a2, h2], by rw [(e (o + 1) (by omega) (by omega)).1, h3], by rw [a2, h4], by rw [(e (o + 2) (by omega) (by omega)).1, h5], by rw [a2, h6], h7.sq (e.sub (by omega) (by omega)), by rw [a2, h8], h9.sq (e.sub (by omega) (by omega)), by rw [a2, h10], h11.sq (e.sub (by omega) (by omega)), by rw [a2, h12], h13.sq (e.sub (by omega) (by omega))⟩
theorem tS.sq {S S' : Stat} {T : Nat} (h : tS S T) (e : sEq S S' T 18) : tS S' T := by
  obtain ⟨h1, h2, h3, h4, h5, h6, h7, h8, h9, h10, h11, h12⟩ := h
  obtain ⟨a1, a2⟩ := e T (by omega) (by omega)
  obtain ⟨b1, b2⟩ := e (T + 1) (by omega) (by omega)
  refine ⟨by rw [a1, h1], by rw [a2, h2], by rw [b1, h3], by rw [b2, h4], by rw [(e (T + 2) (by omega) (by omega)).1, h5], by rw [b2, h6], by rw [(e (T + 3) (by omega) (by omega)).1, h7], by rw [b2, h8], by rw [(e (T + 4) (by omega) (by omega)).1, h9], by rw [a2, h10], by rw [(e (T + 5) (by omega) (by omega)).1, h11], fun a ha => ?_⟩
  obtain ⟨c1, c2⟩ := h12 a ha
  exact ⟨by rw [(e (T + 5) (by omega) (by omega)).2, c1], by rw [(e (T + 6 + a) (by omega) (by omega)).1, c2]⟩
theorem vS.sq {S S' : Stat} {d T o : Nat} (h : vS S d T o) (e0 : S'.1 d = S.1 d) (e1 : ∀ i, i < 7 → S'.2.1 d i = S.2.1 d i) (e : sEq S S' (d + 1) 30) : vS S' d T o := by
  obtain ⟨v1, v2, v3, v4, v5, v6, v7, v8, v9, v10, v11, v12, v13, v14⟩ := h
  exact ⟨by rw [e0, v1], by rw [e1 _ (by decide), v2], by rw [e1 _ (by decide), v3], v4.sq (e.sub (by omega) (by omega)), by rw [e1 _ (by decide), v5], v6.sq (e.sub (by omega) (by omega)), by rw [e1 _ (by decide), v7], v8.sq (e.sub (by omega) (by omega)), by rw [e1 _ (by decide), v9], v10.sq (e.sub (by omega) (by omega)), by rw [e1 _ (by decide), v11], by rw [(e (d + 3) (by omega) (by omega)).1, v12], by rw [e1 _ (by decide), v13], by rw [(e (d + 4) (by omega) (by omega)).1, v14]⟩
/-- statics but for the fields 7 .. 10 of d -/
def dRel (S S' : Stat) (d : Nat) : Prop := S'.1 = S.1 ∧ S'.2.2 = S.2.2 ∧ ∀ a i, a ≠ d ∨ i < 7 ∨ 10 < i → S'.2.1 a i = S.2.1 a i
theorem dRel.e {S S' : Stat} {d a n : Nat} (h : dRel S S' d) (hd : d < a ∨ a + n < d) : sEq S S' a n := fun c h1 h2 => ⟨by rw [h.1], fun i => h.2.2 c i (.inl (by omega))⟩
theorem dRel.set (S : Stat) (d : Nat) (a b c e : Option Nat) : dRel S (setR (setR (setR (setR S d 7 a) d 10 b) d 8 c) d 9 e) d ∧ (setR (setR (setR (setR S d 7 a) d 10 b) d 8 c) d 9 e).2.1 d 7 = a ∧ (setR (setR (setR (setR S d 7 a) d 10 b) d 8 c) d 9 e).2.1 d 10 = b ∧ (setR (setR (setR (setR S d 7 a) d 10 b) d 8 c) d 9 e).2.1 d 8 = c ∧ (setR (setR (setR (setR S d 7 a) d 10 b) d 8 c) d 9 e).2.1 d 9 = e := by
  refine ⟨⟨rfl, rfl, fun u i h => ?_⟩, ?_, ?_, ?_, ?_⟩
  · simp only [setR, pmur]
    rw [if_neg (by omega), if_neg (by omega), if_neg (by omega), if_neg (by omega)]
  · simp [setR, pmur]
  · simp [setR, pmur]
  · simp [setR, pmur]
  · simp [setR, pmur]
/-- what a division may write -/
def rnW (w : Option Nat) (d o r m : Nat) (x : Nat → Nat) (D D' : Dat) : Prop := ∀ c i, (c < d ∨ d + 31 < c) → (c ≤ o ∨ o + 10 < c) → c ≠ r → c ≠ r + 1 → (w ≠ none → ∀ k, k < m → c ≠ x k ∧ c ≠ x k + 1) → D' c i = D c i
theorem far_x (m r b : Nat) (g : Nat → Nat) : ∃ x, b < x ∧ r + 1 < x ∧ ∀ k, k < m → g k + 1 < x := by
  induction m with
  | zero => exact ⟨b + r + 2, by omega, by omega, fun k hk => by omega⟩
  | succ m ih =>
    obtain ⟨x, h1, h2, h3⟩ := ih
    refine ⟨x + g m + 2, by omega, by omega, fun k hk => ?_⟩
    by_cases e : k = m
    · subst e; omega
    · have := h3 k (by omega); omega
