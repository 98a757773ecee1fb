/-! division: one step, as a law of numbers; the divider's statics -/
set_option maxRecDepth 100000
set_option linter.unusedVariables false
def tdg (t : Nat) : Nat := tx0 t + tx1 t + tx2 t
def tmu (s b : Nat) : Nat := tn (tx0 s + tx0 b) (tx1 s + tx1 b) (tx2 s + tx2 b)
def tdv (u t : Nat) : Prop := tx0 u ≤ tx0 t ∧ tx1 u ≤ tx1 t ∧ tx2 u ≤ tx2 t
def tqu (t u : Nat) : Nat := tn (tx0 t - tx0 u) (tx1 t - tx1 u) (tx2 t - tx2 u)
def qfit (x : Rat) : Prop := ¬ qFb x = 0
theorem tmu_tx {s b : Nat} (h : tdg s + tdg b ≤ 12) : tx0 (tmu s b) = tx0 s + tx0 b ∧ tx1 (tmu s b) = tx1 s + tx1 b ∧ tx2 (tmu s b) = tx2 s + tx2 b ∧ tmu s b < 455 := by
  unfold tdg at h
  obtain ⟨h1, h2, h3⟩ := tn_tx (a := tx0 s + tx0 b) (b := tx1 s + tx1 b) (c := tx2 s + tx2 b) (by omega)
  exact ⟨h1, h2, h3, tn_lt (by omega)⟩
theorem tx_ext {s t : Nat} (hs : s < 455) (ht : t < 455) (h0 : tx0 s = tx0 t) (h1 : tx1 s = tx1 t) (h2 : tx2 s = tx2 t) : s = t := by
  rw [← tx_tn hs, ← tx_tn ht, h0, h1, h2]
theorem tmu_inj {s s' b : Nat} (h : tdg s + tdg b ≤ 12) (h' : tdg s' + tdg b ≤ 12) (hs : s < 455) (hs' : s' < 455) (e : tmu s b = tmu s' b) : s = s' := by
  obtain ⟨a1, a2, a3, -⟩ := tmu_tx h
  obtain ⟨b1, b2, b3, -⟩ := tmu_tx h'
  rw [e] at a1 a2 a3
  exact tx_ext hs hs' (by omega) (by omega) (by omega)
theorem tqu_tx {t u : Nat} (ht : t < 455) (h : tdv u t) : tx0 (tqu t u) = tx0 t - tx0 u ∧ tx1 (tqu t u) = tx1 t - tx1 u ∧ tx2 (tqu t u) = tx2 t - tx2 u ∧ tqu t u < 455 := by
  have := tx_le ht
  obtain ⟨h1, h2, h3⟩ := tn_tx (a := tx0 t - tx0 u) (b := tx1 t - tx1 u) (c := tx2 t - tx2 u) (by omega)
  exact ⟨h1, h2, h3, tn_lt (by omega)⟩
/-- less a multiple of ψ, by the terms below n -/
def sbm (φ ψ : Nat → Rat) (a : Rat) (b : Nat) : Nat → Nat → Rat
  | 0 => φ
  | n + 1 => if ψ n = 0 then sbm φ ψ a b n else pupd (sbm φ ψ a b n) (tmu n b) (sbm φ ψ a b n (tmu n b) - ψ n * a)
/-- the terms below n stay within the limits -/
def sok (φ ψ : Nat → Rat) (a : Rat) (b n : Nat) : Prop := ∀ s, s < n → ψ s ≠ 0 → tdg s + tdg b ≤ 12 ∧ qfit (φ (tmu s b) - ψ s * a)
theorem sok.mono {φ ψ : Nat → Rat} {a : Rat} {b n m : Nat} (h : sok φ ψ a b n) (hm : m ≤ n) : sok φ ψ a b m := fun s hs => h s (by omega)
theorem sbm_at {φ ψ : Nat → Rat} {a : Rat} {b : Nat} : ∀ (n : Nat), sok φ ψ a b n → ∀ s, n ≤ s → s < 455 → tdg s + tdg b ≤ 12 → sbm φ ψ a b n (tmu s b) = φ (tmu s b) := by
  intro n
  induction n with
  | zero => intro _ s _ _ _; rfl
  | succ n ih =>
    intro h s hs h455 hd
    have h1 := ih (h.mono (by omega)) s (by omega) h455 hd
    simp only [sbm]
    split
    · exact h1
    · rename_i hn
      simp only [pupd]
      rw [if_neg (fun e => ?_), h1]
      have := tmu_inj hd (h n (by omega) hn).1 h455 (by omega) e
      omega
theorem qfit_zero : qfit 0 := by unfold qfit qFb; decide
/-- a polynomial within the limits -/
def pP (D : Dat) (p : Nat) (φ : Nat → Rat) : Prop := pD D p φ ∧ (∀ t, t < 455 → qfit (φ t)) ∧ ∀ t, 455 ≤ t → φ t = 0
theorem pP.congr {D D' : Dat} {p : Nat} {φ : Nat → Rat} (h : pP D p φ) (e1 : ∀ i, D' p i = D p i) (e2 : ∀ i, D' (p + 1) i = D (p + 1) i) : pP D' p φ := ⟨h.1.congr e1 e2, h.2⟩
theorem pP.upd {D : Dat} {p t : Nat} {φ : Nat → Rat} {x : Rat} {D' : Dat} (h : pP D p φ) (hx : qfit x) (ht : t < 455) (h' : pD D' p (pupd φ t x)) : pP D' p (pupd φ t x) := by
  refine ⟨h', fun u hu => ?_, fun u hu => ?_⟩
  · unfold pupd; split
    · exact hx
    · exact h.2.1 u hu
  · unfold pupd; rw [if_neg (by omega)]; exact h.2.2 u hu
theorem qfit.b {x : Rat} (h : qfit x) : qB x 14 := by
  have := qFb_lim h
  exact ⟨this.1, by have := this.2; rwa [natAbs_nat] at this⟩
/-- the divider -/
def vS (S : Stat) (d T o : Nat) : Prop := S.1 d = some (4, 0) ∧ S.2.1 d 0 = some T ∧ S.2.1 d 1 = some (d + 1) ∧ pS S (d + 1) ∧ S.2.1 d 2 = some (d + 5) ∧ qS S o (d + 5) ∧ S.2.1 d 3 = some (d + 14) ∧ qS S o (d + 14) ∧ S.2.1 d 4 = some (d + 23) ∧ qS S o (d + 23) ∧ S.2.1 d 5 = some (d + 3) ∧ S.1 (d + 3) = some (100, 16) ∧ S.2.1 d 6 = some (d + 4) ∧ S.1 (d + 4) = some (100, 16)
/-- where the quotients go, if they are wished -/
def quS (S : Stat) (d k x : Nat) : Prop := S.2.1 d 8 = none ∨ ∃ Q N, S.2.1 d 8 = some Q ∧ S.1 Q = some (107, N) ∧ k < N ∧ S.2.1 Q k = some x ∧ pS S x
def quD (S : Stat) (D : Dat) (d x : Nat) (χ : Nat → Rat) : Prop := S.2.1 d 8 ≠ none → pP D x χ
theorem tD.congr {D D' : Dat} {T : Nat} (h : tD D T) (e : ∀ c i, T ≤ c → c ≤ T + 18 → D' c i = D c i) : tD D' T := by
  refine ⟨fun t ht => ?_, fun a b c hc => ?_⟩
  · obtain ⟨a1, a2, a3⟩ := h.1 t ht
    rw [e _ _ (by omega) (by omega), e _ _ (by omega) (by omega), e _ _ (by omega) (by omega)]
    exact ⟨a1, a2, a3⟩
  · rw [e _ _ (by omega) (by omega)]; exact h.2 a b c hc
theorem ite_nz {p : Prop} [Decidable p] (h : ¬ (if p then (0 : Int) else 1) = 0) : ¬ p := fun q => by rw [if_pos q] at h; exact h rfl
theorem ite_z {p : Prop} [Decidable p] (h : (if p then (0 : Int) else 1) = 0) : p := Classical.byContradiction fun q => by rw [if_neg q] at h; exact absurd h (by decide)
theorem okT_I (x : Int) : okT 100 x := by simp [okT]
theorem qB_divInt {a b : Int} {p : Nat} (hb : 0 < b) (ha : (a.natAbs : Int) < 1000000000 ^ p) (hb2 : b < 1000000000 ^ p) : qB (Rat.divInt a b) p := by
  obtain ⟨h1, h2⟩ := shorten_law (a := a) hb
  refine ⟨by rw [h1]; exact tdiv_le ha, ?_⟩
  have h3 := tdiv_le (x := b) (y := Int.gcd a b) (p := p) (by omega)
  rw [← h2] at h3
  omega
theorem qB_mul {x y : Rat} {p q : Nat} (hx : qB x p) (hy : qB y q) : qB (x * y) (p + q) := by
  rw [← rat_mul]
  have h1 := pw_mul hx.den hy.den
  have hp : 0 < (x.den : Int) * y.den := Int.mul_pos (by have := x.den_pos; omega) (by have := y.den_pos; omega)
  exact qB_divInt hp (pw_mul hx.1 hy.1) (by omega)
