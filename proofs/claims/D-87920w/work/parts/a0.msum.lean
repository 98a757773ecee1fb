/-! the model's sums and polynomials: statics, what they hold -/
set_option maxRecDepth 100000
set_option linter.unusedVariables false
/-- an array of numbers -/
def nmS (S : Stat) (a b n r : Nat) : Prop := S.1 a = some (114, n) ∧ ∀ k : Nat, k < n → S.2.1 a k = some (b + 2 * k) ∧ wS 17 S (b + 2 * k) r
theorem nmS.sq {S S' : Stat} {a b n r : Nat} (h : nmS S a b n r) (h1 : sEq S S' a 0) (h2 : sEq S S' b (2 * n)) : nmS S' a b n r := by
  obtain ⟨c1, c2⟩ := h1 a (by omega) (by omega)
  refine ⟨by rw [c1]; exact h.1, fun k hk => ⟨by rw [c2]; exact (h.2 k hk).1, (h.2 k hk).2.sq (h2.sub (by omega) (by omega))⟩⟩
/-- a sum -/
def smS (S : Stat) (s : Nat) : Prop := S.1 s = some (19, 0) ∧ S.2.1 s 1 = some (s + 1) ∧ S.1 (s + 1) = some (100, 455) ∧ S.2.1 s 2 = some (s + 2) ∧ S.1 (s + 2) = some (100, 4096) ∧ S.2.1 s 3 = some (s + 3) ∧ nmS S (s + 3) (s + 4) 455 14 ∧ S.2.1 s 4 = some (s + 914) ∧ nmS S (s + 914) (s + 915) 455 14
/-- a polynomial of the model -/
def mpS (S : Stat) (p : Nat) : Prop := S.1 p = some (18, 0) ∧ S.2.1 p 1 = some (p + 1) ∧ S.1 (p + 1) = some (100, 60) ∧ S.2.1 p 2 = some (p + 2) ∧ nmS S (p + 2) (p + 3) 60 14 ∧ S.2.1 p 3 = some (p + 123) ∧ nmS S (p + 123) (p + 124) 60 14
theorem smS.sq {S S' : Stat} {s : Nat} (h : smS S s) (e : sEq S S' s 1825) : smS S' s := by
  obtain ⟨h1, h2, h3, h4, h5, h6, h7, h8, h9⟩ := h
  obtain ⟨a1, a2⟩ := e s (by omega) (by omega)
  exact ⟨by rw [a1, h1], by rw [a2, h2], by rw [(e (s + 1) (by omega) (by omega)).1, h3], by rw [a2, h4], by rw [(e (s + 2) (by omega) (by omega)).1, h5], by rw [a2, h6], h7.sq (e.sub (by omega) (by omega)) (e.sub (by omega) (by omega)), by rw [a2, h8], h9.sq (e.sub (by omega) (by omega)) (e.sub (by omega) (by omega))⟩
theorem mpS.sq {S S' : Stat} {p : Nat} (h : mpS S p) (e : sEq S S' p 244) : mpS S' p := by
  obtain ⟨h1, h2, h3, h4, h5, h6, h7⟩ := h
  obtain ⟨a1, a2⟩ := e p (by omega) (by omega)
  exact ⟨by rw [a1, h1], by rw [a2, h2], by rw [(e (p + 1) (by omega) (by omega)).1, h3], by rw [a2, h4], h5.sq (e.sub (by omega) (by omega)) (e.sub (by omega) (by omega)), by rw [a2, h6], h7.sq (e.sub (by omega) (by omega)) (e.sub (by omega) (by omega))⟩
/-- two numbers hold a fraction -/
def frD (D : Dat) (n d : Nat) (x : Rat) : Prop := wD 2 1 D n x.num ∧ wD 2 1 D d (x.den : Int)
theorem frD.congr {D D' : Dat} {n d : Nat} {x : Rat} (h : frD D n d x) (e : ∀ c i, c = n ∨ c = n + 1 ∨ c = d ∨ c = d + 1 → D' c i = D c i) : frD D' n d x :=
  ⟨h.1.congr (fun i => e _ i (.inl rfl)) (fun i => e _ i (.inr (.inl rfl))), h.2.congr (fun i => e _ i (.inr (.inr (.inl rfl)))) (fun i => e _ i (.inr (.inr (.inr rfl))))⟩
/-- within the limits, 0 beyond the terms -/
def phi (φ : Nat → Rat) : Prop := (∀ t, t < 455 → qfit (φ t)) ∧ ∀ t, 455 ≤ t → φ t = 0
theorem phi.upd {φ : Nat → Rat} (h : phi φ) {t : Nat} {x : Rat} (ht : t < 455) (hx : qfit x) : phi (pupd φ t x) := by
  refine ⟨fun u hu => ?_, fun u hu => ?_⟩
  · unfold pupd; split
    · exact hx
    · exact h.1 u hu
  · unfold pupd; rw [if_neg (by omega)]; exact h.2 u hu
theorem phi.zero : phi (fun _ => 0) := ⟨fun _ _ => qfit_zero, fun _ _ => rfl⟩
def smD (D : Dat) (s : Nat) (φ : Nat → Rat) (n : Nat) (e : Nat → Nat) : Prop := n ≤ 455 ∧ D s 0 = n ∧ (∀ k : Nat, k < n → e k < 455 ∧ D (s + 1) k = tcode (e k) ∧ D (s + 2) (tcode (e k)) = k ∧ frD D (s + 4 + 2 * k) (s + 915 + 2 * k) (φ (e k))) ∧ (∀ z : Int, 0 ≤ z → z < 4096 → (∀ k, k < n → z ≠ tcode (e k)) → D (s + 2) z = -1) ∧ (∀ t, t < 455 → (∀ k, k < n → e k ≠ t) → φ t = 0) ∧ phi φ
theorem smD.inj {D : Dat} {s n : Nat} {φ : Nat → Rat} {e : Nat → Nat} (h : smD D s φ n e) {j k : Nat} (hj : j < n) (hk : k < n) (he : e j = e k) : j = k := by
  have a := (h.2.2.1 j hj).2.2.1
  have b := (h.2.2.1 k hk).2.2.1
  rw [he, b] at a
  omega
theorem smD.congr {D D' : Dat} {s n : Nat} {φ : Nat → Rat} {e : Nat → Nat} (h : smD D s φ n e) (he : ∀ c i, s ≤ c → c ≤ s + 1824 → D' c i = D c i) : smD D' s φ n e := by
  obtain ⟨h1, h2, h3, h4, h5, h6⟩ := h
  refine ⟨h1, by rw [he _ _ (by omega) (by omega), h2], fun k hk => ?_, fun z z1 z2 z3 => by rw [he _ _ (by omega) (by omega)]; exact h4 z z1 z2 z3, h5, h6⟩
  obtain ⟨a1, a2, a3, a4⟩ := h3 k hk
  exact ⟨a1, by rw [he _ _ (by omega) (by omega)]; exact a2, by rw [he _ _ (by omega) (by omega)]; exact a3, a4.congr fun c i hc => he _ _ (by omega) (by omega)⟩
theorem tcode_inj {t u : Nat} (ht : t < 455) (hu : u < 455) (h : tcode t = tcode u) : t = u := by
  have dig : ∀ v, v < 455 → tcode v % 16 = tx0 v ∧ tcode v / 16 % 16 = tx1 v ∧ tcode v / 256 = tx2 v := fun v hv => by
    have a := tx_le hv
    unfold tcode
    omega
  obtain ⟨a1, a2, a3⟩ := dig t ht
  obtain ⟨b1, b2, b3⟩ := dig u hu
  rw [h] at a1 a2 a3
  exact tx_ext ht hu (by omega) (by omega) (by omega)
def eupd (e : Nat → Nat) (n t : Nat) : Nat → Nat := fun k => if k = n then t else e k
/-- a model's polynomial: its terms from the greatest number on -/
def mpD (D : Dat) (p : Nat) (φ : Nat → Rat) (n : Nat) (e : Nat → Nat) : Prop := n ≤ 60 ∧ D p 0 = n ∧ (∀ k : Nat, k < n → e k < 455 ∧ D (p + 1) k = tcode (e k) ∧ frD D (p + 3 + 2 * k) (p + 124 + 2 * k) (φ (e k)) ∧ φ (e k) ≠ 0) ∧ (∀ j k, j < k → k < n → e k < e j) ∧ (∀ t, t < 455 → (∀ k, k < n → e k ≠ t) → φ t = 0) ∧ phi φ
theorem mpD.congr {D D' : Dat} {p n : Nat} {φ : Nat → Rat} {e : Nat → Nat} (h : mpD D p φ n e) (he : ∀ c i, p ≤ c → c ≤ p + 243 → D' c i = D c i) : mpD D' p φ n e := by
  obtain ⟨h1, h2, h3, h4, h5, h6⟩ := h
  refine ⟨h1, by rw [he _ _ (by omega) (by omega), h2], fun k hk => ?_, h4, h5, h6⟩
  obtain ⟨a1, a2, a3, a4⟩ := h3 k hk
  exact ⟨a1, by rw [he _ _ (by omega) (by omega)]; exact a2, a3.congr fun c i hc => he _ _ (by omega) (by omega), a4⟩
def mpP (D : Dat) (p : Nat) (φ : Nat → Rat) : Prop := ∃ n e, mpD D p φ n e
def smP (D : Dat) (s : Nat) (φ : Nat → Rat) : Prop := ∃ n e, smD D s φ n e
theorem mpP.congr {D D' : Dat} {p : Nat} {φ : Nat → Rat} (h : mpP D p φ) (he : ∀ c i, p ≤ c → c ≤ p + 243 → D' c i = D c i) : mpP D' p φ := by
  obtain ⟨n, e, h⟩ := h; exact ⟨n, e, h.congr he⟩
theorem smP.congr {D D' : Dat} {s : Nat} {φ : Nat → Rat} (h : smP D s φ) (he : ∀ c i, s ≤ c → c ≤ s + 1824 → D' c i = D c i) : smP D' s φ := by
  obtain ⟨n, e, h⟩ := h; exact ⟨n, e, h.congr he⟩
/-- the numbers of a row of terms alone -/
def eres (φ : Nat → Rat) (e : Nat → Nat) : Nat → Nat → Rat
  | 0 => fun _ => 0
  | n + 1 => pupd (eres φ e n) (e n) (φ (e n))
theorem eres_at {φ : Nat → Rat} {e : Nat → Nat} : ∀ (n t : Nat), ((∀ k, k < n → e k ≠ t) → eres φ e n t = 0) ∧ ((∃ k, k < n ∧ e k = t) → eres φ e n t = φ t) := by
  intro n
  induction n with
  | zero => intro t; exact ⟨fun _ => rfl, fun ⟨k, hk, _⟩ => by omega⟩
  | succ n ih =>
    intro t
    obtain ⟨i1, i2⟩ := ih t
    simp only [eres, pupd]
    constructor
    · intro h
      rw [if_neg (fun q => h n (by omega) q.symm)]
      exact i1 fun k hk => h k (by omega)
    · rintro ⟨k, hk, rfl⟩
      by_cases q : e k = e n
      · rw [if_pos q, q]
      · rw [if_neg q]
        refine i2 ⟨k, ?_, rfl⟩
        rcases Nat.lt_or_ge k n with w | w
        · exact w
        · have : k = n := by omega
          subst this; exact absurd rfl q
/-- how many of the first terms have a number -/
def ecnt (φ : Nat → Rat) (e : Nat → Nat) : Nat → Nat
  | 0 => 0
  | n + 1 => ecnt φ e n + (if φ (e n) = 0 then 0 else 1)
theorem ecnt_pcnt {φ : Nat → Rat} {e : Nat → Nat} : ∀ n, (∀ k, k < n → e k < 455) → (∀ j k, j < n → k < n → e j = e k → j = k) → pcnt (eres φ e n) 455 = ecnt φ e n := by
  intro n
  induction n with
  | zero =>
    intro _ _
    have : ∀ m, pcnt (fun _ => (0 : Rat)) m = 0 := fun m => by
      induction m with
      | zero => rfl
      | succ m ih => simp only [pcnt, if_true]; omega
    exact this 455
  | succ n ih =>
    intro h1 h2
    have h := (pcnt_upd (eres φ e n) (e n) (φ (e n)) 455).2 (h1 n (by omega))
    have h0 : eres φ e n (e n) = 0 := (eres_at n (e n)).1 fun k hk q => by have := h2 k n (by omega) (by omega) q; omega
    rw [if_pos h0, ih (fun k hk => h1 k (by omega)) (fun j k a b => h2 j k (by omega) (by omega))] at h
    simp only [eres, ecnt]
    omega
theorem pcnt_congr {φ ψ : Nat → Rat} : ∀ n, (∀ t, t < n → φ t = ψ t) → pcnt φ n = pcnt ψ n := by
  intro n
  induction n with
  | zero => intro _; rfl
  | succ n ih => intro h; simp only [pcnt]; rw [ih fun t ht => h t (by omega), h n (by omega)]
theorem ecnt_all {φ : Nat → Rat} {e : Nat → Nat} {n : Nat} (h1 : ∀ k, k < n → e k < 455) (h2 : ∀ j k, j < n → k < n → e j = e k → j = k) (h3 : ∀ t, t < 455 → (∀ k, k < n → e k ≠ t) → φ t = 0) : ecnt φ e n = pcnt φ 455 := by
  rw [← ecnt_pcnt n h1 h2]
  refine pcnt_congr 455 fun t ht => ?_
  rcases Classical.em (∃ k, k < n ∧ e k = t) with q | q
  · exact (eres_at n t).2 q
  · have : ∀ k, k < n → e k ≠ t := fun k hk w => q ⟨k, hk, w⟩
    rw [(eres_at n t).1 this, h3 t ht this]
theorem mpD.cnt {D : Dat} {p n : Nat} {φ : Nat → Rat} {e : Nat → Nat} (h : mpD D p φ n e) : n = pcnt φ 455 := by
  rw [← ecnt_all (φ := φ) (e := e) (n := n) (fun k hk => (h.2.2.1 k hk).1) (fun j k hj hk q => ?_) h.2.2.2.2.1]
  · have : ∀ m, m ≤ n → ecnt φ e m = m := fun m => by
      induction m with
      | zero => intro _; rfl
      | succ m ih => intro hm; simp only [ecnt]; rw [ih (by omega), if_neg (h.2.2.1 m (by omega)).2.2.2]
    exact (this n (Nat.le_refl _)).symm
  · rcases Nat.lt_trichotomy j k with w | w | w
    · have := h.2.2.2.1 j k w hk; omega
    · exact w
    · have := h.2.2.2.1 k j w hj; omega
theorem fr_zero {D : Dat} {n d : Nat} {x : Rat} (h : frD D n d x) : D n 1 = 0 ↔ x = 0 := by
  rw [wD_nn h.1]
  constructor
  · intro q; exact Rat.num_eq_zero.mp (Int.sign_eq_zero_iff_zero.mp q)
  · intro q; rw [q]; rfl
