/-! polynomial functions over the rationals -/
set_option maxRecDepth 100000
set_option linter.unusedVariables false
abbrev pf : Type := Rat → Rat
def ps (c : Nat → Rat) : Nat → Rat → Rat
  | 0, _ => 0
  | n + 1, x => ps c n x + c n * x ^ n
theorem rpow_add (x : Rat) (a b : Nat) : x ^ (a + b) = x ^ a * x ^ b := by
  induction b with
  | zero => rw [Nat.add_zero, Rat.pow_zero, Rat.mul_one]
  | succ b ih => rw [← Nat.add_assoc, Rat.pow_succ, ih, Rat.pow_succ, Rat.mul_assoc]
theorem rpow_one (n : Nat) : (1 : Rat) ^ n = 1 := by
  induction n with
  | zero => exact Rat.pow_zero _
  | succ n ih => rw [Rat.pow_succ, ih]; grind
theorem ps_congr {c d : Nat → Rat} {n : Nat} (h : ∀ k, k < n → c k = d k) (x : Rat) : ps c n x = ps d n x := by
  induction n with
  | zero => rfl
  | succ n ih => simp only [ps]; rw [ih fun k hk => h k (by omega), h n (by omega)]
theorem ps_lin (c d : Nat → Rat) (p q : Rat) (n : Nat) (x : Rat) : ps (fun k => p * c k + q * d k) n x = p * ps c n x + q * ps d n x := by
  induction n with
  | zero => simp only [ps]; grind
  | succ n ih => simp only [ps]; rw [ih]; grind
theorem ps_zero (n : Nat) (x : Rat) : ps (fun _ => 0) n x = 0 := by
  induction n with
  | zero => rfl
  | succ n ih => simp only [ps]; rw [ih]; grind
theorem ps_ext {c : Nat → Rat} {n : Nat} : ∀ (i : Nat), (∀ k, n ≤ k → k < n + i → c k = 0) → ∀ x, ps c (n + i) x = ps c n x := by
  intro i
  induction i with
  | zero => intro _ x; rfl
  | succ i ih => intro h x; show ps c (n + i) x + c (n + i) * x ^ (n + i) = _; rw [ih (fun k h1 h2 => h k h1 (by omega)), h (n + i) (by omega) (by omega)]; grind
def psh (a : Nat) (c : Nat → Rat) : Nat → Rat := fun k => if k < a then 0 else c (k - a)
theorem ps_shift (c : Nat → Rat) (a n : Nat) (x : Rat) : ps (psh a c) (a + n) x = x ^ a * ps c n x := by
  induction n with
  | zero =>
    rw [Nat.add_zero, ps_congr (d := fun _ => 0) (fun k hk => by simp [psh, hk]), ps_zero]; simp only [ps]; grind
  | succ n ih =>
    show ps (psh a c) (a + n) x + psh a c (a + n) * x ^ (a + n) = x ^ a * (ps c n x + c n * x ^ n)
    rw [ih, rpow_add]
    have : psh a c (a + n) = c n := by unfold psh; rw [if_neg (by omega), Nat.add_sub_cancel_left]
    rw [this]; grind
theorem ps_left (c : Nat → Rat) (n : Nat) (x : Rat) : ps c (n + 1) x = c 0 + x * ps (fun k => c (k + 1)) n x := by
  induction n with
  | zero => simp only [ps, Rat.pow_zero]; grind
  | succ n ih =>
    show ps c (n + 1) x + c (n + 1) * x ^ (n + 1) = c 0 + x * (ps (fun k => c (k + 1)) n x + c (n + 1) * x ^ n)
    rw [ih, Rat.pow_succ]; grind
/-- the quotient by x - a -/
def pdq (c : Nat → Rat) (a : Rat) (n : Nat) : Nat → Rat := fun k => ps (fun j => c (k + 1 + j)) (n - k) a
theorem pdq_step (c : Nat → Rat) (a : Rat) {n k : Nat} (hk : k < n) : pdq c a n k = c (k + 1) + a * pdq c a n (k + 1) := by
  unfold pdq
  rw [show n - k = (n - (k + 1)) + 1 by omega, ps_left]
  congr 2
  exact ps_congr (fun j _ => by rw [show k + 1 + (j + 1) = k + 1 + 1 + j by omega]) a
theorem ps_div (a x : Rat) : ∀ (n : Nat) (c : Nat → Rat), ps c (n + 1) x = (x - a) * ps (pdq c a n) n x + ps c (n + 1) a := by
  intro n
  induction n with
  | zero => intro c; simp only [ps, Rat.pow_zero]; grind
  | succ n ih =>
    intro c
    have h1 := ih fun k => c (k + 1)
    rw [ps_left c (n + 1) x, ps_left c (n + 1) a, h1, ps_left (pdq c a (n + 1)) n x]
    have e0 : pdq c a (n + 1) 0 = ps (fun k => c (k + 1)) (n + 1) a := by
      unfold pdq
      exact ps_congr (fun j _ => by rw [show 0 + 1 + j = j + 1 by omega]) a
    have e1 : ps (fun k => pdq c a (n + 1) (k + 1)) n x = ps (pdq (fun k => c (k + 1)) a n) n x := by
      refine ps_congr (fun k _ => ?_) x
      unfold pdq
      rw [show n + 1 - (k + 1) = n - k by omega]
      exact ps_congr (fun j _ => by rw [show k + 1 + 1 + j = k + 1 + j + 1 by omega]) a
    rw [e0, e1]; grind
/-- no more zeros than its length without being 0 -/
theorem ps_roots : ∀ (n : Nat) (c : Nat → Rat) (a : Nat → Rat), (∀ i j, i < j → j < n → a i ≠ a j) → (∀ i, i < n → ps c n (a i) = 0) → ∀ k, k < n → c k = 0 := by
  intro n
  induction n with
  | zero => intro c a _ _ k hk; omega
  | succ n ih =>
    intro c a hd hz
    have hd0 : ∀ k, k < n → pdq c (a n) n k = 0 := ih _ a (fun i j h1 h2 => hd i j h1 (by omega)) fun i hi => by
      have h1 := ps_div (a n) (a i) n c
      rw [hz i (by omega), hz n (by omega)] at h1
      have h2 : (a i - a n) * ps (pdq c (a n) n) n (a i) = 0 := by grind
      rcases Rat.mul_eq_zero.mp h2 with h3 | h3
      · exact absurd (show a i = a n by grind) (hd i n hi (by omega))
      · exact h3
    have hdn : pdq c (a n) n n = 0 := by simp [pdq, ps]
    have hs : ∀ k, k < n → c (k + 1) = 0 := fun k hk => by
      have h1 := pdq_step c (a n) hk
      rw [hd0 k hk] at h1
      rcases Nat.lt_or_ge (k + 1) n with h2 | h2
      · rw [hd0 (k + 1) h2] at h1; grind
      · rw [show k + 1 = n by omega] at h1 ⊢; rw [hdn] at h1; grind
    intro k hk
    cases k with
    | succ k => exact hs k (by omega)
    | zero =>
      have h1 := hz n (by omega)
      rw [ps_left, ps_congr (d := fun _ => 0) (fun k hk => hs k hk), ps_zero] at h1
      grind
theorem ps_id {n : Nat} {c : Nat → Rat} (h : ∀ x, ps c n x = 0) : ∀ k, k < n → c k = 0 :=
  ps_roots n c (fun i => (i : Rat)) (fun i j h1 _ => fun e => by
    have := Rat.natCast_lt_natCast.mpr h1
    rw [e] at this
    exact Rat.lt_irrefl this) fun i _ => h _
theorem ps_inj {n : Nat} {c d : Nat → Rat} (h : ∀ x, ps c n x = ps d n x) : ∀ k, k < n → c k = d k := fun k hk => by
  have := ps_id (n := n) (c := fun k => 1 * c k + (-1 : Rat) * d k) (fun x => by rw [ps_lin, h]; grind) k hk
  grind
/-- of a degree below n -/
def PF (n : Nat) (f : pf) : Prop := ∃ c : Nat → Rat, ∀ x, f x = ps c n x
/-- of degree d -/
def EX (f : pf) (d : Nat) : Prop := ∃ c : Nat → Rat, (∀ x, f x = ps c (d + 1) x) ∧ c d ≠ 0
theorem EX.pf {f : pf} {d : Nat} (h : EX f d) : PF (d + 1) f := by obtain ⟨c, h, _⟩ := h; exact ⟨c, h⟩
theorem PF.mono {n m : Nat} {f : Rat → Rat} (h : PF n f) (hm : n ≤ m) : PF m f := by
  obtain ⟨c, h⟩ := h
  refine ⟨fun k => if k < n then c k else 0, fun x => ?_⟩
  rw [show m = n + (m - n) by omega, ps_ext (m - n) (fun k h1 _ => if_neg (by omega)), h, ps_congr (fun k hk => ?_)]
  rw [if_pos hk]
theorem PF.lin {n : Nat} {f g : Rat → Rat} (hf : PF n f) (hg : PF n g) (p q : Rat) : PF n (fun x => p * f x + q * g x) := by
  obtain ⟨c, h⟩ := hf
  obtain ⟨d, k⟩ := hg
  exact ⟨fun i => p * c i + q * d i, fun x => by show p * f x + q * g x = _; rw [ps_lin, h, k]⟩
theorem PF.add {n : Nat} {f g : Rat → Rat} (hf : PF n f) (hg : PF n g) : PF n (fun x => f x + g x) := by
  have := hf.lin hg 1 1
  rwa [show (fun x => (1 : Rat) * f x + 1 * g x) = fun x => f x + g x from funext fun x => by grind] at this
theorem PF.sub {n : Nat} {f g : Rat → Rat} (hf : PF n f) (hg : PF n g) : PF n (fun x => f x - g x) := by
  have := hf.lin hg 1 (-1)
  rwa [show (fun x => (1 : Rat) * f x + (-1) * g x) = fun x => f x - g x from funext fun x => by grind] at this
theorem PF.smul {n : Nat} {f : Rat → Rat} (hf : PF n f) (p : Rat) : PF n (fun x => p * f x) := by
  have := hf.lin hf p 0
  rwa [show (fun x => p * f x + 0 * f x) = fun x => p * f x from funext fun x => by grind] at this
theorem PF.const (p : Rat) : PF 1 (fun _ => p) := ⟨fun _ => p, fun x => by simp only [ps, Rat.pow_zero]; grind⟩
theorem PF.ofZero (n : Nat) : PF n (fun _ => 0) := ⟨fun _ => 0, fun x => (ps_zero n x).symm⟩
theorem PF.xpow (a : Nat) {n : Nat} {f : Rat → Rat} (h : PF n f) : PF (a + n) (fun x => x ^ a * f x) := by
  obtain ⟨c, h⟩ := h
  exact ⟨psh a c, fun x => by show x ^ a * f x = _; rw [ps_shift, h]⟩
theorem PF.mul {n m : Nat} {f g : Rat → Rat} (hf : PF n f) (hg : PF (m + 1) g) : PF (n + m) (fun x => f x * g x) := by
  obtain ⟨c, h⟩ := hf
  induction n generalizing f with
  | zero =>
    have e : (fun x => f x * g x) = fun _ => 0 := funext fun x => by rw [h]; simp only [ps]; grind
    rw [e]; exact PF.ofZero _
  | succ n ih =>
    have h1 := (ih (f := fun x => ps c n x) fun x => rfl).mono (m := n + 1 + m) (by omega)
    have h2 := ((hg.xpow n).smul (c n)).mono (m := n + 1 + m) (by omega)
    have h3 := h1.add h2
    rwa [show (fun x => ps c n x * g x + c n * (x ^ n * g x)) = fun x => f x * g x from funext fun x => by rw [h]; simp only [ps]; grind] at h3
theorem EX.mul {f g : Rat → Rat} {a b : Nat} (hf : EX f a) (hg : EX g b) : EX (fun x => f x * g x) (a + b) := by
  obtain ⟨c, h1, h2⟩ := hf
  have hg0 := hg.pf
  obtain ⟨d, h3, h4⟩ := hg
  obtain ⟨e, he⟩ := PF.mul (n := a) (m := b) (f := fun x => ps c a x) ⟨c, fun x => rfl⟩ hg0
  refine ⟨fun k => 1 * (if k < a + b then e k else 0) + c a * psh a d k, fun x => ?_, ?_⟩
  · rw [ps_lin, show a + b + 1 = (a + b) + 1 from rfl]
    have e1 : ps (fun k => if k < a + b then e k else 0) (a + b + 1) x = ps e (a + b) x := by
      rw [ps_ext 1 (fun k h5 h6 => if_neg (by omega))]
      exact ps_congr (fun k hk => if_pos hk) x
    have e2 : ps (psh a d) (a + b + 1) x = x ^ a * ps d (b + 1) x := by rw [Nat.add_assoc, ps_shift]
    have e3 := he x
    rw [e1, e2, ← e3]
    show f x * g x = 1 * (ps c a x * g x) + _
    rw [h1, h3]
    simp only [ps]; grind
  · have : psh a d (a + b) = d b := by unfold psh; rw [if_neg (by omega), Nat.add_sub_cancel_left]
    show ¬ (1 * (if a + b < a + b then e (a + b) else 0) + c a * psh a d (a + b) = 0)
    rw [if_neg (Nat.lt_irrefl _), this]
    intro q
    have q2 : c a * d b = 0 := by grind
    rcases Rat.mul_eq_zero.mp q2 with q3 | q3 <;> contradiction
theorem EX.no {f : Rat → Rat} {a : Nat} (h : EX f a) (g : PF a f) : False := by
  obtain ⟨c, h1, h2⟩ := h
  obtain ⟨d, h3⟩ := g.mono (Nat.le_succ a)
  obtain ⟨d', h4⟩ := g
  have h5 := ps_inj (n := a + 1) (c := c) (d := fun k => if k < a then d' k else 0) (fun x => by
    rw [← h1, h4, ps_ext 1 (fun k h5 h6 => if_neg (by omega))]
    exact ps_congr (fun k hk => (if_pos hk).symm) x) a (by omega)
  rw [if_neg (Nat.lt_irrefl _)] at h5
  exact h2 h5
theorem EX.uniq {f : Rat → Rat} {a b : Nat} (h : EX f a) (g : EX f b) : a = b := by
  rcases Nat.lt_trichotomy a b with q | q | q
  · exact (g.no (h.pf.mono q)).elim
  · exact q
  · exact (h.no (g.pf.mono q)).elim
theorem PF.cases {n : Nat} {f : Rat → Rat} (h : PF n f) : (∀ x, f x = 0) ∨ ∃ d, d < n ∧ EX f d := by
  obtain ⟨c, h⟩ := h
  induction n with
  | zero => exact Or.inl fun x => h x
  | succ n ih =>
    by_cases q : c n = 0
    · rcases ih (fun x => by rw [h]; simp only [ps]; rw [q]; grind) with g | ⟨d, g1, g2⟩
      · exact Or.inl g
      · exact Or.inr ⟨d, by omega, g2⟩
    · exact Or.inr ⟨n, by omega, c, h, q⟩
theorem EX.smul {f : Rat → Rat} {a : Nat} (h : EX f a) {p : Rat} (hp : p ≠ 0) : EX (fun x => p * f x) a := by
  obtain ⟨c, h1, h2⟩ := h
  refine ⟨fun k => p * c k + 0 * c k, fun x => by show p * f x = _; rw [ps_lin, h1]; grind, fun q => ?_⟩
  have q2 : p * c a = 0 := by grind
  rcases Rat.mul_eq_zero.mp q2 with q3 | q3 <;> contradiction
theorem EX.addl {f g : Rat → Rat} {a : Nat} (h : EX f a) (hg : PF a g) : EX (fun x => f x + g x) a := by
  obtain ⟨c, h1, h2⟩ := h
  obtain ⟨d, h3⟩ := hg
  refine ⟨fun k => 1 * c k + 1 * (if k < a then d k else 0), fun x => ?_, ?_⟩
  · show f x + g x = _
    rw [ps_lin, h1, h3, ps_ext (c := fun k => if k < a then d k else 0) 1 (fun k h5 h6 => if_neg (by omega)), ps_congr (c := fun k => if k < a then d k else 0) (d := d) (fun k hk => if_pos hk)]; grind
  · show ¬ (1 * c a + 1 * (if a < a then d a else 0) = 0)
    rw [if_neg (Nat.lt_irrefl _)]; grind
theorem PF.congr {n : Nat} {f g : Rat → Rat} (h : PF n f) (e : ∀ x, g x = f x) : PF n g := by rwa [show g = f from funext e]
theorem EX.congr {d : Nat} {f g : Rat → Rat} (h : EX f d) (e : ∀ x, g x = f x) : EX g d := by rwa [show g = f from funext e]
/-- no product of two is 0 -/
theorem PF.mul_zero {n m : Nat} {f g : Rat → Rat} (hf : PF n f) (hg : PF m g) (h : ∀ x, f x * g x = 0) : (∀ x, f x = 0) ∨ ∀ x, g x = 0 := by
  rcases hf.cases with h1 | ⟨a, _, h1⟩
  · exact Or.inl h1
  rcases hg.cases with h2 | ⟨b, _, h2⟩
  · exact Or.inr h2
  exact ((h1.mul h2).no ((PF.ofZero _).congr h)).elim
theorem EX.nz {f : Rat → Rat} {a : Nat} (h : EX f a) : ¬ ∀ x, f x = 0 := fun g => h.no ((PF.ofZero _).congr g)
theorem PF.cancel {n m l : Nat} {f g h : Rat → Rat} (hf : PF n f) (hg : PF m g) (hh : PF l h) (h0 : ¬ ∀ x, f x = 0) (e : ∀ x, f x * g x = f x * h x) : ∀ x, g x = h x := by
  have h1 := (hg.mono (show m ≤ m + l by omega)).sub (hh.mono (show l ≤ m + l by omega))
  rcases PF.mul_zero hf h1 (fun x => by have := e x; grind) with h2 | h2
  · exact absurd h2 h0
  · intro x; have := h2 x; grind
/-- what is left of a division is the same whatever the way -/
theorem rem_uniq {n m e : Nat} {b q q' r r' : Rat → Rat} (hb : EX b e) (hq : PF n q) (hq' : PF m q') (hr : PF e r) (hr' : PF e r') (h : ∀ x, q x * b x + r x = q' x * b x + r' x) : ∀ x, r x = r' x := by
  have h1 := (hq.mono (show n ≤ n + m by omega)).sub (hq'.mono (show m ≤ n + m by omega))
  rcases h1.cases with h2 | ⟨d, _, h2⟩
  · intro x
    have h3 := h x
    have h4 : q x = q' x := by have := h2 x; grind
    rw [h4] at h3; grind
  · exfalso
    have h3 := h2.mul hb
    exact h3.no (((hr'.sub hr).mono (show e ≤ d + e by omega)).congr fun x => by have := h x; grind)
