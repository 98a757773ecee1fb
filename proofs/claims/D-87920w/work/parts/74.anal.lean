/-! polynomial functions between -128 and 128: bounds, slopes, cells -/
set_option maxRecDepth 100000
set_option linter.unusedVariables false
def ab (x K : Rat) : Prop := -K ≤ x ∧ x ≤ K
theorem ab.nn {x K : Rat} (h : ab x K) : 0 ≤ K := by unfold ab at h; grind
theorem ab.mono {x K L : Rat} (h : ab x K) (g : K ≤ L) : ab x L := by unfold ab at *; grind
theorem ab.add {x y K L : Rat} (h : ab x K) (g : ab y L) : ab (x + y) (K + L) := by unfold ab at *; grind
theorem ab.sub {x y K L : Rat} (h : ab x K) (g : ab y L) : ab (x - y) (K + L) := by unfold ab at *; grind
theorem ab.neg {x K : Rat} (h : ab x K) : ab (-x) K := by unfold ab at *; grind
theorem ab.mul {x y K L : Rat} (h : ab x K) (g : ab y L) : ab (x * y) (K * L) := by
  unfold ab at *
  have a1 := Rat.mul_nonneg (show 0 ≤ K - x by grind) (show 0 ≤ L + y by grind)
  have a2 := Rat.mul_nonneg (show 0 ≤ K + x by grind) (show 0 ≤ L - y by grind)
  have a3 := Rat.mul_nonneg (show 0 ≤ K - x by grind) (show 0 ≤ L - y by grind)
  have a4 := Rat.mul_nonneg (show 0 ≤ K + x by grind) (show 0 ≤ L + y by grind)
  constructor <;> grind
theorem ab.self {x : Rat} (h : 0 ≤ x) : ab x x := by unfold ab; grind
theorem rsq (x : Rat) : 0 ≤ x * x := by
  rcases (Rat.le_total : (0 : Rat) ≤ x ∨ x ≤ 0) with h | h
  · exact Rat.mul_nonneg h h
  · have := Rat.mul_nonneg (a := -x) (b := -x) (by grind) (by grind); grind
theorem archi (x : Rat) : ∃ N : Nat, 0 < N ∧ x < (N : Rat) := by
  refine ⟨(x.floor + 1).toNat + 1, by omega, ?_⟩
  have h1 := Rat.lt_floor_add_one x
  have h2 : ((x.floor + 1 : Int) : Rat) ≤ (((x.floor + 1).toNat : Int) : Rat) := Rat.intCast_le_intCast.mpr (by omega)
  have h3 : (((x.floor + 1).toNat : Int) : Rat) < ((((x.floor + 1).toNat + 1 : Nat) : Int) : Rat) := Rat.intCast_lt_intCast.mpr (by omega)
  have h4 : ((((x.floor + 1).toNat + 1 : Nat) : Int) : Rat) = (((x.floor + 1).toNat + 1 : Nat) : Rat) := rfl
  grind
abbrev iB (x : Rat) : Prop := ab x 128
def bnd (f : pf) (K : Rat) : Prop := ∀ x, iB x → ab (f x) K
def lip (f : pf) (L : Rat) : Prop := ∀ x y, iB x → iB y → x ≤ y → ab (f y - f x) (L * (y - x))
theorem iB.of {a b x : Rat} (ha : iB a) (hb : iB b) (h1 : a ≤ x) (h2 : x ≤ b) : iB x := by unfold iB ab at *; grind
theorem bnd.add {f g : Rat → Rat} {K L : Rat} (h : bnd f K) (k : bnd g L) : bnd (fun x => f x + g x) (K + L) := fun x hx => (h x hx).add (k x hx)
theorem bnd.mul {f g : Rat → Rat} {K L : Rat} (h : bnd f K) (k : bnd g L) : bnd (fun x => f x * g x) (K * L) := fun x hx => (h x hx).mul (k x hx)
theorem lip.add {f g : Rat → Rat} {K L : Rat} (h : lip f K) (k : lip g L) : lip (fun x => f x + g x) (K + L) := fun x y hx hy hxy => by
  have := (h x y hx hy hxy).add (k x y hx hy hxy)
  rwa [show f y - f x + (g y - g x) = f y + g y - (f x + g x) by grind, show K * (y - x) + L * (y - x) = (K + L) * (y - x) by grind] at this
theorem lip.mul {f g : Rat → Rat} {K L K' L' : Rat} (h : lip f L) (k : lip g L') (hf : bnd f K) (hg : bnd g K') : lip (fun x => f x * g x) (K * L' + K' * L) := fun x y hx hy hxy => by
  have h1 := (hf y hy).mul (k x y hx hy hxy)
  have h2 := (hg x hx).mul (h x y hx hy hxy)
  have h3 := h1.add h2
  rwa [show f y * (g y - g x) + g x * (f y - f x) = f y * g y - f x * g x by grind, show K * (L' * (y - x)) + K' * (L * (y - x)) = (K * L' + K' * L) * (y - x) by grind] at h3
theorem bnd.const (c : Rat) {K : Rat} (h : ab c K) : bnd (fun _ => c) K := fun _ _ => h
theorem lip.const (c : Rat) : lip (fun _ => c) 0 := fun x y _ _ h => by
  have e : c - c = 0 := by grind
  show ab (c - c) _
  rw [e]; unfold ab; grind
theorem bnd.id : bnd (fun x => x) 128 := fun x hx => hx
theorem lip.id : lip (fun x => x) 1 := fun x y _ _ h => by unfold ab; grind
/-- powers -/
def lpw : Nat → Rat
  | 0 => 0
  | k + 1 => 128 ^ k * 1 + 128 * lpw k
theorem bnd.pow : ∀ k : Nat, bnd (fun x => x ^ k) (128 ^ k) := by
  intro k
  induction k with
  | zero => intro x _; simp only [Rat.pow_zero]; unfold ab; grind
  | succ k ih =>
    have := ih.mul bnd.id
    rw [Rat.pow_succ]
    rwa [show (fun x : Rat => x ^ (k + 1)) = fun x => x ^ k * x from funext fun x => Rat.pow_succ x k]
theorem lip.pow : ∀ k : Nat, lip (fun x => x ^ k) (lpw k) := by
  intro k
  induction k with
  | zero => rw [show (fun x : Rat => x ^ 0) = fun _ => 1 from funext fun x => Rat.pow_zero x]; exact lip.const 1
  | succ k ih =>
    rw [show (fun x : Rat => x ^ (k + 1)) = fun x => x ^ k * x from funext fun x => Rat.pow_succ x k]
    exact ih.mul lip.id (bnd.pow k) bnd.id
def gpw : Nat → Rat
  | 0 => 0
  | k + 1 => gpw k + 128 ^ k
def glw : Nat → Rat
  | 0 => 0
  | k + 1 => glw k + lpw k
theorem lpw_nn : ∀ k, 0 ≤ lpw k := by
  intro k
  induction k with
  | zero => exact Rat.le_refl
  | succ k ih =>
    have h1 : (0 : Rat) ≤ 128 ^ k := Rat.pow_nonneg (by decide)
    simp only [lpw]; grind
theorem ps_bnd {c : Nat → Rat} {A : Rat} : ∀ (n : Nat), (∀ k, k < n → ab (c k) A) → bnd (ps c n) (A * gpw n) := by
  intro n
  induction n with
  | zero => intro _ x _; simp only [ps, gpw]; unfold ab; grind
  | succ n ih =>
    intro h
    have h1 := (ih fun k hk => h k (by omega)).add ((bnd.const (c n) (h n (by omega))).mul (bnd.pow n))
    rwa [show A * gpw n + A * 128 ^ n = A * gpw (n + 1) by simp only [gpw]; grind] at h1
theorem ps_lip {c : Nat → Rat} {A : Rat} : ∀ (n : Nat), (∀ k, k < n → ab (c k) A) → lip (ps c n) (A * glw n) := by
  intro n
  induction n with
  | zero => intro _ x y _ _ hxy; simp only [ps, glw]; unfold ab; grind
  | succ n ih =>
    intro h
    have h0 := h n (by omega)
    have h1 := (ih fun k hk => h k (by omega)).add ((lip.const (c n)).mul (lip.pow n) (bnd.const (c n) h0) (bnd.pow n))
    rwa [show A * glw n + (A * lpw n + 128 ^ n * 0) = A * glw (n + 1) by simp only [glw]; grind] at h1
theorem coef_bd (c : Nat → Rat) : ∀ n, ∃ A : Rat, 0 ≤ A ∧ ∀ k, k < n → ab (c k) A := by
  intro n
  induction n with
  | zero => exact ⟨0, Rat.le_refl, fun k hk => by omega⟩
  | succ n ih =>
    obtain ⟨A, h1, h2⟩ := ih
    have h3 : ∃ B : Rat, 0 ≤ B ∧ ab (c n) B := by
      rcases (Rat.le_total : (0 : Rat) ≤ c n ∨ c n ≤ 0) with h | h
      · exact ⟨c n, h, ab.self h⟩
      · exact ⟨- c n, by grind, by unfold ab; grind⟩
    obtain ⟨B, h4, h5⟩ := h3
    refine ⟨A + B, by grind, fun k hk => ?_⟩
    by_cases e : k = n
    · subst e; exact h5.mono (by grind)
    · exact (h2 k (by omega)).mono (by grind)
theorem PF.bnd {n : Nat} {f : Rat → Rat} (h : PF n f) : ∃ K, 0 < K ∧ bnd f K := by
  obtain ⟨c, h⟩ := h
  obtain ⟨A, h1, h2⟩ := coef_bd c n
  have h3 := ps_bnd n h2
  have h4 : 0 ≤ A * gpw n := (h3 0 (by unfold iB ab; grind)).nn
  exact ⟨A * gpw n + 1, by grind, fun x hx => by rw [h]; exact (h3 x hx).mono (by grind)⟩
theorem PF.lip {n : Nat} {f : Rat → Rat} (h : PF n f) : ∃ L, 0 < L ∧ lip f L := by
  obtain ⟨c, h⟩ := h
  obtain ⟨A, h1, h2⟩ := coef_bd c n
  have h3 := ps_lip n h2
  have h4 : 0 ≤ A * glw n := by
    have := (h3 0 1 (by unfold iB ab; grind) (by unfold iB ab; grind) (by decide)).nn
    grind
  refine ⟨A * glw n + 1, by grind, fun x y hx hy hxy => ?_⟩
  rw [h, h]
  refine (h3 x y hx hy hxy).mono ?_
  have := Rat.mul_nonneg (show (0 : Rat) ≤ 1 by decide) (show 0 ≤ y - x by grind)
  grind
/-- slopes -/
def DD (f f' : pf) : Prop := ∃ T, 0 ≤ T ∧ ∀ x y, iB x → iB y → ab (f y - f x - (y - x) * f' x) (T * ((y - x) * (y - x)))
theorem DD.const (c : Rat) : DD (fun _ => c) (fun _ => 0) := ⟨0, Rat.le_refl, fun x y _ _ => by
  show ab (c - c - (y - x) * 0) (0 * ((y - x) * (y - x)))
  unfold ab; grind⟩
theorem DD.id : DD (fun x => x) (fun _ => 1) := ⟨0, Rat.le_refl, fun x y _ _ => by
  show ab (y - x - (y - x) * 1) (0 * ((y - x) * (y - x)))
  unfold ab; grind⟩
theorem DD.add {f f' g g' : Rat → Rat} (h : DD f f') (k : DD g g') : DD (fun x => f x + g x) (fun x => f' x + g' x) := by
  obtain ⟨T, h1, h2⟩ := h
  obtain ⟨U, k1, k2⟩ := k
  refine ⟨T + U, by grind, fun x y hx hy => ?_⟩
  have := (h2 x y hx hy).add (k2 x y hx hy)
  rwa [show f y - f x - (y - x) * f' x + (g y - g x - (y - x) * g' x) = f y + g y - (f x + g x) - (y - x) * (f' x + g' x) by grind, show T * ((y - x) * (y - x)) + U * ((y - x) * (y - x)) = (T + U) * ((y - x) * (y - x)) by grind] at this
theorem DD.mul {f f' g g' : Rat → Rat} {n m n' m' : Nat} (h : DD f f') (k : DD g g') (pf : PF n f) (pg : PF m g) (pf' : PF n' f') (pg' : PF m' g') : DD (fun x => f x * g x) (fun x => f' x * g x + f x * g' x) := by
  obtain ⟨T, h1, h2⟩ := h
  obtain ⟨U, k1, k2⟩ := k
  obtain ⟨A, a1, a2⟩ := pf.bnd
  obtain ⟨B, b1, b2⟩ := pg.bnd
  obtain ⟨C, c1, c2⟩ := pf'.bnd
  obtain ⟨L, l1, l2⟩ := pg.lip
  have hab : ∀ (x y : Rat), iB x → iB y → ab (g y - g x) (L * (if x ≤ y then y - x else x - y)) := fun x y hx hy => by
    split
    · rename_i q; exact l2 x y hx hy q
    · rename_i q
      have q2 : y ≤ x := by grind
      have := (l2 y x hy hx q2).neg
      rwa [show -(g x - g y) = g y - g x by grind] at this
  have hd : ∀ x y : Rat, ab (y - x) (if x ≤ y then y - x else x - y) := fun x y => by unfold ab; split <;> grind
  have hsq : ∀ x y : Rat, (if x ≤ y then y - x else x - y) * (if x ≤ y then y - x else x - y) = (y - x) * (y - x) := fun x y => by split <;> grind
  refine ⟨B * T + A * U + C * L, by
    have q1 := Rat.mul_nonneg (Rat.le_of_lt b1) h1
    have q2 := Rat.mul_nonneg (Rat.le_of_lt a1) k1
    have q3 := Rat.mul_nonneg (Rat.le_of_lt c1) (Rat.le_of_lt l1)
    grind, fun x y hx hy => ?_⟩
  have e1 := (b2 y hy).mul (h2 x y hx hy)
  have e2 := (a2 x hx).mul (k2 x y hx hy)
  have e3 := (c2 x hx).mul ((hd x y).mul (hab x y hx hy))
  have e4 := (e1.add e2).add e3
  have s := hsq x y
  generalize (if x ≤ y then y - x else x - y) = w at *
  rwa [show g y * (f y - f x - (y - x) * f' x) + f x * (g y - g x - (y - x) * g' x) + f' x * ((y - x) * (g y - g x)) = f y * g y - f x * g x - (y - x) * (f' x * g x + f x * g' x) by grind, show B * (T * ((y - x) * (y - x))) + A * (U * ((y - x) * (y - x))) + C * (w * (L * w)) = (B * T + A * U + C * L) * ((y - x) * (y - x)) by rw [← s]; grind] at e4
/-- the slope's numbers -/
def dco (c : Nat → Rat) : Nat → Rat := fun k => ((k + 1 : Nat) : Rat) * c (k + 1)
theorem DD.pow : ∀ k : Nat, DD (fun x => x ^ k) (fun x => (k : Rat) * x ^ (k - 1)) ∧ PF (k + 1) (fun x => x ^ k) ∧ PF (k + 1) (fun x => (k : Rat) * x ^ (k - 1)) := by
  have hp : ∀ k : Nat, PF (k + 1) (fun x : Rat => x ^ k) := fun k => by
    have := (PF.const 1).xpow k
    exact this.congr fun x => by grind
  have hq : ∀ k : Nat, PF (k + 1) (fun x : Rat => (k : Rat) * x ^ (k - 1)) := fun k => ((hp (k - 1)).smul (k : Rat)).mono (by omega)
  intro k
  refine ⟨?_, hp k, hq k⟩
  induction k with
  | zero =>
    have := DD.const 1
    rw [show (fun x : Rat => x ^ 0) = fun _ => 1 from funext fun x => Rat.pow_zero x]
    rwa [show (fun x : Rat => ((0 : Nat) : Rat) * x ^ (0 - 1)) = fun _ => 0 from funext fun x => by rw [show ((0 : Nat) : Rat) = 0 from rfl]; grind]
  | succ k ih =>
    have h := DD.mul ih DD.id (hp k) (n' := k + 1) (m := 2) (m' := 1) ⟨fun i => if i = 1 then 1 else 0, fun x => by simp [ps]; grind⟩ (hq k) (PF.const 1)
    rw [show (fun x : Rat => x ^ (k + 1)) = fun x => x ^ k * x from funext fun x => Rat.pow_succ x k]
    rwa [show (fun x : Rat => ((k + 1 : Nat) : Rat) * x ^ (k + 1 - 1)) = fun x => (k : Rat) * x ^ (k - 1) * x + x ^ k * 1 from funext fun x => by
      rw [Nat.add_sub_cancel, show ((k + 1 : Nat) : Rat) = (k : Rat) + 1 from Rat.natCast_add k 1]
      cases k with
      | zero => rw [show ((0 : Nat) : Rat) = 0 from rfl]; grind
      | succ k => rw [Nat.add_sub_cancel, Rat.pow_succ]; grind]
theorem DD.smul {f f' : Rat → Rat} (h : DD f f') (p : Rat) : DD (fun x => p * f x) (fun x => p * f' x) := by
  obtain ⟨T, h1, h2⟩ := h
  have hp : ∃ q : Rat, 0 ≤ q ∧ ab p q := by
    rcases (Rat.le_total : (0 : Rat) ≤ p ∨ p ≤ 0) with h | h
    · exact ⟨p, h, ab.self h⟩
    · exact ⟨-p, by grind, by unfold ab; grind⟩
  obtain ⟨q, q1, q2⟩ := hp
  refine ⟨q * T, Rat.mul_nonneg q1 h1, fun x y hx hy => ?_⟩
  have := q2.mul (h2 x y hx hy)
  rwa [show p * (f y - f x - (y - x) * f' x) = p * f y - p * f x - (y - x) * (p * f' x) by grind, show q * (T * ((y - x) * (y - x))) = q * T * ((y - x) * (y - x)) by grind] at this
theorem ps_DD (c : Nat → Rat) : ∀ n, DD (ps c (n + 1)) (ps (dco c) n) := by
  intro n
  induction n with
  | zero =>
    have h := DD.const (c 0)
    rw [show ps c (0 + 1) = fun _ => c 0 from funext fun x => by simp only [ps, Rat.pow_zero]; grind]
    exact h
  | succ n ih =>
    have h := ih.add ((DD.pow (n + 1)).1.smul (c (n + 1)))
    rw [show ps c (n + 1 + 1) = fun x => ps c (n + 1) x + c (n + 1) * x ^ (n + 1) from rfl]
    rwa [show (fun x => ps (dco c) n x + c (n + 1) * (((n + 1 : Nat) : Rat) * x ^ (n + 1 - 1))) = ps (dco c) (n + 1) from funext fun x => by
      rw [Nat.add_sub_cancel]; simp only [ps, dco]; grind] at h
theorem DD.mvt {f f' : Rat → Rat} (h : DD f f') {a b : Rat} (ha : iB a) (hb : iB b) (hab : a ≤ b) (hp : ∀ z, a ≤ z → z ≤ b → 0 ≤ f' z) : f a ≤ f b := by
  obtain ⟨T, h1, h2⟩ := h
  have key : ∀ N : Nat, 0 < N → f a - T * ((b - a) * (b - a)) / N ≤ f b := by
    intro N hN
    have hN' : (0 : Rat) < (N : Rat) := Rat.natCast_pos.mpr hN
    have hN0 : (N : Rat) ≠ 0 := by intro e; rw [e] at hN'; exact Rat.lt_irrefl hN'
    have step : ∀ k : Nat, k ≤ N → f a - (k : Rat) * (T * ((b - a) / N * ((b - a) / N))) ≤ f (a + (k : Rat) * ((b - a) / N)) := by
      intro k
      induction k with
      | zero => intro _; rw [show ((0 : Nat) : Rat) = 0 from rfl]; rw [show a + 0 * ((b - a) / N) = a by grind]; grind
      | succ k ih =>
        intro hk
        have i1 := ih (by omega)
        generalize hd : (b - a) / (N : Rat) = d at *
        have hdn : 0 ≤ d := by
          rw [← hd, Rat.div_def]
          exact Rat.mul_nonneg (by grind) (Rat.le_of_lt (Rat.inv_pos.mpr hN'))
        have hNd : (N : Rat) * d = b - a := by rw [← hd]; grind
        have hk1 : ((k + 1 : Nat) : Rat) = (k : Rat) + 1 := Rat.natCast_add k 1
        have hkN : ((k + 1 : Nat) : Rat) ≤ (N : Rat) := Rat.natCast_le_natCast.mpr hk
        have hkd : ((k + 1 : Nat) : Rat) * d ≤ (N : Rat) * d := Rat.mul_le_mul_of_nonneg_right hkN hdn
        have hk0 : 0 ≤ (k : Rat) * d := Rat.mul_nonneg Rat.natCast_nonneg hdn
        rw [hk1] at hkd ⊢
        have z1 : a ≤ a + (k : Rat) * d := by grind
        have z2 : a + (k : Rat) * d ≤ b := by grind
        have z3 : a + ((k : Rat) + 1) * d ≤ b := by grind
        have z4 : a ≤ a + ((k : Rat) + 1) * d := by grind
        have g1 := (h2 (a + (k : Rat) * d) (a + ((k : Rat) + 1) * d) (iB.of ha hb z1 z2) (iB.of ha hb z4 z3)).1
        have g2 := hp _ z1 z2
        have g3 := Rat.mul_nonneg hdn g2
        rw [show a + ((k : Rat) + 1) * d - (a + (k : Rat) * d) = d by grind] at g1
        grind
    have s := step N (Nat.le_refl _)
    have e1 : a + (N : Rat) * ((b - a) / N) = b := by grind
    have e2 : (N : Rat) * (T * ((b - a) / N * ((b - a) / N))) = T * ((b - a) * (b - a)) / N := by grind
    rw [e1, e2] at s
    exact s
  rcases Classical.em (f a ≤ f b) with q | q
  · exact q
  · exfalso
    have hη : 0 < f a - f b := by grind
    obtain ⟨N, hN, hx⟩ := archi (T * ((b - a) * (b - a)) / (f a - f b))
    have hN' : (0 : Rat) < (N : Rat) := Rat.natCast_pos.mpr hN
    have k := key N hN
    have k2 : T * ((b - a) * (b - a)) < (N : Rat) * (f a - f b) := (Rat.div_lt_iff hη).mp hx
    have k3 : T * ((b - a) * (b - a)) / (N : Rat) < f a - f b := (Rat.div_lt_iff' hN').mpr k2
    grind
/-- two slopes of one function are one -/
theorem DD.uniq {f f' f'' : Rat → Rat} {n m : Nat} (h : DD f f') (k : DD f f'') (p' : PF n f') (p'' : PF m f'') : ∀ x, f' x = f'' x := by
  obtain ⟨T, h1, h2⟩ := h
  obtain ⟨U, k1, k2⟩ := k
  have key : ∀ x, 0 ≤ x → x ≤ 1 → f' x = f'' x := by
    intro x x0 x1
    have hx : iB x := by unfold iB ab; grind
    have e : ∀ N : Nat, 0 < N → ab (f' x - f'' x) ((T + U) / N) := by
      intro N hN
      have hN' : (0 : Rat) < (N : Rat) := Rat.natCast_pos.mpr hN
      have hi : (0 : Rat) < (N : Rat)⁻¹ := Rat.inv_pos.mpr hN'
      have h1N : (1 : Rat) ≤ (N : Rat) := by have := Rat.natCast_le_natCast.mpr hN; exact this
      have hi1 : (N : Rat)⁻¹ ≤ 1 := by
        have := Rat.mul_le_mul_of_nonneg_left h1N (Rat.le_of_lt hi)
        have e := Rat.inv_mul_cancel (N : Rat) (by intro q; rw [q] at hN'; exact Rat.lt_irrefl hN')
        rw [e] at this; grind
      have e1 : (N : Rat) * (N : Rat)⁻¹ = 1 := Rat.mul_inv_cancel _ (by intro q; rw [q] at hN'; exact Rat.lt_irrefl hN')
      have hy : iB (x + (N : Rat)⁻¹) := by unfold iB ab; grind
      have a1 := (k2 x _ hx hy).sub (h2 x _ hx hy)
      generalize (N : Rat)⁻¹ = d at *
      rw [show f (x + d) - f x - (x + d - x) * f'' x - (f (x + d) - f x - (x + d - x) * f' x) = d * (f' x - f'' x) by grind, show U * ((x + d - x) * (x + d - x)) + T * ((x + d - x) * (x + d - x)) = d * ((T + U) * d) by grind] at a1
      rw [Rat.div_def]
      obtain ⟨b1, b2⟩ := a1
      have e2 : (N : Rat)⁻¹ = d := by
        have := Rat.inv_eq_of_mul_eq_one e1; exact this
      rw [e2]
      constructor
      · refine Rat.le_of_mul_le_mul_left (c := d) ?_ hi; grind
      · exact Rat.le_of_mul_le_mul_left b2 hi
    have lim : ∀ w : Rat, (∀ N : Nat, 0 < N → w ≤ (T + U) / N) → w ≤ 0 := by
      intro w hw
      rcases Classical.em (w ≤ 0) with q | q
      · exact q
      · exfalso
        have q2 : 0 < w := by grind
        obtain ⟨N, hN, hx⟩ := archi ((T + U) / w)
        have hN' : (0 : Rat) < (N : Rat) := Rat.natCast_pos.mpr hN
        have k2 : T + U < (N : Rat) * w := (Rat.div_lt_iff q2).mp hx
        have k3 : (T + U) / (N : Rat) < w := (Rat.div_lt_iff' hN').mpr k2
        have := hw N hN
        grind
    have l1 := lim (f' x - f'' x) fun N hN => (e N hN).2
    have l2 := lim (-(f' x - f'' x)) fun N hN => by have := (e N hN).1; grind
    grind
  obtain ⟨c, hc⟩ := (p'.mono (show n ≤ n + m by omega)).sub (p''.mono (show m ≤ n + m by omega))
  have hz := ps_roots (n + m) c (fun i => (i : Rat) / ((n + m : Nat) : Rat)) (fun i j hij hj e => by
    have hN' : (0 : Rat) < ((n + m : Nat) : Rat) := Rat.natCast_pos.mpr (by omega)
    have e2 : (i : Rat) = (j : Rat) := by
      have hN0 : ((n + m : Nat) : Rat) ≠ 0 := by intro q; rw [q] at hN'; exact Rat.lt_irrefl hN'
      have a1 := Rat.div_mul_cancel (a := (i : Rat)) hN0
      have a2 := Rat.div_mul_cancel (a := (j : Rat)) hN0
      rw [e] at a1; rw [← a1, a2]
    have := Rat.natCast_inj.mp e2
    omega) fun i hi => by
    rw [← hc]
    have hN' : (0 : Rat) < ((n + m : Nat) : Rat) := Rat.natCast_pos.mpr (by omega)
    have z0 : (0 : Rat) ≤ (i : Rat) / ((n + m : Nat) : Rat) := by rw [Rat.div_def]; exact Rat.mul_nonneg Rat.natCast_nonneg (Rat.le_of_lt (Rat.inv_pos.mpr hN'))
    have z1 : (i : Rat) / ((n + m : Nat) : Rat) ≤ 1 := by
      have := (Rat.div_lt_iff' (a := (i : Rat)) (c := 1) hN').mpr (by have := Rat.natCast_lt_natCast.mpr hi; grind)
      exact Rat.le_of_lt this
    have := key _ z0 z1
    show f' _ - f'' _ = 0
    grind
  intro x
  have h3 := hc x
  rw [ps_congr (d := fun _ => 0) (fun k hk => hz k hk), ps_zero] at h3
  grind
