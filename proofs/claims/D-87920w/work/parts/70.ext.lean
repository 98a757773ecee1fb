/-! an exterior algebra by recursion: forms are functions of lists of marks; a vector is a function of places -/
set_option maxRecDepth 100000
set_option linter.unusedVariables false
abbrev xV : Type := Nat → Rat
abbrev xF : Type := List Bool → Rat
def xs (a : xV) : xV := fun i => a (i + 1)
def x0 (w : xF) : xF := fun l => w (false :: l)
def x1 (w : xF) : xF := fun l => w (true :: l)
/-- a vector by a form -/
def xw : xV → xF → xF
  | _, _, [] => 0
  | a, w, false :: l => xw (xs a) (x0 w) l
  | a, w, true :: l => a 0 * w (false :: l) - xw (xs a) (x1 w) l
/-- a form less a vector -/
def xc : xV → xF → xF
  | _, _, [] => 0
  | a, w, false :: l => xc (xs a) (x0 w) l + a 0 * w (true :: l)
  | a, w, true :: l => - xc (xs a) (x1 w) l
def xdot : Nat → xV → xV → Rat
  | 0, _, _ => 0
  | n + 1, a, b => a 0 * b 0 + xdot n (xs a) (xs b)
def xip : Nat → xF → xF → Rat
  | 0, w, x => w [] * x []
  | n + 1, w, x => xip n (x0 w) (x0 x) + xip n (x1 w) (x1 x)
theorem xw_lin : ∀ (l : List Bool) (a b : xV) (w v : xF) (p q : Rat), xw a (fun k => p * w k + q * v k) l = p * xw a w l + q * xw a v l := by
  intro l
  induction l with
  | nil => intro a b w v p q; simp only [xw]; grind
  | cons t l ih =>
    intro a b w v p q
    have e0 : x0 (fun k => p * w k + q * v k) = fun k => p * x0 w k + q * x0 v k := rfl
    have e1 : x1 (fun k => p * w k + q * v k) = fun k => p * x1 w k + q * x1 v k := rfl
    cases t with
    | false => simp only [xw, e0]; exact ih _ (xs b) _ _ _ _
    | true => simp only [xw, e1]; rw [ih _ (xs b)]; grind
theorem xc_lin : ∀ (l : List Bool) (a : xV) (w v : xF) (p q : Rat), xc a (fun k => p * w k + q * v k) l = p * xc a w l + q * xc a v l := by
  intro l
  induction l with
  | nil => intro a w v p q; simp only [xc]; grind
  | cons t l ih =>
    intro a w v p q
    have e0 : x0 (fun k => p * w k + q * v k) = fun k => p * x0 w k + q * x0 v k := rfl
    have e1 : x1 (fun k => p * w k + q * v k) = fun k => p * x1 w k + q * x1 v k := rfl
    cases t with
    | false => simp only [xc, e0]; rw [ih]; grind
    | true => simp only [xc, e1]; rw [ih]; grind
/-- linear in the vector -/
theorem xw_vec : ∀ (l : List Bool) (a b : xV) (w : xF) (p q : Rat), xw (fun i => p * a i + q * b i) w l = p * xw a w l + q * xw b w l := by
  intro l
  induction l with
  | nil => intro a b w p q; simp only [xw]; grind
  | cons t l ih =>
    intro a b w p q
    have e : xs (fun i => p * a i + q * b i) = fun i => p * xs a i + q * xs b i := rfl
    cases t with
    | false => simp only [xw, e]; exact ih _ _ _ _ _
    | true => simp only [xw, e]; rw [ih]; grind
theorem xw_neg (l : List Bool) (a : xV) (w : xF) : xw a (fun k => - w k) l = - xw a w l := by
  have h := xw_lin l a a w w (-1) 0
  rw [show (fun k => - w k) = (fun k => (-1 : Rat) * w k + 0 * w k) from funext fun k => by grind, h]; grind
theorem xc_neg (l : List Bool) (a : xV) (w : xF) : xc a (fun k => - w k) l = - xc a w l := by
  have h := xc_lin l a w w (-1) 0
  rw [show (fun k => - w k) = (fun k => (-1 : Rat) * w k + 0 * w k) from funext fun k => by grind, h]; grind
theorem xw_comm : ∀ (l : List Bool) (a b : xV) (w : xF), xw a (xw b w) l = - xw b (xw a w) l := by
  intro l
  induction l with
  | nil => intro a b w; simp [xw]
  | cons t l ih =>
    intro a b w
    have e0 : ∀ a : xV, x0 (xw a w) = xw (xs a) (x0 w) := fun a => funext fun k => rfl
    have e1 : ∀ a : xV, x1 (xw a w) = fun k => a 0 * x0 w k + (-1 : Rat) * xw (xs a) (x1 w) k := fun a => funext fun k => by
      show xw a w (true :: k) = _
      simp only [xw, x0]; grind
    cases t with
    | false => simp only [xw, e0]; exact ih _ _ _
    | true =>
      simp only [xw, e1]
      rw [xw_lin _ _ (xs a), xw_lin _ _ (xs b), ih (xs a) (xs b) (x1 w)]
      grind
theorem xw_self (l : List Bool) (a : xV) (w : xF) : xw a (xw a w) l = 0 := by
  have h := xw_comm l a a w
  grind
theorem xc_comm : ∀ (l : List Bool) (a b : xV) (w : xF), xc a (xc b w) l = - xc b (xc a w) l := by
  intro l
  induction l with
  | nil => intro a b w; simp [xc]
  | cons t l ih =>
    intro a b w
    have e0 : ∀ a : xV, x0 (xc a w) = fun k => (1 : Rat) * xc (xs a) (x0 w) k + a 0 * x1 w k := fun a => funext fun k => by
      show xc a w (false :: k) = _
      simp only [xc, x1]; grind
    have e1 : ∀ a : xV, x1 (xc a w) = fun k => - xc (xs a) (x1 w) k := fun a => funext fun k => rfl
    cases t with
    | false =>
      simp only [xc, e0]
      rw [xc_lin, xc_lin, ih (xs a) (xs b) (x0 w)]
      grind
    | true =>
      simp only [xc, e1]
      rw [xc_neg, xc_neg, ih (xs a) (xs b) (x1 w)]
theorem xcliff : ∀ (l : List Bool) (a b : xV) (w : xF), xc a (xw b w) l = xdot l.length a b * w l - xw b (xc a w) l := by
  intro l
  induction l with
  | nil => intro a b w; simp only [xc, xw, List.length_nil, xdot]; grind
  | cons t l ih =>
    intro a b w
    have f0 : x0 (xw b w) = xw (xs b) (x0 w) := funext fun k => rfl
    have f1 : x1 (xw b w) = fun k => b 0 * x0 w k + (-1 : Rat) * xw (xs b) (x1 w) k := funext fun k => by
      show xw b w (true :: k) = _
      simp only [xw, x0]; grind
    have e0 : x0 (xc a w) = fun k => (1 : Rat) * xc (xs a) (x0 w) k + a 0 * x1 w k := funext fun k => by
      show xc a w (false :: k) = _
      simp only [xc, x1]; grind
    have e1 : x1 (xc a w) = fun k => - xc (xs a) (x1 w) k := funext fun k => rfl
    cases t with
    | false =>
      simp only [xc, xw, e0, f0, List.length_cons, xdot]
      rw [ih, xw_lin _ _ (xs a)]
      simp only [x0, x1]
      grind
    | true =>
      simp only [xc, xw, e1, f1, List.length_cons, xdot]
      rw [xc_lin, ih, xw_neg]
      simp only [x0, x1]
      grind
theorem xip_congr : ∀ (n : Nat) (w v x : xF), (∀ l, l.length = n → w l = v l) → xip n w x = xip n v x := by
  intro n
  induction n with
  | zero => intro w v x h; simp only [xip]; rw [h [] rfl]
  | succ n ih =>
    intro w v x h
    simp only [xip]
    rw [ih (x0 w) (x0 v) _ fun l hl => h (false :: l) (by simp [hl]), ih (x1 w) (x1 v) _ fun l hl => h (true :: l) (by simp [hl])]
theorem xip_comm : ∀ (n : Nat) (w v : xF), xip n w v = xip n v w := by
  intro n
  induction n with
  | zero => intro w v; simp only [xip]; grind
  | succ n ih => intro w v; simp only [xip]; rw [ih (x0 w), ih (x1 w)]
theorem xip_lin : ∀ (n : Nat) (w v x : xF) (p q : Rat), xip n (fun k => p * w k + q * v k) x = p * xip n w x + q * xip n v x := by
  intro n
  induction n with
  | zero => intro w v x p q; simp only [xip]; grind
  | succ n ih =>
    intro w v x p q
    have e0 : x0 (fun k => p * w k + q * v k) = fun k => p * x0 w k + q * x0 v k := rfl
    have e1 : x1 (fun k => p * w k + q * v k) = fun k => p * x1 w k + q * x1 v k := rfl
    simp only [xip, e0, e1]; rw [ih, ih]; grind
theorem xip_lin2 (n : Nat) (w v x : xF) (p q : Rat) : xip n x (fun k => p * w k + q * v k) = p * xip n x w + q * xip n x v := by
  rw [xip_comm, xip_lin, xip_comm n w, xip_comm n v]
theorem xip_nn : ∀ (n : Nat) (w : xF), 0 ≤ xip n w w := by
  intro n
  induction n with
  | zero => intro w; simp only [xip]; rcases (Rat.le_total : (0 : Rat) ≤ w [] ∨ w [] ≤ 0) with h | h
            · exact Rat.mul_nonneg h h
            · have := Rat.mul_nonneg (a := - w []) (b := - w []) (by grind) (by grind); grind
  | succ n ih => intro w; simp only [xip]; exact Rat.add_nonneg (ih _) (ih _)
theorem xip_zero2 (n : Nat) (x : xF) : xip n x (fun _ => 0) = 0 := by
  have h := xip_lin2 n x x x 0 0
  rw [show (fun _ => (0 : Rat)) = (fun k => (0 : Rat) * x k + 0 * x k) from funext fun k => by grind, h]; grind
theorem xadj : ∀ (n : Nat) (a : xV) (w x : xF), xip n (xw a w) x = xip n w (xc a x) := by
  intro n
  induction n with
  | zero => intro a w x; simp [xip, xw, xc]
  | succ n ih =>
    intro a w x
    have f0 : x0 (xw a w) = xw (xs a) (x0 w) := funext fun k => rfl
    have f1 : x1 (xw a w) = fun k => a 0 * x0 w k + (-1 : Rat) * xw (xs a) (x1 w) k := funext fun k => by
      show xw a w (true :: k) = _
      simp only [xw, x0]; grind
    have e0 : x0 (xc a x) = fun k => (1 : Rat) * xc (xs a) (x0 x) k + a 0 * x1 x k := funext fun k => by
      show xc a x (false :: k) = _
      simp only [xc, x1]; grind
    have e1 : x1 (xc a x) = fun k => (-1 : Rat) * xc (xs a) (x1 x) k + 0 * x1 x k := funext fun k => by
      show xc a x (true :: k) = _
      simp only [xc]; grind
    simp only [xip, f0, f1, e0, e1]
    rw [xip_lin, xip_lin2, xip_lin2, ih, ih]
    grind
/-- Hadamard: neither a product nor a contraction is longer than the two together -/
theorem xnorm (n : Nat) (a : xV) (w : xF) : xip n (xw a w) (xw a w) + xip n (xc a w) (xc a w) = xdot n a a * xip n w w := by
  have h1 : xip n (xw a w) (xw a w) = xip n w (fun k => xdot n a a * w k + (-1 : Rat) * xw a (xc a w) k) := by
    rw [xadj, xip_comm n w (xc a (xw a w)), xip_comm n w]
    refine xip_congr n _ _ _ fun l hl => ?_
    rw [xcliff, hl]; grind
  have h2 : xip n w (xw a (xc a w)) = xip n (xc a w) (xc a w) := by rw [xip_comm, xadj]
  rw [h1, xip_lin2, h2]
  grind
theorem xnorm_w (n : Nat) (a : xV) (w : xF) : xip n (xw a w) (xw a w) ≤ xdot n a a * xip n w w := by
  have h1 := xnorm n a w
  have h2 := xip_nn n (xc a w)
  grind
theorem xnorm_c (n : Nat) (a : xV) (w : xF) : xip n (xc a w) (xc a w) ≤ xdot n a a * xip n w w := by
  have h1 := xnorm n a w
  have h2 := xip_nn n (xw a w)
  grind
/-- whole numbers -/
def isZ (x : Rat) : Prop := ∃ z : Int, x = (z : Rat)
theorem isZ.add {x y : Rat} (h : isZ x) (g : isZ y) : isZ (x + y) := by obtain ⟨a, rfl⟩ := h; obtain ⟨b, rfl⟩ := g; exact ⟨a + b, by rw [Rat.intCast_add]⟩
theorem isZ.mul {x y : Rat} (h : isZ x) (g : isZ y) : isZ (x * y) := by obtain ⟨a, rfl⟩ := h; obtain ⟨b, rfl⟩ := g; exact ⟨a * b, by rw [Rat.intCast_mul]⟩
theorem isZ.neg {x : Rat} (h : isZ x) : isZ (-x) := by obtain ⟨a, rfl⟩ := h; exact ⟨-a, by rw [Rat.intCast_neg]⟩
theorem isZ.sub {x y : Rat} (h : isZ x) (g : isZ y) : isZ (x - y) := by rw [Rat.sub_eq_add_neg]; exact h.add g.neg
theorem isZ.zero : isZ 0 := ⟨0, rfl⟩
theorem isZ.one : isZ 1 := ⟨1, rfl⟩
theorem isZ.of (z : Int) : isZ (z : Rat) := ⟨z, rfl⟩
theorem isZ.xw : ∀ (l : List Bool) (a : xV) (w : xF), (∀ i, isZ (a i)) → (∀ k, isZ (w k)) → isZ (xw a w l) := by
  intro l
  induction l with
  | nil => intro a w ha hw; exact isZ.zero
  | cons t l ih =>
    intro a w ha hw
    cases t with
    | false => exact ih _ _ (fun i => ha (i + 1)) (fun k => hw (false :: k))
    | true => exact ((ha 0).mul (hw _)).sub (ih _ _ (fun i => ha (i + 1)) (fun k => hw (true :: k)))
theorem isZ.xc : ∀ (l : List Bool) (a : xV) (w : xF), (∀ i, isZ (a i)) → (∀ k, isZ (w k)) → isZ (xc a w l) := by
  intro l
  induction l with
  | nil => intro a w ha hw; exact isZ.zero
  | cons t l ih =>
    intro a w ha hw
    cases t with
    | false => exact (ih _ _ (fun i => ha (i + 1)) (fun k => hw (false :: k))).add ((ha 0).mul (hw _))
    | true => exact (ih _ _ (fun i => ha (i + 1)) (fun k => hw (true :: k))).neg
/-- the product of k vectors, the last one outmost -/
def xe : xF := fun l => if l.all (fun t => !t) then 1 else 0
def xp (m : Nat → xV) : Nat → xF
  | 0 => xe
  | k + 1 => xw (m k) (xp m k)
theorem xp_congr {m m' : Nat → xV} : ∀ (k : Nat), (∀ j, j < k → m j = m' j) → xp m k = xp m' k := by
  intro k
  induction k with
  | zero => intro _; rfl
  | succ k ih => intro h; simp only [xp]; rw [ih fun j hj => h j (by omega), h k (by omega)]
theorem isZ.xp {m : Nat → xV} : ∀ (k : Nat), (∀ j, j < k → ∀ i, isZ (m j i)) → ∀ l, isZ (xp m k l) := by
  intro k
  induction k with
  | zero =>
    intro _ l
    simp only [Jvm.Pilot.CIdealCourtLaw_law_r5787_380c08.xp, xe]; split
    · exact isZ.one
    · exact isZ.zero
  | succ k ih => intro h l; exact isZ.xw l _ _ (h k (by omega)) (ih fun j hj => h j (by omega))
theorem xip_xe : ∀ n, xip n xe xe = 1 := by
  have z : ∀ n, xip n (fun _ => 0) (fun _ => 0) = (0 : Rat) := fun n => xip_zero2 n _
  intro n
  induction n with
  | zero => show xe [] * xe [] = 1; rw [show xe [] = 1 by simp [xe]]; grind
  | succ n ih =>
    have e0 : x0 xe = xe := funext fun l => by simp [x0, xe]
    have e1 : x1 xe = fun _ => 0 := funext fun l => by simp [x1, xe]
    simp only [xip, e0, e1, ih, z]; grind
/-- a vector that is among them brings nothing -/
theorem xp_in {m : Nat → xV} : ∀ (k j : Nat), j < k → ∀ l, xw (m j) (xp m k) l = 0 := by
  intro k
  induction k with
  | zero => intro j hj; omega
  | succ k ih =>
    intro j hj l
    simp only [xp]
    by_cases h : j = k
    · subst h; exact xw_self _ _ _
    · rw [xw_comm, show xw (m j) (xp m k) = fun _ => 0 from funext fun l => ih j (by omega) l]
      have := xw_lin l (m k) (m k) (fun _ => 0) (fun _ => 0) 0 0
      grind
theorem xw_zero (l : List Bool) (a : xV) : xw a (fun _ => 0) l = 0 := by
  have := xw_lin l a a (fun _ => 0) (fun _ => 0) 0 0
  grind
theorem xc_zero (l : List Bool) (a : xV) : xc a (fun _ => 0) l = 0 := by
  have := xc_lin l a (fun _ => 0) (fun _ => 0) 0 0
  grind
/-- multiples of the outmost one may be taken from all others -/
theorem xp_turn {m m' : Nat → xV} {v : xV} : ∀ (k : Nat), (∀ j, j < k → ∃ q : Rat, m' j = fun i => 1 * m j i + q * v i) → ∀ l, xw v (xp m' k) l = xw v (xp m k) l := by
  intro k
  induction k with
  | zero => intro _ l; rfl
  | succ k ih =>
    intro h l
    obtain ⟨q, hq⟩ := h k (by omega)
    have e : xw v (xp m' k) = xw v (xp m k) := funext fun l => ih (fun j hj => h j (by omega)) l
    simp only [xp]
    rw [xw_comm, e, xw_comm l v (m k), hq, xw_vec, xw_self l v (xp m k)]
    grind
theorem xw_congr : ∀ (l : List Bool) (a : xV) (w v : xF), (∀ k, k.length = l.length → w k = v k) → xw a w l = xw a v l := by
  intro l
  induction l with
  | nil => intro a w v h; rfl
  | cons t l ih =>
    intro a w v h
    cases t with
    | false => exact ih _ _ _ fun k hk => h (false :: k) (by simp [hk])
    | true =>
      simp only [xw]
      rw [h (false :: l) rfl, ih _ (x1 w) (x1 v) fun k hk => h (true :: k) (by simp [hk])]
theorem xc_congr : ∀ (l : List Bool) (a : xV) (w v : xF), (∀ k, k.length = l.length → w k = v k) → xc a w l = xc a v l := by
  intro l
  induction l with
  | nil => intro a w v h; rfl
  | cons t l ih =>
    intro a w v h
    cases t with
    | false =>
      simp only [xc]
      rw [h (true :: l) rfl, ih _ (x0 w) (x0 v) fun k hk => h (false :: k) (by simp [hk])]
    | true =>
      simp only [xc]
      rw [ih _ (x1 w) (x1 v) fun k hk => h (true :: k) (by simp [hk])]
/-- a place's own vector -/
def xu (p : Nat) : xV := fun i => if i = p then 1 else 0
theorem xdot_zero : ∀ (n : Nat) (a b : xV), (∀ i, i < n → a i = 0) → xdot n a b = 0 := by
  intro n
  induction n with
  | zero => intro a b h; rfl
  | succ n ih => intro a b h; simp only [xdot]; rw [ih (xs a) (xs b) fun i hi => h (i + 1) (by omega), h 0 (by omega)]; grind
theorem xdot_u : ∀ (n p : Nat) (b : xV), xdot n (xu p) b = if p < n then b p else 0 := by
  intro n
  induction n with
  | zero => intro p b; simp [xdot]
  | succ n ih =>
    intro p b
    cases p with
    | zero =>
      simp only [xdot]
      rw [xdot_zero n (xs (xu 0)) (xs b) fun i hi => by simp [xs, xu]]
      simp [xu]; grind
    | succ p =>
      have e : xs (xu (p + 1)) = xu p := funext fun i => by simp [xs, xu]
      simp only [xdot, e]
      rw [ih]
      simp [xu, xs]; grind
theorem xc_u (l : List Bool) (p : Nat) (b : xV) (w : xF) (hp : p < l.length) : xc (xu p) (xw b w) l = b p * w l - xw b (xc (xu p) w) l := by
  rw [xcliff, xdot_u, if_pos hp]
theorem xc_u0 {p : Nat} {m : Nat → xV} : ∀ (k : Nat), (∀ j, j < k → m j p = 0) → ∀ l, xc (xu p) (xp m k) l = 0 := by
  have e0 : ∀ (l : List Bool) (a : xV), xc a xe l = 0 := by
    intro l
    induction l with
    | nil => intro a; rfl
    | cons t l ih =>
      intro a
      cases t with
      | false => simp only [xc]; rw [show x0 xe = xe from funext fun l => by simp [x0, xe], ih]; simp [xe]; grind
      | true => simp only [xc]; rw [show x1 xe = fun _ => 0 from funext fun l => by simp [x1, xe], xc_zero]; rfl
  intro k
  induction k with
  | zero => intro _ l; exact e0 l _
  | succ k ih =>
    intro h l
    simp only [xp]
    rw [xcliff, show xc (xu p) (xp m k) = fun _ => 0 from funext fun l => ih (fun j hj => h j (by omega)) l, xw_zero, xdot_u]
    split
    · rw [h k (by omega)]; grind
    · grind
/-- a string of contractions by places -/
def xT (n : Nat) (T : xF → xF) : Prop := (∀ w v, (∀ k, k.length = n → w k = v k) → ∀ l, l.length = n → T w l = T v l) ∧ (∀ w (q : Rat) l, T (fun k => q * w k) l = q * T w l) ∧ (∀ w, (∀ k, isZ (w k)) → ∀ k, isZ (T w k)) ∧ ∀ w, xip n (T w) (T w) ≤ xip n w w
theorem xT.id (n : Nat) : xT n (fun w => w) := ⟨fun w v h l hl => h l hl, fun w q l => rfl, fun w h => h, fun w => Rat.le_refl⟩
theorem xT.step {n : Nat} {T : xF → xF} (h : xT n T) {p : Nat} (hp : p < n) : xT n (fun w => xc (xu p) (T w)) := by
  obtain ⟨h1, h2, h3, h4⟩ := h
  refine ⟨fun w v g l hl => xc_congr l _ _ _ fun k hk => h1 w v g k (by rw [hk, hl]), fun w q l => ?_, fun w g k => ?_, fun w => ?_⟩
  · have e : T (fun k => q * w k) = fun k => q * T w k + 0 * T w k := funext fun l => by rw [h2]; grind
    show xc (xu p) (T (fun k => q * w k)) l = _
    rw [e, xc_lin]; grind
  · exact isZ.xc k _ _ (fun i => by unfold xu; split <;> first | exact isZ.one | exact isZ.zero) (h3 w g)
  · have g1 := xnorm_c n (xu p) (T w)
    have g2 : xdot n (xu p) (xu p) = 1 := by rw [xdot_u, if_pos hp]; simp [xu]
    have g3 := h4 w
    rw [g2] at g1
    grind
section EXTRACT
variable {n : Nat} {m : Nat → xV} {P : Nat → Nat}
theorem xp_top (k : Nat) (hP : P k < n) (h1 : m k (P k) = 1) (h0 : ∀ j, j < k → m j (P k) = 0) (l : List Bool) (hl : l.length = n) : xc (xu (P k)) (xp m (k + 1)) l = xp m k l := by
  simp only [xp]
  rw [xc_u l _ _ _ (by omega), h1, show xc (xu (P k)) (xp m k) = fun _ => 0 from funext fun l => xc_u0 k h0 l, xw_zero]
  grind
/-- down to the first j -/
theorem xp_down (j : Nat) : ∀ (i : Nat), (∀ a, j ≤ a → a < j + i → P a < n ∧ m a (P a) = 1 ∧ ∀ b, b < a → m b (P a) = 0) → ∃ T, xT n T ∧ ∀ l, l.length = n → T (xp m (j + i)) l = xp m j l := by
  intro i
  induction i with
  | zero => intro _; exact ⟨_, xT.id n, fun l _ => rfl⟩
  | succ i ih =>
    intro h
    obtain ⟨T, hT, hl⟩ := ih fun a h1 h2 => h a h1 (by omega)
    obtain ⟨g1, g2, g3⟩ := h (j + i) (by omega) (by omega)
    have hS := (xT.id n).step g1
    refine ⟨fun w => T (xc (xu (P (j + i))) w), ⟨fun w v q l hll => hT.1 _ _ (fun k hk => hS.1 w v q k hk) l hll, fun w q l => ?_, fun w q k => hT.2.2.1 _ (hS.2.2.1 w q) k, fun w => Rat.le_trans (hT.2.2.2 _) (hS.2.2.2 w)⟩, fun l hll => ?_⟩
    · show T (xc (xu (P (j + i))) fun k => q * w k) l = _
      rw [show xc (xu (P (j + i))) (fun k => q * w k) = fun k => q * xc (xu (P (j + i))) w k from funext fun k => hS.2.1 w q k, hT.2.1]
    · rw [← hl l hll]
      exact hT.1 _ _ (fun k hk => xp_top (j + i) g1 g2 g3 k hk) l hll
theorem xp_full (k : Nat) (h : ∀ a, a < k → P a < n ∧ ∀ b, b < k → m b (P a) = if b = a then 1 else 0) : ∃ T, xT n T ∧ ∀ l, l.length = n → T (xp m k) l = xe l := by
  obtain ⟨T, h1, h2⟩ := xp_down (n := n) (m := m) (P := P) 0 k fun a _ ha => ⟨(h a (by omega)).1, by rw [(h a (by omega)).2 a (by omega), if_pos rfl], fun b hb => by rw [(h a (by omega)).2 b (by omega), if_neg (by omega)]⟩
  rw [Nat.zero_add] at h2
  exact ⟨T, h1, h2⟩
/-- one vector alone -/
theorem xp_one (k j : Nat) (hj : j < k) (h : ∀ a, a < k → P a < n ∧ ∀ b, b < k → m b (P a) = if b = a then 1 else 0) : ∃ (T : xF → xF) (s : Rat), xT n T ∧ (s = 1 ∨ s = -1) ∧ ∀ l, l.length = n → T (xp m k) l = s * xw (m j) xe l := by
  have step : ∀ i, i ≤ j → ∃ (T : xF → xF) (s : Rat), xT n T ∧ (s = 1 ∨ s = -1) ∧ ∀ l, l.length = n → T (xp m k) l = s * xw (m j) (xp m (j - i)) l := by
    intro i
    induction i with
    | zero =>
      intro _
      obtain ⟨T, h1, h2⟩ := xp_down (n := n) (m := m) (P := P) (j + 1) (k - (j + 1)) fun a _ ha => ⟨(h a (by omega)).1, by rw [(h a (by omega)).2 a (by omega), if_pos rfl], fun b hb => by rw [(h a (by omega)).2 b (by omega), if_neg (by omega)]⟩
      rw [show j + 1 + (k - (j + 1)) = k by omega] at h2
      exact ⟨T, 1, h1, Or.inl rfl, fun l hl => by rw [h2 l hl]; simp only [Nat.sub_zero, xp]; grind⟩
    | succ i ih =>
      intro hi
      obtain ⟨T, s, h1, h2, h3⟩ := ih (by omega)
      obtain ⟨q, hq⟩ : ∃ q, j - i = q + 1 := ⟨j - i - 1, by omega⟩
      have hq2 : j - (i + 1) = q := by omega
      obtain ⟨g1, g2⟩ := h q (by omega)
      refine ⟨_, -s, h1.step g1, by grind, fun l hl => ?_⟩
      have e1 : ∀ l, l.length = n → xc (xu (P q)) (T (xp m k)) l = xc (xu (P q)) (fun l => s * xw (m j) (xp m (q + 1)) l + 0 * xe l) l := fun l hl => xc_congr l _ _ _ fun v hv => by rw [h3 v (by omega), hq]; grind
      show xc (xu (P q)) (T (xp m k)) l = _
      rw [e1 l hl, xc_lin, xc_u l _ _ _ (by omega), g2 j (by omega), if_neg (by omega), hq2, xw_congr l (m j) (xc (xu (P q)) (xp m (q + 1))) (xp m q) fun v hv => xp_top q g1 (by rw [g2 q (by omega), if_pos rfl]) (fun b hb => by rw [g2 b (by omega), if_neg (by omega)]) v (by omega)]
      grind
  obtain ⟨T, s, h1, h2, h3⟩ := step j (Nat.le_refl _)
  exact ⟨T, s, h1, h2, fun l hl => by rw [h3 l hl, Nat.sub_self]; rfl⟩
end EXTRACT
def xsing (n c : Nat) : List Bool := List.replicate c false ++ true :: List.replicate (n - 1 - c) false
theorem xsing_len {n c : Nat} (h : c < n) : (xsing n c).length = n := by simp [xsing]; omega
theorem xw_sing (r : Nat) : ∀ (c : Nat) (a : xV), xw a xe (List.replicate c false ++ true :: List.replicate r false) = a c := by
  have hr : xe (false :: List.replicate r false) = 1 := by simp [xe]
  intro c
  induction c with
  | zero =>
    intro a
    simp only [List.replicate_zero, List.nil_append, xw]
    rw [hr, show x1 xe = fun _ => 0 from funext fun l => by simp [x1, xe], xw_zero]; grind
  | succ c ih =>
    intro a
    simp only [List.replicate_succ, List.cons_append, xw]
    rw [show x0 xe = xe from funext fun l => by simp [x0, xe], ih]; rfl
theorem xip_coord : ∀ (n : Nat) (w : xF) (l : List Bool), l.length = n → w l * w l ≤ xip n w w := by
  intro n
  induction n with
  | zero => intro w l hl; rw [List.length_eq_zero_iff.mp hl]; exact Rat.le_refl
  | succ n ih =>
    intro w l hl
    simp only [xip]
    have g0 := xip_nn n (x0 w)
    have g1 := xip_nn n (x1 w)
    match l, hl with
    | false :: l, hl => have := ih (x0 w) l (by simpa using hl); simp only [x0] at this g0 ⊢; grind
    | true :: l, hl => have := ih (x1 w) l (by simpa using hl); simp only [x1] at this g1 ⊢; grind
theorem xdot_nn : ∀ (n : Nat) (a : xV), 0 ≤ xdot n a a := by
  intro n
  induction n with
  | zero => intro a; exact Rat.le_refl
  | succ n ih =>
    intro a
    simp only [xdot]
    refine Rat.add_nonneg ?_ (ih _)
    rcases (Rat.le_total : (0 : Rat) ≤ a 0 ∨ a 0 ≤ 0) with h | h
    · exact Rat.mul_nonneg h h
    · have := Rat.mul_nonneg (a := - a 0) (b := - a 0) (by grind) (by grind); grind
theorem xp_bound {n : Nat} {M : Nat → xV} {C : Rat} : ∀ (k : Nat), (∀ j, j < k → xdot n (M j) (M j) ≤ C) → xip n (xp M k) (xp M k) ≤ C ^ k := by
  intro k
  induction k with
  | zero => intro _; simp only [xp, xip_xe, Rat.pow_zero]; exact Rat.le_refl
  | succ k ih =>
    intro h
    have h1 := ih fun j hj => h j (by omega)
    have h2 := xnorm_w n (M k) (xp M k)
    have h3 := xdot_nn n (M k)
    have h4 := h k (by omega)
    have h5 := xip_nn n (xp M k)
    simp only [xp, Rat.pow_succ]
    have h6 : xdot n (M k) (M k) * xip n (xp M k) (xp M k) ≤ C * xip n (xp M k) (xp M k) := Rat.mul_le_mul_of_nonneg_right h4 h5
    have h7 : C * xip n (xp M k) (xp M k) ≤ C * C ^ k := Rat.mul_le_mul_of_nonneg_left h1 (by grind)
    grind
/-- rows in reduced form over what was used: their pivots, the divisor -/
def gj (n w : Nat) (C : Rat) (k : Nat) (R : Nat → xV) (P : Nat → Nat) (d : Rat) (M : Nat → xV) : Prop :=
  (∀ a, a < k → P a < w ∧ ∀ b, b < k → R b (P a) = if b = a then 1 else 0) ∧ d ≠ 0 ∧ (∀ l, l.length = n → xp M k l = d * xp R k l) ∧ (∀ j, j < k → (∀ i, isZ (M j i)) ∧ xdot n (M j) (M j) ≤ C)
theorem gj.nil (n w : Nat) (C : Rat) (R : Nat → xV) (P : Nat → Nat) (M : Nat → xV) : gj n w C 0 R P 1 M := ⟨fun a h => absurd h (Nat.not_lt_zero a), by decide, fun l _ => by simp only [xp]; grind, fun a h => absurd h (Nat.not_lt_zero a)⟩
theorem gj.cell {n w : Nat} {C : Rat} {k : Nat} {R : Nat → xV} {P : Nat → Nat} {d : Rat} {M : Nat → xV} (h : gj n w C k R P d M) (hw : w ≤ n) {j c : Nat} (hj : j < k) (hc : c < n) : isZ (d * R j c) ∧ (d * R j c) * (d * R j c) ≤ C ^ k := by
  obtain ⟨h1, h2, h3, h4⟩ := h
  obtain ⟨T, s, g1, g2, g3⟩ := xp_one (n := n) k j hj fun a ha => ⟨by have := (h1 a ha).1; omega, (h1 a ha).2⟩
  have e : T (xp M k) (xsing n c) = s * (d * R j c) := by
    rw [g1.1 (xp M k) (fun l => d * xp R k l) h3 _ (xsing_len hc), g1.2.1, g3 _ (xsing_len hc), xsing, xw_sing]; grind
  have z := g1.2.2.1 _ (isZ.xp k fun j hj => (h4 j hj).1) (xsing n c)
  have b := Rat.le_trans (xip_coord n _ _ (xsing_len hc)) (Rat.le_trans (g1.2.2.2 _) (xp_bound k fun j hj => (h4 j hj).2))
  rw [e] at z b
  rcases g2 with rfl | rfl
  · exact ⟨by rwa [Rat.one_mul] at z, by grind⟩
  · exact ⟨by have := z.neg; rwa [show -(-1 * (d * R j c)) = d * R j c by grind] at this, by grind⟩
theorem gj.div {n w : Nat} {C : Rat} {k : Nat} {R : Nat → xV} {P : Nat → Nat} {d : Rat} {M : Nat → xV} (h : gj n w C k R P d M) (hw : w ≤ n) : isZ d ∧ d * d ≤ C ^ k := by
  obtain ⟨h1, h2, h3, h4⟩ := h
  obtain ⟨T, g1, g3⟩ := xp_full (n := n) k fun a ha => ⟨by have := (h1 a ha).1; omega, (h1 a ha).2⟩
  have hl : (List.replicate n false).length = n := by simp
  have e : T (xp M k) (List.replicate n false) = d := by
    rw [g1.1 (xp M k) (fun l => d * xp R k l) h3 _ hl, g1.2.1, g3 _ hl]
    have : xe (List.replicate n false) = 1 := by simp [xe]
    rw [this]; grind
  have z := g1.2.2.1 _ (isZ.xp k fun j hj => (h4 j hj).1) (List.replicate n false)
  have b := Rat.le_trans (xip_coord n _ _ hl) (Rat.le_trans (g1.2.2.2 _) (xp_bound k fun j hj => (h4 j hj).2))
  rw [e] at z b
  exact ⟨z, b⟩
/-- what is left of a vector by the rows -/
def xred (R : Nat → xV) (P : Nat → Nat) (v : xV) : Nat → xV
  | 0 => v
  | k + 1 => fun i => xred R P v k i - v (P k) * R k i
theorem xred_mem {R : Nat → xV} {P : Nat → Nat} {v : xV} {m : Nat} : ∀ (k : Nat), k ≤ m → ∀ l, xw (xred R P v k) (xp R m) l = xw v (xp R m) l := by
  intro k
  induction k with
  | zero => intro _ l; rfl
  | succ k ih =>
    intro h l
    have e : xred R P v (k + 1) = fun i => 1 * xred R P v k i + (- v (P k)) * R k i := funext fun i => by simp only [xred]; grind
    rw [e, xw_vec, ih (by omega), xp_in m k (by omega)]; grind
theorem xred_piv {R : Nat → xV} {P : Nat → Nat} {v : xV} {m a : Nat} (h : ∀ a, a < m → ∀ b, b < m → R b (P a) = if b = a then 1 else 0) (ha : a < m) : ∀ (k : Nat), k ≤ m → xred R P v k (P a) = if a < k then 0 else v (P a) := by
  intro k
  induction k with
  | zero => intro _; simp [xred]
  | succ k ih =>
    intro hk
    simp only [xred]
    rw [ih (by omega), h a ha k (by omega)]
    by_cases q : k = a
    · subst q; simp; grind
    · rw [if_neg q]
      by_cases g : a < k
      · rw [if_pos g, if_pos (by omega)]; grind
      · rw [if_neg g, if_neg (by omega)]; grind
/-- one more vector, led by q -/
def gjR (k : Nat) (R : Nat → xV) (x : xV) (q : Nat) : Nat → xV := fun j => if j < k then fun i => R j i - R j q * (x i / x q) else fun i => x i / x q
theorem gj.step {n w : Nat} {C : Rat} {k : Nat} {R : Nat → xV} {P : Nat → Nat} {d : Rat} {M : Nat → xV} (h : gj n w C k R P d M) {v : xV} {q : Nat} (hv : ∀ i, isZ (v i)) (hC : xdot n v v ≤ C) (hq : q < w) (h0 : xred R P v k q ≠ 0)
    {P' : Nat → Nat} {M' : Nat → xV} (hP : ∀ j, P' j = if j = k then q else P j) (hM : ∀ j, j < k → M' j = M j) (hMk : M' k = v) : gj n w C (k + 1) (gjR k R (xred R P v k) q) P' (d * xred R P v k q) M' := by
  obtain ⟨h1, h2, h3, h4⟩ := h
  generalize hx : xred R P v k = x at *
  have xP : ∀ a, a < k → x (P a) = 0 := fun a ha => by rw [← hx, xred_piv (fun a ha => (h1 a ha).2) ha k (Nat.le_refl _), if_pos ha]
  have ek : gjR k R x q k = fun i => (1 / x q) * x i + 0 * x i := funext fun i => by simp only [gjR, if_neg (Nat.lt_irrefl k)]; grind
  refine ⟨fun a ha => ?_, by intro e; rcases Rat.mul_eq_zero.mp e with e | e <;> contradiction, fun l hl => ?_, fun j hj => ?_⟩
  · rw [hP]
    by_cases hak : a = k
    · subst hak
      rw [if_pos rfl]
      refine ⟨hq, fun b hb => ?_⟩
      unfold gjR
      by_cases hbk : b < a
      · rw [if_pos hbk, if_neg (by omega)]
        show R b q - R b q * (x q / x q) = 0
        grind
      · rw [if_neg hbk, if_pos (by omega)]
        show x q / x q = 1
        grind
    · rw [if_neg hak]
      obtain ⟨g1, g2⟩ := h1 a (by omega)
      refine ⟨g1, fun b hb => ?_⟩
      unfold gjR
      by_cases hbk : b < k
      · rw [if_pos hbk]
        show R b (P a) - R b q * (x (P a) / x q) = _
        rw [xP a (by omega), g2 b hbk]; grind
      · rw [if_neg hbk, if_neg (by omega)]
        show x (P a) / x q = 0
        rw [xP a (by omega)]; grind
  · have e1 : xp M' k = xp M k := xp_congr k fun j hj => hM j hj
    have e2 : ∀ l, xw (gjR k R x q k) (xp (gjR k R x q) k) l = xw (gjR k R x q k) (xp R k) l := xp_turn k fun j hj => ⟨- R j q, by
      have : gjR k R x q k = fun i => x i / x q := by unfold gjR; rw [if_neg (Nat.lt_irrefl k)]
      rw [this]; unfold gjR; rw [if_pos hj]; funext i; grind⟩
    have e3 : ∀ l, xw x (xp R k) l = xw v (xp R k) l := fun l => by rw [← hx]; exact xred_mem k (Nat.le_refl _) l
    simp only [xp]
    rw [e1, hMk, e2, ek, xw_vec, e3, xw_congr l v (xp M k) (fun l => d * xp R k l + 0 * xe l) fun u hu => by rw [h3 u (by omega)]; grind, xw_lin _ _ v]
    grind
  · by_cases hjk : j = k
    · subst hjk; rw [hMk]; exact ⟨hv, hC⟩
    · rw [hM j (by omega)]; exact h4 j (by omega)
