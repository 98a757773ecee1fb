/-! Siegel's lemma by pigeonholes -/
set_option maxRecDepth 100000
set_option linter.unusedVariables false
theorem pigeon : ∀ (Q P : Nat) (f : Nat → Nat), Q < P → (∀ i, i < P → f i < Q) → ∃ i j, i < j ∧ j < P ∧ f i = f j := by
  intro Q
  induction Q with
  | zero => intro P f h1 h2; exact absurd (h2 0 (by omega)) (Nat.not_lt_zero _)
  | succ Q ih =>
    intro P f h1 h2
    obtain ⟨p, rfl⟩ : ∃ p, P = p + 1 := ⟨P - 1, by omega⟩
    by_cases hx : ∃ i, i < p ∧ f i = f p
    · obtain ⟨i, h3, h4⟩ := hx; exact ⟨i, p, h3, by omega, h4⟩
    · have hne : ∀ i, i < p → f i ≠ f p := fun i hi e => hx ⟨i, hi, e⟩
      obtain ⟨i, j, h3, h4, h5⟩ := ih p (fun i => if f i = Q then f p else f i) (by omega) fun i hi => by
        have a1 := h2 i (by omega)
        have a2 := h2 p (by omega)
        have a3 := hne i hi
        show (if f i = Q then f p else f i) < Q
        split <;> omega
      have a1 := hne i (by omega)
      have a2 := hne j h4
      refine ⟨i, j, h3, by omega, ?_⟩
      have h6 : (if f i = Q then f p else f i) = (if f j = Q then f p else f j) := h5
      split at h6 <;> split at h6 <;> omega
/-- digits to a base -/
def bdg (b t : Nat) : Nat → Nat
  | 0 => t % b
  | k + 1 => bdg b (t / b) k
theorem bdg_lt {b : Nat} (hb : 0 < b) : ∀ (k t : Nat), bdg b t k < b := by
  intro k
  induction k with
  | zero => intro t; exact Nat.mod_lt _ hb
  | succ k ih => intro t; exact ih _
theorem bdg_inj {b : Nat} (hb : 0 < b) : ∀ (N t u : Nat), t < b ^ N → u < b ^ N → (∀ k, k < N → bdg b t k = bdg b u k) → t = u := by
  intro N
  induction N with
  | zero => intro t u ht hu _; simp at ht hu; omega
  | succ N ih =>
    intro t u ht hu h
    have h0 : t % b = u % b := h 0 (by omega)
    have h1 : t / b = u / b := ih _ _ (Nat.div_lt_of_lt_mul (by rw [Nat.mul_comm, ← Nat.pow_succ]; exact ht)) (Nat.div_lt_of_lt_mul (by rw [Nat.mul_comm, ← Nat.pow_succ]; exact hu)) fun k hk => h (k + 1) (by omega)
    rw [← Nat.div_add_mod t b, ← Nat.div_add_mod u b, h0, h1]
def benc (b : Nat) (y : Nat → Nat) : Nat → Nat
  | 0 => 0
  | n + 1 => benc b (fun k => y (k + 1)) n * b + y 0
theorem benc_lt {b : Nat} : ∀ (n : Nat) (y : Nat → Nat), (∀ k, k < n → y k < b) → benc b y n < b ^ n := by
  intro n
  induction n with
  | zero => intro y _; simp [benc]
  | succ n ih =>
    intro y h
    have h1 := ih (fun k => y (k + 1)) fun k hk => h (k + 1) (by omega)
    have h2 := h 0 (by omega)
    simp only [benc, Nat.pow_succ]
    have h3 : (benc b (fun k => y (k + 1)) n + 1) * b ≤ b ^ n * b := Nat.mul_le_mul_right b h1
    rw [Nat.add_mul] at h3; omega
theorem benc_inj {b : Nat} (hb : 0 < b) : ∀ (n : Nat) (y z : Nat → Nat), (∀ k, k < n → y k < b) → (∀ k, k < n → z k < b) → benc b y n = benc b z n → ∀ k, k < n → y k = z k := by
  intro n
  induction n with
  | zero => intro y z _ _ _ k hk; omega
  | succ n ih =>
    intro y z hy hz h k hk
    simp only [benc] at h
    have a1 := hy 0 (by omega)
    have a2 := hz 0 (by omega)
    have e0 : y 0 = z 0 := by
      have := congrArg (· % b) h
      simp only [Nat.mul_add_mod_self_right] at this
      rwa [Nat.mod_eq_of_lt a1, Nat.mod_eq_of_lt a2] at this
    have e1 : benc b (fun k => y (k + 1)) n = benc b (fun k => z (k + 1)) n := by
      rw [e0] at h
      exact Nat.eq_of_mul_eq_mul_right hb (Nat.add_right_cancel h)
    cases k with
    | zero => exact e0
    | succ k => exact ih _ _ (fun k hk => hy (k + 1) (by omega)) (fun k hk => hz (k + 1) (by omega)) e1 k (by omega)
def zsum (a x : Nat → Int) : Nat → Int
  | 0 => 0
  | n + 1 => zsum a x n + a n * x n
theorem zsum_abs {a x : Nat → Int} {A H : Int} (hA : 0 ≤ A) (hH : 0 ≤ H) : ∀ (n : Nat), (∀ k, k < n → -A ≤ a k ∧ a k ≤ A) → (∀ k, k < n → -H ≤ x k ∧ x k ≤ H) → -(n * (A * H)) ≤ zsum a x n ∧ zsum a x n ≤ n * (A * H) := by
  intro n
  induction n with
  | zero => intro _ _; simp [zsum]
  | succ n ih =>
    intro ha hx
    obtain ⟨i1, i2⟩ := ih (fun k hk => ha k (by omega)) fun k hk => hx k (by omega)
    obtain ⟨a1, a2⟩ := ha n (by omega)
    obtain ⟨x1, x2⟩ := hx n (by omega)
    have hm : (a n * x n).natAbs ≤ (A * H).natAbs := by
      rw [Int.natAbs_mul, Int.natAbs_mul]
      exact Nat.mul_le_mul (by omega) (by omega)
    have hp : 0 ≤ A * H := Int.mul_nonneg hA hH
    generalize hq : a n * x n = q at hm
    generalize A * H = p at *
    simp only [zsum, hq]
    have e : ((n + 1 : Nat) : Int) * p = n * p + p := by rw [Int.natCast_add, Int.add_mul]; simp
    rw [e]; omega
theorem zsum_sub (a x y : Nat → Int) : ∀ n, zsum a (fun k => x k - y k) n = zsum a x n - zsum a y n := by
  intro n
  induction n with
  | zero => rfl
  | succ n ih => simp only [zsum]; rw [ih, Int.mul_sub]; omega
/-- more unknowns than equations: a small solution -/
theorem siegel {M A : Nat} (hA : 1 ≤ A) (a : Nat → Nat → Int) (ha : ∀ e j, e < M → j < M + 1 → -(A : Int) ≤ a e j ∧ a e j ≤ A) : ∃ x : Nat → Int, (∃ j, j < M + 1 ∧ x j ≠ 0) ∧ (∀ j, j < M + 1 → -(((2 * (M + 1) * A) ^ M : Nat) : Int) ≤ x j ∧ x j ≤ ((2 * (M + 1) * A) ^ M : Nat)) ∧ ∀ e, e < M → zsum (a e) x (M + 1) = 0 := by
  generalize hH : (2 * (M + 1) * A) ^ M = H
  generalize hL : (M + 1) * (A * H) = L
  have hv : ∀ (t k : Nat), (0 : Int) ≤ (bdg (H + 1) t k : Nat) ∧ ((bdg (H + 1) t k : Nat) : Int) ≤ H := fun t k => by
    have := bdg_lt (b := H + 1) (by omega) k t
    omega
  let y : Nat → Nat → Nat := fun t e => (zsum (a e) (fun k => (bdg (H + 1) t k : Nat)) (M + 1) + L).toNat
  have hy : ∀ t e, e < M → y t e < 2 * L + 1 ∧ ((y t e : Nat) : Int) = zsum (a e) (fun k => (bdg (H + 1) t k : Nat)) (M + 1) + L := fun t e he => by
    have h := zsum_abs (a := a e) (x := fun k => ((bdg (H + 1) t k : Nat) : Int)) (A := A) (H := H) (by omega) (by omega) (M + 1) (fun k hk => ha e k he hk) fun k hk => ⟨by have := hv t k; omega, (hv t k).2⟩
    have e1 : ((M + 1 : Nat) : Int) * ((A : Int) * (H : Int)) = (L : Nat) := by rw [← hL]; simp
    rw [e1] at h
    show (zsum _ _ _ + (L : Int)).toNat < _ ∧ _
    refine ⟨by omega, Int.toNat_of_nonneg (by omega)⟩
  have hcount : (2 * L + 1) ^ M < (H + 1) ^ (M + 1) := by
    have h1 : 2 * L + 1 ≤ (2 * (M + 1) * A) * (H + 1) := by
      have h2 : 2 * L = (2 * (M + 1) * A) * H := by rw [← hL]; simp only [Nat.mul_assoc]
      have h3 : 1 ≤ 2 * (M + 1) * A := Nat.le_trans (by omega) (Nat.le_mul_of_pos_right _ hA)
      rw [h2]
      generalize 2 * (M + 1) * A = w at h3
      rw [Nat.mul_add]; omega
    have h2 := Nat.pow_le_pow_left h1 M
    rw [Nat.mul_pow, hH] at h2
    have h3 : H * (H + 1) ^ M < (H + 1) * (H + 1) ^ M := Nat.mul_lt_mul_of_pos_right (by omega) (Nat.pow_pos (by omega))
    rw [Nat.pow_succ, Nat.mul_comm ((H + 1) ^ M)]; omega
  obtain ⟨t, u, h1, h2, h3⟩ := pigeon ((2 * L + 1) ^ M) ((H + 1) ^ (M + 1)) (fun t => benc (2 * L + 1) (y t) M) hcount fun t _ => benc_lt M _ fun e he => (hy t e he).1
  have h4 := benc_inj (by omega) M (y t) (y u) (fun e he => (hy t e he).1) (fun e he => (hy u e he).1) h3
  refine ⟨fun k => ((bdg (H + 1) t k : Nat) : Int) - (bdg (H + 1) u k : Nat), ?_, fun j _ => ?_, fun e he => ?_⟩
  · rcases Classical.em (∃ j, j < M + 1 ∧ ((bdg (H + 1) t j : Nat) : Int) - (bdg (H + 1) u j : Nat) ≠ 0) with q | q
    · exact q
    · exfalso
      have := bdg_inj (b := H + 1) (by omega) (M + 1) t u (by omega) h2 fun k hk => by
        rcases Classical.em (((bdg (H + 1) t k : Nat) : Int) - (bdg (H + 1) u k : Nat) = 0) with g | g
        · omega
        · exact absurd ⟨k, hk, g⟩ q
      omega
  · have a1 := hv t j
    have a2 := hv u j
    show -(H : Int) ≤ _ - _ ∧ _ - _ ≤ (H : Int)
    omega
  · rw [zsum_sub]
    have e1 := (hy t e he).2
    have e2 := (hy u e he).2
    have e3 := h4 e he
    rw [e3] at e1
    omega
