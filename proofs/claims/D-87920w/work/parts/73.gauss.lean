/-! Gauss: a primitive divisor divides within the whole numbers -/
set_option maxRecDepth 100000
set_option linter.unusedVariables false
def prm (r : Nat) : Prop := 1 < r ∧ ∀ x y : Int, (r : Int) ∣ x * y → (r : Int) ∣ x ∨ (r : Int) ∣ y
theorem prm_ex : ∀ (D : Nat), 1 < D → ∃ r, prm r ∧ r ∣ D := by
  intro D
  induction D using Nat.strongRecOn with
  | ind D ih =>
    intro hD
    rcases Classical.em (∃ d, 1 < d ∧ d < D ∧ d ∣ D) with ⟨d, h1, h2, h3⟩ | hn
    · obtain ⟨r, g1, g2⟩ := ih d h2 h1
      exact ⟨r, g1, Nat.dvd_trans g2 h3⟩
    · refine ⟨D, ⟨hD, fun x y h => ?_⟩, Nat.dvd_refl D⟩
      have h1 : D ∣ x.natAbs * y.natAbs := by rw [← Int.natAbs_mul]; exact Int.ofNat_dvd_left.mp h
      have hg1 : Nat.gcd D x.natAbs ∣ D := Nat.gcd_dvd_left _ _
      have hg2 : Nat.gcd D x.natAbs ∣ x.natAbs := Nat.gcd_dvd_right _ _
      have hg0 : 0 < Nat.gcd D x.natAbs := Nat.gcd_pos_of_pos_left _ (by omega)
      have hgl : Nat.gcd D x.natAbs ≤ D := Nat.le_of_dvd (by omega) hg1
      rcases Nat.lt_or_ge 1 (Nat.gcd D x.natAbs) with q | q
      · rcases Nat.lt_or_ge (Nat.gcd D x.natAbs) D with q2 | q2
        · exact absurd ⟨_, q, q2, hg1⟩ hn
        · left
          rw [Nat.le_antisymm hgl q2] at hg2
          exact Int.ofNat_dvd_left.mpr hg2
      · right
        have : Nat.Coprime D x.natAbs := by unfold Nat.Coprime; omega
        exact Int.ofNat_dvd_left.mpr (this.dvd_of_dvd_mul_left h1)
/-- the product's numbers -/
def zcv (g : Nat → Int) (a : Nat → Int) : Nat → Nat → Int
  | 0 => fun _ => 0
  | n + 1 => fun k => zcv g a n k + if k < n then 0 else g n * a (k - n)
theorem zcv_mod {g a : Nat → Int} {r : Int} {i j : Nat} (hg : ∀ t, t < i → r ∣ g t) (ha : ∀ t, t < j → r ∣ a t) : ∀ n, r ∣ zcv g a n (i + j) - (if i < n then g i * a j else 0) := by
  intro n
  induction n with
  | zero => simp [zcv]
  | succ n ih =>
    simp only [zcv]
    rcases Nat.lt_trichotomy n i with h | h | h
    · rw [if_neg (by omega)] at ih
      rw [if_neg (show ¬ i + j < n by omega), if_neg (show ¬ i < n + 1 by omega)]
      have h1 : r ∣ g n * a (i + j - n) := Int.dvd_trans (hg n h) (Int.dvd_mul_right _ _)
      have h2 := Int.dvd_add ih h1
      rwa [show zcv g a n (i + j) - 0 + g n * a (i + j - n) = zcv g a n (i + j) + g n * a (i + j - n) - 0 by omega] at h2
    · subst h
      rw [if_neg (Nat.lt_irrefl _)] at ih
      rw [if_neg (show ¬ n + j < n by omega), if_pos (by omega), show n + j - n = j by omega]
      rwa [show zcv g a n (n + j) + g n * a j - g n * a j = zcv g a n (n + j) - 0 by omega]
    · rw [if_pos h] at ih
      rw [if_pos (show i < n + 1 by omega)]
      by_cases h3 : i + j < n
      · rw [if_pos h3]
        rwa [show zcv g a n (i + j) + 0 - g i * a j = zcv g a n (i + j) - g i * a j by omega]
      · rw [if_neg h3]
        have h1 : r ∣ g n * a (i + j - n) := Int.dvd_trans (ha (i + j - n) (by omega)) (Int.dvd_mul_left _ _)
        have h2 := Int.dvd_add ih h1
        rwa [show zcv g a n (i + j) - g i * a j + g n * a (i + j - n) = zcv g a n (i + j) + g n * a (i + j - n) - g i * a j by omega] at h2
theorem zcv_prm {g a : Nat → Int} {n r : Nat} (hr : prm r) (h : ∀ k, (r : Int) ∣ zcv g a n k) (hg : ∃ i, i < n ∧ ¬ (r : Int) ∣ g i) : ∀ j, (r : Int) ∣ a j := by
  obtain ⟨i0, h1, h2⟩ := hg
  have hmin : ∃ i, (i < n ∧ ¬ (r : Int) ∣ g i) ∧ ∀ t, t < i → (r : Int) ∣ g t := by
    revert h1 h2
    induction i0 using Nat.strongRecOn with
    | ind i0 ih =>
      intro h1 h2
      rcases Classical.em (∃ t, t < i0 ∧ ¬ (r : Int) ∣ g t) with ⟨t, g1, g2⟩ | q
      · exact ih t g1 (by omega) g2
      · exact ⟨i0, ⟨h1, h2⟩, fun t ht => Classical.byContradiction fun e => q ⟨t, ht, e⟩⟩
  obtain ⟨i, ⟨h3, h4⟩, h5⟩ := hmin
  intro j
  induction j using Nat.strongRecOn with
  | ind j ih =>
    have h6 := zcv_mod (n := n) h5 (a := a) (j := j) fun t ht => ih t ht
    rw [if_pos h3] at h6
    have h7 := Int.dvd_sub (h (i + j)) h6
    rw [show zcv g a n (i + j) - (zcv g a n (i + j) - g i * a j) = g i * a j by omega] at h7
    rcases hr.2 _ _ h7 with h8 | h8
    · exact absurd h8 h4
    · exact h8
theorem zcv_smul (g a : Nat → Int) (r : Int) : ∀ n k, zcv g (fun t => r * a t) n k = r * zcv g a n k := by
  intro n
  induction n with
  | zero => intro k; simp [zcv]
  | succ n ih =>
    intro k
    simp only [zcv]
    rw [ih]
    split
    · simp
    · rw [Int.mul_add, Int.mul_left_comm]
def zprim (g : Nat → Int) (n : Nat) : Prop := ∀ r : Nat, 1 < r → ∃ i, i < n ∧ ¬ (r : Int) ∣ g i
theorem gauss {g : Nat → Int} {n : Nat} (hp : zprim g n) : ∀ (D : Nat), 0 < D → ∀ (a : Nat → Int), (∀ k, (D : Int) ∣ zcv g a n k) → ∀ j, (D : Int) ∣ a j := by
  intro D
  induction D using Nat.strongRecOn with
  | ind D ih =>
    intro hD a h j
    rcases Nat.lt_or_ge 1 D with h1 | h1
    · obtain ⟨r, hr, D', rfl⟩ := prm_ex D h1
      have hr1 := hr.1
      have h2 : ∀ j, (r : Int) ∣ a j := zcv_prm hr (fun k => Int.dvd_trans ⟨(D' : Int), by simp⟩ (h k)) (hp r hr.1)
      have h3 : a = fun t => (r : Int) * (a t / r) := funext fun t => (Int.mul_ediv_cancel' (h2 t)).symm
      have hD' : 0 < D' := Nat.pos_of_ne_zero fun e => by rw [e] at hD; simp at hD
      have h4 := ih D' (by have := Nat.mul_lt_mul_of_pos_left hr1 hD'; rw [Nat.mul_comm r D']; omega) hD' (fun t => a t / r) (fun k => by
        have h5 := h k
        rw [h3, zcv_smul, Int.natCast_mul] at h5
        exact Int.dvd_of_mul_dvd_mul_left (by omega) h5) j
      rw [h3, Int.natCast_mul]
      exact Int.mul_dvd_mul_left _ h4
    · rw [show D = 1 by omega]; exact ⟨a j, by simp⟩
/-- the same numbers as fractions -/
abbrev zq (c : Nat → Int) : Nat → Rat := fun k => (c k : Rat)
theorem zcv_ps (g a : Nat → Int) (m : Nat) (ha : ∀ k, m ≤ k → a k = 0) (x : Rat) : ∀ n, ps (zq (zcv g a n)) (n + m) x = ps (zq g) n x * ps (zq a) m x := by
  intro n
  induction n with
  | zero => rw [show zq (zcv g a 0) = fun _ => 0 from rfl, ps_zero]; simp only [ps]; grind
  | succ n ih =>
    have e : zq (zcv g a (n + 1)) = fun k => 1 * zq (zcv g a n) k + (g n : Rat) * psh n (zq a) k := funext fun k => by
      show ((zcv g a n k + if k < n then 0 else g n * a (k - n) : Int) : Rat) = 1 * ((zcv g a n k : Int) : Rat) + (g n : Rat) * (if k < n then 0 else (a (k - n) : Rat))
      rw [Rat.intCast_add]
      split
      · simp
      · rw [Rat.intCast_mul]; grind
    have e1 : ps (zq (zcv g a n)) (n + 1 + m) x = ps (zq (zcv g a n)) (n + m) x := by
      rw [show n + 1 + m = (n + m) + 1 by omega]
      refine ps_ext 1 (fun k h1 h2 => ?_) x
      have : k = n + m := by omega
      subst this
      have h3 : ∀ i, i ≤ n → zcv g a i (n + m) = 0 := by
        intro i
        induction i with
        | zero => intro _; rfl
        | succ i ih2 => intro hi; simp only [zcv]; rw [ih2 (by omega), if_neg (by omega), ha _ (by omega)]; simp
      show ((zcv g a n (n + m) : Int) : Rat) = 0
      rw [h3 n (Nat.le_refl _)]; rfl
    have e2 : ps (psh n (zq a)) (n + 1 + m) x = x ^ n * ps (zq a) m x := by
      rw [show n + 1 + m = n + (m + 1) by omega, ps_shift, ps_ext (n := m) 1 (fun k h1 h2 => by show ((a k : Int) : Rat) = 0; rw [ha k h1]; rfl)]
    rw [e, ps_lin, e1, e2, ih]
    simp only [ps]; grind
/-- a common denominator -/
theorem rden (q : Nat → Rat) : ∀ m, ∃ (D : Nat) (z : Nat → Int), 0 < D ∧ ∀ k, k < m → (D : Rat) * q k = (z k : Rat) := by
  intro m
  induction m with
  | zero => exact ⟨1, fun _ => 0, by omega, fun k hk => by omega⟩
  | succ m ih =>
    obtain ⟨D, z, h1, h2⟩ := ih
    have hd := (q m).den_nz
    refine ⟨D * (q m).den, fun k => if k = m then D * (q m).num else (q m).den * z k, Nat.mul_pos h1 (Nat.pos_of_ne_zero hd), fun k hk => ?_⟩
    have e0 : (((D * (q m).den : Nat) : Int) : Rat) = (D : Rat) * ((q m).den : Rat) := by rw [Int.natCast_mul, Rat.intCast_mul]; rfl
    have e0' : ((D * (q m).den : Nat) : Rat) = (D : Rat) * ((q m).den : Rat) := e0
    by_cases hkm : k = m
    · subst hkm
      have e1 : ((q k).den : Rat) * q k = ((q k).num : Rat) := by
        have h3 := Rat.num_divInt_den (q k)
        rw [Rat.divInt_eq_div] at h3
        have h4 : ((q k).den : Rat) ≠ 0 := fun e => by
          have := Rat.natCast_pos.mpr (Nat.pos_of_ne_zero hd)
          rw [e] at this; exact Rat.lt_irrefl this
        have h7 : (((q k).den : Int) : Rat) = ((q k).den : Rat) := rfl
        rw [h7] at h3
        generalize (q k).num = u at h3
        generalize ((q k).den : Rat) = v at h3 h4
        rw [← h3, Rat.mul_comm]
        exact Rat.div_mul_cancel h4
      show ((D * (q k).den : Nat) : Rat) * q k = (((if k = k then (D : Int) * (q k).num else _) : Int) : Rat)
      rw [if_pos rfl, e0', Rat.intCast_mul, Rat.mul_assoc, e1]; rfl
    · show ((D * (q m).den : Nat) : Rat) * q k = (((if k = m then (D : Int) * (q m).num else (q m).den * z k) : Int) : Rat)
      rw [if_neg hkm, e0', Rat.intCast_mul, ← h2 k (by omega)]
      have : ((((q m).den : Nat) : Int) : Rat) = ((q m).den : Rat) := rfl
      rw [this]; grind
theorem gaussQ {g p : Nat → Int} {q : Nat → Rat} {n m : Nat} (hp : zprim g n) (h : ∀ x, ps (zq g) n x * ps q m x = ps (zq p) (n + m) x) : ∃ z : Nat → Int, ∀ k, k < m → q k = (z k : Rat) := by
  obtain ⟨D, z, h1, h2⟩ := rden q m
  let a : Nat → Int := fun k => if k < m then z k else 0
  have ha : ∀ k, m ≤ k → a k = 0 := fun k hk => if_neg (by omega)
  have e1 : ∀ x, ps (zq a) m x = (D : Rat) * ps q m x := fun x => by
    have := ps_lin q q (D : Rat) 0 m x
    rw [ps_congr (d := fun k => (D : Rat) * q k + 0 * q k) (fun k hk => ?_), this]
    · grind
    · show (((if k < m then z k else 0 : Int)) : Rat) = _
      rw [if_pos hk, ← h2 k hk]; grind
  have e2 : ∀ k, k < n + m → zq (zcv g a n) k = (D : Rat) * zq p k := ps_inj fun x => by
    have := ps_lin (zq p) (zq p) (D : Rat) 0 (n + m) x
    rw [zcv_ps g a m ha x n, e1]
    rw [show (fun k => (D : Rat) * zq p k) = fun k => (D : Rat) * zq p k + 0 * zq p k from funext fun k => by grind, this, ← h x]; grind
  have e3 : ∀ k, (D : Int) ∣ zcv g a n k := fun k => by
    rcases Nat.lt_or_ge k (n + m) with hk | hk
    · refine ⟨p k, ?_⟩
      have h3 := e2 k hk
      have h4 : ((zcv g a n k : Int) : Rat) = ((((D : Int) * p k : Int)) : Rat) := by rw [Rat.intCast_mul]; exact h3
      exact Rat.intCast_inj.mp h4
    · have h3 : ∀ i, i ≤ n → zcv g a i k = 0 := by
        intro i
        induction i with
        | zero => intro _; rfl
        | succ i ih2 => intro hi; simp only [zcv]; rw [ih2 (by omega), if_neg (by omega), ha _ (by omega)]; simp
      rw [h3 n (Nat.le_refl _)]; exact Int.dvd_zero _
  have e4 := gauss hp D h1 a e3
  refine ⟨fun k => a k / D, fun k hk => ?_⟩
  have h5 : (D : Rat) * q k = (D : Rat) * ((a k / D : Int) : Rat) := by
    rw [h2 k hk]
    have h6 : (D : Int) * (a k / D) = z k := by rw [Int.mul_ediv_cancel' (e4 k)]; exact if_pos hk
    rw [← h6, Rat.intCast_mul]; rfl
  have h6 : (0 : Rat) < (D : Rat) := Rat.natCast_pos.mpr h1
  have h7 : (D : Rat) * (q k - ((a k / D : Int) : Rat)) = 0 := by grind
  rcases Rat.mul_eq_zero.mp h7 with h8 | h8
  · rw [h8] at h6; exact (Rat.lt_irrefl h6).elim
  · show q k = ((a k / D : Int) : Rat)
    grind
