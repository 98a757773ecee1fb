/-! what divides a row of small numbers has small numbers -/
-- pure
-- needs: 79j.quot
set_option maxRecDepth 100000
set_option linter.unusedVariables false
/-- noughts and others among the first places -/
theorem parted (P : Nat → Prop) : ∀ N : Nat, ∃ (r u : Nat) (a b : Nat → Nat), r + u = N ∧ (∀ i, i < r → a i < N ∧ P (a i)) ∧ (∀ i j, i < j → j < r → a i < a j) ∧ (∀ i, i < u → b i < N ∧ ¬ P (b i)) ∧ ∀ i j, i < j → j < u → b i < b j := by
  intro N
  induction N with
  | zero => exact ⟨0, 0, fun _ => 0, fun _ => 0, rfl, fun i h => by omega, fun i j _ h => by omega, fun i h => by omega, fun i j _ h => by omega⟩
  | succ N ih =>
    obtain ⟨r, u, a, b, h1, h2, h3, h4, h5⟩ := ih
    rcases Classical.em (P N) with w | w
    · refine ⟨r + 1, u, fun i => if i < r then a i else N, b, by omega, fun i hi => ?_, fun i j hij hj => ?_, fun i hi => ⟨by have := (h4 i hi).1; omega, (h4 i hi).2⟩, h5⟩
      · show (if i < r then a i else N) < N + 1 ∧ P (if i < r then a i else N)
        by_cases q : i < r
        · rw [if_pos q]; exact ⟨by have := (h2 i q).1; omega, (h2 i q).2⟩
        · rw [if_neg q]; exact ⟨by omega, w⟩
      · show (if i < r then a i else N) < (if j < r then a j else N)
        rw [if_pos (show i < r by omega)]
        by_cases q : j < r
        · rw [if_pos q]; exact h3 i j hij q
        · rw [if_neg q]; exact (h2 i (by omega)).1
    · refine ⟨r, u + 1, a, fun i => if i < u then b i else N, by omega, fun i hi => ⟨by have := (h2 i hi).1; omega, (h2 i hi).2⟩, h3, fun i hi => ?_, fun i j hij hj => ?_⟩
      · show (if i < u then b i else N) < N + 1 ∧ ¬ P (if i < u then b i else N)
        by_cases q : i < u
        · rw [if_pos q]; exact ⟨by have := (h4 i q).1; omega, (h4 i q).2⟩
        · rw [if_neg q]; exact ⟨by omega, w⟩
      · show (if i < u then b i else N) < (if j < u then b j else N)
        rw [if_pos (show i < u by omega)]
        by_cases q : j < u
        · rw [if_pos q]; exact h5 i j hij q
        · rw [if_neg q]; exact (h4 i (by omega)).1
/-- values at whole places are whole -/
theorem zp_int (f : Nat → Int) (t : Int) : ∀ n, ∃ z : Int, zp f n (t : Rat) = (z : Rat) := by
  intro n
  induction n with
  | zero => exact ⟨0, rfl⟩
  | succ n ih =>
    obtain ⟨z, hz⟩ := ih
    refine ⟨z + f n * t ^ n, ?_⟩
    show ps (zq f) n (t : Rat) + ((f n : Int) : Rat) * (t : Rat) ^ n = _
    have : ps (zq f) n (t : Rat) = (z : Rat) := hz
    rw [this, Rat.intCast_add, Rat.intCast_mul, Rat.intCast_pow]
def zsm (T : Rat) : Nat → Rat
  | 0 => 0
  | n + 1 => zsm T n + T ^ n
theorem ab_pow {x R : Rat} (h : ab x R) : ∀ k : Nat, ab (x ^ k) (R ^ k) := by
  intro k
  induction k with
  | zero => rw [Rat.pow_zero, Rat.pow_zero]; exact ab.self (by decide)
  | succ k ih => rw [Rat.pow_succ, Rat.pow_succ]; exact ih.mul h
theorem zp_bd {f : Nat → Int} {A R : Rat} {x : Rat} (hx : ab x R) : ∀ n, (∀ k, k < n → ab ((f k : Int) : Rat) A) → ab (zp f n x) (A * zsm R n) := by
  intro n
  induction n with
  | zero =>
    intro _
    show ab (0 : Rat) (A * 0)
    unfold ab; grind
  | succ n ih =>
    intro h
    have h1 := ih fun k hk => h k (by omega)
    have h2 := (h n (by omega)).mul (ab_pow hx n)
    have := h1.add h2
    show ab (ps (zq f) n x + ((f n : Int) : Rat) * x ^ n) (A * (zsm R n + R ^ n))
    rwa [show A * (zsm R n + R ^ n) = A * zsm R n + A * R ^ n by grind]
theorem fac_num : nbd 8 9 (99 * zsm 8 9) ≤ ((2 ^ 65 : Nat) : Rat) := by decide +kernel
/-- h divides f at all whole places -/
theorem fac_bd {f h : Nat → Int} {d e : Nat} (hd : d ≤ 8) (he : e ≤ 8) (hf : f d ≠ 0) (hb : ∀ k, k ≤ d → (f k).natAbs ≤ 99) (hq : ∀ t : Int, ∃ z : Int, zp f (d + 1) (t : Rat) = zp h (e + 1) (t : Rat) * (z : Rat)) : ∀ k, k ≤ e → (h k).natAbs ≤ 2 ^ 65 := by
  let nd : Nat → Rat := fun i => ((((i : Int) - 8) : Int) : Rat)
  have hnd : ∀ i j : Nat, i < j → nd i + 1 ≤ nd j := fun i j hij => by
    show ((((i : Int) - 8) : Int) : Rat) + 1 ≤ ((((j : Int) - 8) : Int) : Rat)
    have h1 : (((((i : Int) - 8) + 1) : Int) : Rat) ≤ ((((j : Int) - 8) : Int) : Rat) := Rat.intCast_le_intCast.mpr (by omega)
    rw [Rat.intCast_add] at h1
    exact h1
  have hab : ∀ i : Nat, i < 17 → ab (nd i) 8 := fun i hi => by
    have h1 : (((-8) : Int) : Rat) ≤ ((((i : Int) - 8) : Int) : Rat) := Rat.intCast_le_intCast.mpr (by omega)
    have h2 : ((((i : Int) - 8) : Int) : Rat) ≤ ((8 : Int) : Rat) := Rat.intCast_le_intCast.mpr (by omega)
    exact ⟨h1, h2⟩
  obtain ⟨r, u, a, b, c1, c2, c3, c4, c5⟩ := parted (fun i => zp f (d + 1) (nd i) = 0) 17
  have hr : r ≤ 8 := by
    rcases Nat.lt_or_ge 8 r with w | w
    · exfalso
      have := ps_roots (d + 1) (zq f) (fun i => nd (a i)) (fun i j hij hj q => by
        have := hnd (a i) (a j) (c3 i j hij (by omega))
        have q' : nd (a i) = nd (a j) := q
        rw [q'] at this; grind) (fun i hi => (c2 i (by omega)).2) d (by omega)
      exact hf (Rat.intCast_inj.mp (this.trans Rat.intCast_zero.symm))
    · exact w
  have hv : ∀ i, i < u → ab (zp h (e + 1) (nd (b i))) (99 * zsm 8 9) := fun i hi => by
    obtain ⟨g1, g2⟩ := c4 i hi
    obtain ⟨z, hz⟩ := hq ((b i : Int) - 8)
    have hz' : zp f (d + 1) (nd (b i)) = zp h (e + 1) (nd (b i)) * (z : Rat) := hz
    have hz0 : z ≠ 0 := fun q => g2 (by rw [hz', q, Rat.intCast_zero]; grind)
    have h1 : ab (zp f (d + 1) (nd (b i))) (99 * zsm 8 (d + 1)) := zp_bd (hab _ g1) (d + 1) fun k hk => by
      have h2 := hb k (by omega)
      constructor
      · have : (((-99) : Int) : Rat) ≤ ((f k : Int) : Rat) := Rat.intCast_le_intCast.mpr (by omega)
        exact this
      · have : ((f k : Int) : Rat) ≤ ((99 : Int) : Rat) := Rat.intCast_le_intCast.mpr (by omega)
        exact this
    have hm : ∀ n j : Nat, zsm 8 n ≤ zsm 8 (n + j) := fun n j => by
      induction j with
      | zero => exact Rat.le_refl
      | succ j ih =>
        have : (0 : Rat) ≤ 8 ^ (n + j) := Rat.pow_nonneg (by decide)
        show zsm 8 n ≤ zsm 8 (n + j) + 8 ^ (n + j)
        grind
    have h3 := hm (d + 1) (8 - d)
    rw [show d + 1 + (8 - d) = 9 by omega] at h3
    have h4 := h1.mono (show 99 * zsm 8 (d + 1) ≤ 99 * zsm 8 9 by grind)
    rw [hz', show zp h (e + 1) (nd (b i)) * (z : Rat) = (z : Rat) * zp h (e + 1) (nd (b i)) by grind] at h4
    refine ab_div h4 ?_
    rcases Int.lt_or_le z 0 with w | w
    · right
      have : ((z : Int) : Rat) ≤ (((-1) : Int) : Rat) := Rat.intCast_le_intCast.mpr (by omega)
      exact this
    · left
      have : ((1 : Int) : Rat) ≤ ((z : Int) : Rat) := Rat.intCast_le_intCast.mpr (by omega)
      exact this
  have key := node_bd (R := 8) (by decide) 9 (zq (cut h e)) (fun i => nd (b i)) (99 * zsm 8 9) (fun i hi => hab _ (c4 i (by omega)).1) (fun i j hij hj => by
    have := hnd (b i) (b j) (c5 i j hij (by omega))
    left
    show 1 ≤ nd (b j) - nd (b i)
    grind) fun i hi => by
      have := cut_zp h (d := e) (n := 9) (by omega) (nd (b i))
      show ab (zp (cut h e) 9 (nd (b i))) _
      rw [this]; exact hv i (by omega)
  intro k hk
  have h1 := (key k (by omega)).mono fac_num
  have h2 : zq (cut h e) k = ((h k : Int) : Rat) := by show ((cut h e k : Int) : Rat) = _; unfold cut; rw [if_pos hk]
  rw [h2] at h1
  generalize 2 ^ 65 = N at *
  obtain ⟨h3, h4⟩ := h1
  have h5 : ((h k : Int) : Rat) ≤ (((N : Nat) : Int) : Rat) := h4
  have h6 : (((-(N : Int)) : Int) : Rat) ≤ ((h k : Int) : Rat) := by rw [Rat.intCast_neg]; exact h3
  have h7 := Rat.intCast_le_intCast.mp h5
  have h8 := Rat.intCast_le_intCast.mp h6
  omega
