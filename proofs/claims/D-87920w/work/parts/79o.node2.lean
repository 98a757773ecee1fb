/-! what p has once, with less than nine numbers: its numbers are below 2^47 -/
-- pure
-- needs: 79m.bezo
set_option maxRecDepth 100000
set_option linter.unusedVariables false
theorem fac_num2 : nbd 4 8 (99 * zsm 4 9) ≤ ((2 ^ 47 : Nat) : Rat) := by decide +kernel
/-- where s isn't 0 p isn't -/
theorem shr.nz {s p : Rat → Rat} (h : shr s p) {x : Rat} (hx : ab x 127) (h0 : s x ≠ 0) : p x ≠ 0 := by
  obtain ⟨h1, h2, h3, r, t, p', h4, h5, h6, h7, h8, h9⟩ := h
  have ix : iB x := by unfold iB; exact hx.mono (by decide)
  obtain ⟨η, e0, e1⟩ := near h1 ix h0
  obtain ⟨δ, d0, d1, d2⟩ : ∃ δ : Rat, 0 < δ ∧ δ ≤ η ∧ δ ≤ 1 := ⟨if η ≤ 1 then η else 1, by split <;> grind, by split <;> grind, by split <;> grind⟩
  unfold ab at hx
  have ia : iB (x - δ) := by unfold iB ab; grind
  have ib : iB (x + δ) := by unfold iB ab; grind
  have hu := e1 (x - δ) (x + δ) ia ib (by grind) (by grind) (by grind)
  have hc : ∃ c, x - δ ≤ c ∧ c ≤ x + δ ∧ p c ≠ 0 := by
    refine Classical.byContradiction fun w => h3 ?_
    obtain ⟨n, hp⟩ := h2
    refine hp.span_zero (x := x - δ) (y := x + δ) (by grind) fun z z1 z2 => ?_
    exact Classical.byContradiction fun q => w ⟨z, z1, z2, q⟩
  obtain ⟨c, c1, c2, c3⟩ := hc
  exact ode_keep h2 h6 h5 h9 h8 ia ib (by grind) hu c1 c2 c3 x (by grind) (by grind)
/-- h has the noughts of f, once each, and divides it over the whole numbers -/
theorem fac_bd2 {f h g : Nat → Int} {d a e : Nat} (hd : d ≤ 8) (ha : a ≤ 7) (hb : ∀ k, k ≤ d → (f k).natAbs ≤ 99) (hs : shr (zp h (a + 1)) (zp f (d + 1))) (hq : ∃ γ : Int, ∀ x, zp f (d + 1) x = (γ : Rat) * zp g (e + 1) x * zp h (a + 1) x) : ∀ k, k ≤ a → (h k).natAbs ≤ 2 ^ 47 := by
  obtain ⟨γ, hγ⟩ := hq
  let nd : Nat → Rat := fun i => ((((i : Int) - 4) : Int) : Rat)
  have hnd : ∀ i j : Nat, i < j → nd i + 1 ≤ nd j := fun i j hij => by
    show ((((i : Int) - 4) : Int) : Rat) + 1 ≤ ((((j : Int) - 4) : Int) : Rat)
    have h1 : (((((i : Int) - 4) + 1) : Int) : Rat) ≤ ((((j : Int) - 4) : Int) : Rat) := Rat.intCast_le_intCast.mpr (by omega)
    rw [Rat.intCast_add] at h1
    exact h1
  have hab : ∀ i : Nat, i < 8 → ab (nd i) 4 := fun i hi => by
    have h1 : (((-4) : Int) : Rat) ≤ ((((i : Int) - 4) : Int) : Rat) := Rat.intCast_le_intCast.mpr (by omega)
    have h2 : ((((i : Int) - 4) : Int) : Rat) ≤ ((4 : Int) : Rat) := Rat.intCast_le_intCast.mpr (by omega)
    exact ⟨h1, h2⟩
  have hv : ∀ i, i < 8 → ab (zp h (a + 1) (nd i)) (99 * zsm 4 9) := fun i hi => by
    have hm : ∀ n j : Nat, zsm 4 n ≤ zsm 4 (n + j) := fun n j => by
      induction j with
      | zero => exact Rat.le_refl
      | succ j ih =>
        have : (0 : Rat) ≤ 4 ^ (n + j) := Rat.pow_nonneg (by decide)
        show zsm 4 n ≤ zsm 4 (n + j) + 4 ^ (n + j)
        grind
    have h3 := hm (d + 1) (8 - d)
    rw [show d + 1 + (8 - d) = 9 by omega] at h3
    have h1 : ab (zp f (d + 1) (nd i)) (99 * zsm 4 (d + 1)) := zp_bd (hab _ hi) (d + 1) fun k hk => by
      have h2 := hb k (by omega)
      constructor
      · have : (((-99) : Int) : Rat) ≤ ((f k : Int) : Rat) := Rat.intCast_le_intCast.mpr (by omega)
        exact this
      · have : ((f k : Int) : Rat) ≤ ((99 : Int) : Rat) := Rat.intCast_le_intCast.mpr (by omega)
        exact this
    have h4 := h1.mono (show 99 * zsm 4 (d + 1) ≤ 99 * zsm 4 9 by grind)
    have hz9 : (0 : Rat) ≤ 99 * zsm 4 9 := by decide +kernel
    rcases Classical.em (zp h (a + 1) (nd i) = 0) with w | w
    · rw [w]; unfold ab; grind
    · have hp0 := hs.nz ((hab i hi).mono (by decide)) w
      obtain ⟨z, hz⟩ := zp_int g ((i : Int) - 4) (e + 1)
      have hz' : zp g (e + 1) (nd i) = (z : Rat) := hz
      rw [hγ, hz'] at h4 hp0
      have hz0 : γ * z ≠ 0 := fun q => hp0 (by rw [← Rat.intCast_mul, q, Rat.intCast_zero]; grind)
      rw [← Rat.intCast_mul] at h4
      refine ab_div h4 ?_
      generalize γ * z = y at *
      rcases Int.lt_or_le y 0 with w | w
      · right
        have : ((y : Int) : Rat) ≤ (((-1) : Int) : Rat) := Rat.intCast_le_intCast.mpr (by omega)
        exact this
      · left
        have : ((1 : Int) : Rat) ≤ ((y : Int) : Rat) := Rat.intCast_le_intCast.mpr (by omega)
        exact this
  have key := node_bd (R := 4) (by decide) 8 (zq (cut h a)) nd (99 * zsm 4 9) hab (fun i j hij hj => by
    have := hnd i j hij
    left
    grind) fun i hi => by
      have := cut_zp h (d := a) (n := 8) (by omega) (nd i)
      show ab (zp (cut h a) 8 (nd i)) _
      rw [this]; exact hv i hi
  intro k hk
  have h1 := (key k (by omega)).mono fac_num2
  have h2 : zq (cut h a) k = ((h k : Int) : Rat) := by show ((cut h a k : Int) : Rat) = _; unfold cut; rw [if_pos hk]
  rw [h2] at h1
  generalize 2 ^ 47 = N at *
  obtain ⟨h3, h4⟩ := h1
  have h5 : ((h k : Int) : Rat) ≤ (((N : Nat) : Int) : Rat) := h4
  have h6 : (((-(N : Int)) : Int) : Rat) ≤ ((h k : Int) : Rat) := by rw [Rat.intCast_neg]; exact h3
  have h7 := Rat.intCast_le_intCast.mp h5
  have h8 := Rat.intCast_le_intCast.mp h6
  omega
