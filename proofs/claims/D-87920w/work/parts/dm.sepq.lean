/-! a root of p and a root of q apart: short spans hold one of them at most -/
-- needs: dl.mhalve 79p.sgn
set_option maxRecDepth 100000
set_option linter.unusedVariables false
theorem epsq1 : 2 * (((2 ^ 180 : Nat) : Rat) * gpw 8) * (((2 ^ 65 : Nat) : Rat) * glw 9) * epsH < 1 := by
  have h := eps_nat (N := 2 * (2 ^ 180 * 567382630219905) * (2 ^ 65 * 4534593461993729)) (Nat.le_of_ble_eq_true rfl)
  rw [Int.natCast_mul, Int.natCast_mul, Int.natCast_mul, Int.natCast_mul, Rat.intCast_mul, Rat.intCast_mul, Rat.intCast_mul, Rat.intCast_mul] at h
  rw [gpw8, glw9]
  exact h
theorem epsq2 : 4 * (((2 ^ 180 : Nat) : Rat) * gpw 8) * (((2 ^ 65 : Nat) : Rat) * glw 9) * epsH < 1 := by
  have h := eps_nat (N := 4 * (2 ^ 180 * 567382630219905) * (2 ^ 65 * 4534593461993729)) (Nat.le_of_ble_eq_true rfl)
  rw [Int.natCast_mul, Int.natCast_mul, Int.natCast_mul, Int.natCast_mul, Rat.intCast_mul, Rat.intCast_mul, Rat.intCast_mul, Rat.intCast_mul] at h
  rw [gpw8, glw9]
  exact h
theorem num_bigq : (3168 : Nat) ^ 15 ≤ 2 ^ 180 := Nat.le_of_ble_eq_true rfl
theorem fxs.of_const {f : Rat → Rat} {c : Rat} (hc : c ≠ 0) (h : ∀ x, f x = c) (x y : Rat) : ∃ u, fxs u f x y := by
  rcases Classical.em (0 < c) with w | w
  · exact ⟨1, c, w, .inl ⟨rfl, fun z _ _ => by rw [h]; exact Rat.le_refl⟩⟩
  · exact ⟨-1, -c, by grind, .inr ⟨rfl, fun z _ _ => by rw [h]; grind⟩⟩
theorem fxs.smul {u : Int} {f g : Rat → Rat} {x y c : Rat} (h : fxs u f x y) (hc : c ≠ 0) (e : ∀ z, g z = c * f z) : ∃ w, Jvm.Pilot.CIdealCourtLaw_law_r5787_380c08.fxs w g x y := by
  obtain ⟨v, hv⟩ := fxs.of_const (f := fun _ => c) hc (fun _ => rfl) x y
  have := hv.mul h
  rw [show (fun z => c * f z) = g from funext fun z => (e z).symm] at this
  exact ⟨_, this⟩
set_option maxHeartbeats 1000000 in
theorem sep_pq {f g : Nat → Int} {d dq : Nat} (hd : d ≤ 8) (hdq : dq ≤ 8) (hf : f d ≠ 0) (hg : g dq ≠ 0) (bf : ∀ k, k ≤ d → (f k).natAbs ≤ 99) (bg : ∀ k, k ≤ dq → (g k).natAbs ≤ 99) {S C Q : Nat → pf} {ms mg mq : Nat} {e : pf} (hS : stc S ms) (hs : shr (S 0) (zp f (d + 1))) (hC : stc C mg) (hc : shr (C 0) e) (hQ : stc Q mq) (hq : shr (Q 0) (zp g (dq + 1))) (he : ∃ c1 c2 U V : pf, PP c1 ∧ PP c2 ∧ PP U ∧ PP V ∧ (∀ z, zp f (d + 1) z = c1 z * e z) ∧ (∀ z, zp g (dq + 1) z = c2 z * e z) ∧ ∀ z, e z = U z * zp f (d + 1) z + V z * zp g (dq + 1) z) {x y : Rat} (ix : iB x) (iy : iB y) (hxy : x < y) (hw : y - x ≤ epsH) (hc0 : cnt C mg x = cnt C mg y) (hs1 : cnt S ms x = cnt S ms y + 1) : cnt Q mq x = cnt Q mq y := by
  obtain ⟨c1, c2, U0, V0, pc1, pc2, pU0, pV0, e1, e2, e3⟩ := he
  have pe : PP e := hc.2.1
  have e0 : ¬ ∀ z, e z = 0 := hc.2.2.1
  obtain ⟨de, hde⟩ := pe.ex e0
  obtain ⟨G, ρ, ρ0, g1, g2, g3⟩ := prim_of hde
  obtain ⟨r1, r2⟩ := nz_inv ρ0
  obtain ⟨k1, p1, a1, a2, a3, -⟩ := quo_ex g1 g2 hf ⟨fun z => ρ * c1 z, pc1.smul ρ, fun z => by rw [e1, g3]; grind⟩
  obtain ⟨k2, q1, b1, b2, b3, -⟩ := quo_ex g1 g2 hg ⟨fun z => ρ * c2 z, pc2.smul ρ, fun z => by rw [e2, g3]; grind⟩
  have pG : PP (zp G (de + 1)) := zp_pp _ _
  have nzG : ¬ ∀ z, zp G (de + 1) z = 0 := (zp_ex g2).nz
  -- a point just behind x
  obtain ⟨η1, n1, m1⟩ := hS.right ix
  obtain ⟨η2, n2, m2⟩ := hC.right ix
  obtain ⟨η3, n3, m3⟩ := hQ.right ix
  obtain ⟨δ, d0, d1, d2, d3, d4⟩ : ∃ δ : Rat, 0 < δ ∧ δ ≤ η1 ∧ δ ≤ η2 ∧ δ ≤ η3 ∧ x + δ < y := by
    have mn : ∀ u v : Rat, 0 < u → 0 < v → ∃ w : Rat, 0 < w ∧ w ≤ u ∧ w ≤ v := fun u v hu hv => ⟨if u ≤ v then u else v, by split <;> grind, by split <;> grind, by split <;> grind⟩
    obtain ⟨u1, w1, w2, w3⟩ := mn η1 η2 n1 n2
    obtain ⟨u2, w4, w5, w6⟩ := mn u1 η3 w1 n3
    obtain ⟨u3, w7, w8, w9⟩ := mn u2 ((y - x) / 2) w4 (by grind)
    exact ⟨u3, w7, by grind, by grind, by grind, by grind⟩
  have ix' : iB (x + δ) := iB.of ix iy (by grind) (by grind)
  have sS := m1 (x + δ) ix' (by grind) (by grind)
  have sC := m2 (x + δ) ix' (by grind) (by grind)
  have sQ := m3 (x + δ) ix' (by grind) (by grind)
  have hle : x + δ ≤ y := by grind
  -- what is in common keeps its sign
  have hCnz : ¬ ∀ z, C 0 z = 0 := fun w => by
    obtain ⟨_, _, h3, r, t, p', _, _, _, h7, _⟩ := hc
    exact h3 fun z => by rw [h7, w]; grind
  have hC0 := hC.behind hCnz ix ix' sC (show x < x + δ by grind) Rat.le_refl
  have fC := hC.keep ix' iy hle (by show cnt C mg (x + δ) = cnt C mg y; rw [← hc0]; exact sC.symm) hC0
  obtain ⟨u, fe⟩ := hc.fxs ix' iy d4 fC
  obtain ⟨u2, fG⟩ := fe.smul (g := zp G (de + 1)) r1 fun z => by
    rw [g3]
    have : ρ⁻¹ * (ρ * zp G (de + 1) z) = ρ⁻¹ * ρ * zp G (de + 1) z := by grind
    rw [this, r2]; grind
  -- if the rest of p keeps its sign s does
  have noP : ¬ ∃ w, fxs w (zp p1 (d - de + 1)) (x + δ) y := fun ⟨w, hw⟩ => by
    have h1 := fG.mul hw
    rw [show (fun z => zp G (de + 1) z * zp p1 (d - de + 1) z) = zp f (d + 1) from funext fun z => (a3 z).symm] at h1
    obtain ⟨v, hv⟩ := hs.back ix' iy hle h1
    have h2 := kept_all hS.1 ix' iy hle hv
    have h3 : cnt S ms x = cnt S ms (x + δ) := sS
    have h4 : cnt S ms (x + δ) = cnt S ms y := h2
    omega
  have fin : (∃ w, fxs w (zp q1 (dq - de + 1)) (x + δ) y) → cnt Q mq x = cnt Q mq y := fun ⟨w, hw⟩ => by
    have h1 := fG.mul hw
    rw [show (fun z => zp G (de + 1) z * zp q1 (dq - de + 1) z) = zp g (dq + 1) from funext fun z => (b3 z).symm] at h1
    obtain ⟨v, hv⟩ := hq.back ix' iy hle h1
    have h2 := kept_all hQ.1 ix' iy hle hv
    have h3 : cnt Q mq x = cnt Q mq (x + δ) := sQ
    rw [h3]; exact h2
  have ha1 : 1 ≤ d - de := by
    rcases Nat.eq_zero_or_pos (d - de) with w | w
    · exfalso
      rw [w] at noP a2
      have hx := zp_ex a2
      obtain ⟨c, c0, hcx⟩ := hx.const
      exact noP (fxs.of_const c0 hcx _ _)
    · exact w
  -- a small mixture
  have hcop : ∀ z, U0 z * zp p1 (d - de + 1) z + V0 z * zp q1 (dq - de + 1) z = ρ := pG.cancel ((pU0.mul (zp_pp _ _)).add (pV0.mul (zp_pp _ _))) (PP.const ρ) nzG fun z => by
    have h2 := e3 z
    rw [g3, a3, b3] at h2
    grind
  obtain ⟨U, V, c, c0, bU, bV, hcc⟩ := bez_small (P := f) (Q := g) (dp := d) (dq := dq) (e := de) (a := d - de) (b := dq - de) (A := 99) (by decide) (by omega) (by omega) (by omega) (zp_ex g2) (zp_ex a2) (zp_ex b2) a3 b3 ⟨fun z => ρ⁻¹ * U0 z, fun z => ρ⁻¹ * V0 z, pU0.smul _, pV0.smul _, fun z => by
    have h2 := hcop z
    have : ρ⁻¹ * U0 z * zp p1 (d - de + 1) z + ρ⁻¹ * V0 z * zp q1 (dq - de + 1) z = ρ⁻¹ * (U0 z * zp p1 (d - de + 1) z + V0 z * zp q1 (dq - de + 1) z) := by grind
    rw [this, h2, r2]⟩ bf bg
  have big : (2 * (d - de + (dq - de)) * 99) ^ (d - de + (dq - de) - 1) ≤ 2 ^ 180 := by
    refine Nat.le_trans ?_ num_bigq
    exact Nat.le_trans (Nat.pow_le_pow_left (show 2 * (d - de + (dq - de)) * 99 ≤ 3168 by omega) _) (Nat.pow_le_pow_right (by decide) (by omega))
  have hq1 : ∀ t : Int, ∃ z : Int, zp f (d + 1) (t : Rat) = zp p1 (d - de + 1) (t : Rat) * (z : Rat) := fun t => by
    obtain ⟨z, hz⟩ := zp_int G t (de + 1)
    exact ⟨z, by rw [a3, hz]; grind⟩
  have hq2 : ∀ t : Int, ∃ z : Int, zp g (dq + 1) (t : Rat) = zp q1 (dq - de + 1) (t : Rat) * (z : Rat) := fun t => by
    obtain ⟨z, hz⟩ := zp_int G t (de + 1)
    exact ⟨z, by rw [b3, hz]; grind⟩
  have bp1 := fac_bd hd (by omega) hf bf hq1
  have bq1 := fac_bd hdq (by omega) hg bg hq2
  have cI : ∃ z : Int, c = (z : Rat) := by
    obtain ⟨z1, h1⟩ := zp_int U 0 (dq - de)
    obtain ⟨z2, h2⟩ := zp_int p1 0 (d - de + 1)
    obtain ⟨z3, h3⟩ := zp_int V 0 (d - de)
    obtain ⟨z4, h5⟩ := zp_int q1 0 (dq - de + 1)
    refine ⟨z1 * z2 + z3 * z4, ?_⟩
    have := hcc ((0 : Int) : Rat)
    rw [h1, h2, h3, h5] at this
    rw [← this, Rat.intCast_add, Rat.intCast_mul, Rat.intCast_mul]
  have cge := int_ge c0 cI
  obtain ⟨ci, ci2⟩ := nz_inv c0
  have Ku0 : (0 : Rat) < ((2 ^ 180 : Nat) : Rat) * gpw 8 := nat_mul_pos (Nat.two_pow_pos _) (by rw [gpw8]; decide)
  have Ls0 : (0 : Rat) < ((2 ^ 65 : Nat) : Rat) * glw 9 := nat_mul_pos (Nat.two_pow_pos _) (by rw [glw9]; decide)
  have bu : bnd (fun x => zp U (dq - de) x * c⁻¹) (((2 ^ 180 : Nat) : Rat) * gpw 8) := fun x hx => by
    refine ab_div (d := c) ?_ cge
    have := zp_bnd9 (f := U) (n := dq - de) (N := 2 ^ 180) (W := 8) (by omega) (fun k hk => Nat.le_trans (bU k hk) big) x hx
    rwa [show c * (zp U (dq - de) x * c⁻¹) = c⁻¹ * c * zp U (dq - de) x by grind, ci2, Rat.one_mul]
  have bv : bnd (fun x => zp V (d - de) x * c⁻¹) (((2 ^ 180 : Nat) : Rat) * gpw 8) := fun x hx => by
    refine ab_div (d := c) ?_ cge
    have := zp_bnd9 (f := V) (n := d - de) (N := 2 ^ 180) (W := 8) (by omega) (fun k hk => Nat.le_trans (bV k hk) big) x hx
    rwa [show c * (zp V (d - de) x * c⁻¹) = c⁻¹ * c * zp V (d - de) x by grind, ci2, Rat.one_mul]
  have l1 : lip (zp p1 (d - de + 1)) (((2 ^ 65 : Nat) : Rat) * glw 9) := zp_lip9 (by omega) fun k hk => bp1 k (by omega)
  have l2 : lip (zp q1 (dq - de + 1)) (((2 ^ 65 : Nat) : Rat) * glw 9) := zp_lip9 (by omega) fun k hk => bq1 k (by omega)
  have hw' : y - (x + δ) ≤ epsH := by grind
  rcases keep_or l1 Ls0 ix' iy hle hw' with ⟨γ, q⟩ | q
  · exact absurd ⟨γ, q⟩ noP
  · obtain ⟨k3, -⟩ := keep_other l1 l2 Ls0 Ls0 bu bv Ku0 Ku0 (fun z _ => by
      have := hcc z
      have k1 : zp U (dq - de) z * c⁻¹ * zp p1 (d - de + 1) z + zp V (d - de) z * c⁻¹ * zp q1 (dq - de + 1) z = c⁻¹ * (zp U (dq - de) z * zp p1 (d - de + 1) z + zp V (d - de) z * zp q1 (dq - de + 1) z) := by grind
      rw [k1, this, ci2]) ix' iy hle hw' eps_pos epsq1 epsq2 q
    exact fin k3
