/-! the count of roots is a good one: monotone, at most 8, spans of depth 389 have one at most -/
-- needs: db.csrch 79m.bezo
set_option maxRecDepth 100000
set_option linter.unusedVariables false
/-- a primitive row along a function -/
theorem prim_of {r : pf} {e : Nat} (h : EX r e) : ∃ (g : Nat → Int) (ρ : Rat), ρ ≠ 0 ∧ zprim g (e + 1) ∧ g e ≠ 0 ∧ ∀ x, r x = ρ * zp g (e + 1) x := by
  obtain ⟨c, hc, ce⟩ := h
  obtain ⟨D, z, D0, hz⟩ := rden c (e + 1)
  have hD : (0 : Rat) < (D : Rat) := Rat.natCast_pos.mpr D0
  obtain ⟨i1, i2⟩ := pos_inv hD
  have ze : z e ≠ 0 := fun w => by
    have := hz e (by omega)
    rw [w, Rat.intCast_zero] at this
    rcases Rat.mul_eq_zero.mp this with q | q
    · rw [q] at hD; exact Rat.lt_irrefl hD
    · exact ce q
  have hg := gcn_pos (e + 1) e (by omega) ze
  have hg' : (0 : Rat) < (((gcn z (e + 1) : Nat) : Int) : Rat) := Rat.intCast_pos.mpr (by omega)
  refine ⟨brow z e, (D : Rat)⁻¹ * (((gcn z (e + 1) : Nat) : Int) : Rat), nz_mul (fun w => by rw [w] at i1; exact Rat.lt_irrefl i1) (fun w => by rw [w] at hg'; exact Rat.lt_irrefl hg'), brow_prim ze, brow_top ze, fun x => ?_⟩
  have h1 := brow_zp (f := z) (d := e) x
  have h2 : zp z (e + 1) x = (D : Rat) * ps c (e + 1) x := by
    show ps (zq z) (e + 1) x = _
    rw [ps_congr (d := fun k => (D : Rat) * c k + 0 * c k) (fun k hk => by show ((z k : Int) : Rat) = _; rw [← hz k hk]; grind), ps_lin]; grind
  have h3 : (D : Rat)⁻¹ * (((gcn z (e + 1) : Nat) : Int) : Rat) * zp (brow z e) (e + 1) x = (D : Rat)⁻¹ * ((((gcn z (e + 1) : Nat) : Int) : Rat) * zp (brow z e) (e + 1) x) := by grind
  rw [h3, h1, h2, hc]
  have h4 : (D : Rat)⁻¹ * ((D : Rat) * ps c (e + 1) x) = (D : Rat)⁻¹ * (D : Rat) * ps c (e + 1) x := by grind
  rw [h4, i2]; grind
/-- the rows behind what p has once -/
theorem cof {f f' : Nat → Int} {d : Nat} {s : pf} (hd : 1 ≤ d) (hf : f d ≠ 0) (hf' : f' (d - 1) ≠ 0) (hD : DD (zp f (d + 1)) (zp f' d)) (h : smp (zp f (d + 1)) s) : ∃ (g s2 t2 : Nat → Int) (e a : Nat) (ρ : Rat), d = e + a ∧ 1 ≤ a ∧ zprim g (e + 1) ∧ g e ≠ 0 ∧ s2 a ≠ 0 ∧ t2 (a - 1) ≠ 0 ∧ ρ ≠ 0 ∧ (∀ x, zp f (d + 1) x = zp g (e + 1) x * zp s2 (a + 1) x) ∧ (∀ x, zp f' d x = zp g (e + 1) x * zp t2 a x) ∧ (∀ x, zp s2 (a + 1) x = ρ * s x) ∧ ∃ U V : pf, PP U ∧ PP V ∧ ∀ x, U x * zp s2 (a + 1) x + V x * zp t2 a x = 1 := by
  obtain ⟨hp, hs, F, n, m, hpc, l, l0, hl⟩ := h
  obtain ⟨s0, t0, p', U, V, ps0, pt0, pp', pU, pV, Dp, e1, e2, e3⟩ := hpc.parts hp
  have hG := hpc.2.1.1 (m - 1) (by have := hpc.1; omega)
  have pG : PP (F (m - 1)) := ⟨_, hG.pf⟩
  obtain ⟨g, ρ, ρ0, g1, g2, g3⟩ := prim_of hG
  obtain ⟨j1, j2⟩ := nz_inv ρ0
  have ep : ∀ x, p' x = zp f' d x := Dp.same hD pp' (zp_pp _ _)
  have ed : d - 1 + 1 = d := by omega
  obtain ⟨k1, s2, k2, k3, k4, -⟩ := quo_ex g1 g2 hf ⟨fun x => ρ * s0 x, ps0.smul ρ, fun x => by rw [e1, g3]; grind⟩
  obtain ⟨m1, t2, m2, m3, m4, -⟩ := quo_ex (d := d - 1) g1 g2 hf' ⟨fun x => ρ * t0 x, pt0.smul ρ, fun x => by rw [ed, ← ep, e2, g3]; grind⟩
  rw [ed] at m4
  have pg : PP (zp g (n (m - 1) + 1)) := zp_pp _ _
  have es : ∀ x, zp s2 (d - n (m - 1) + 1) x = ρ * s0 x := pg.cancel (zp_pp _ _) (ps0.smul ρ) (zp_ex g2).nz fun x => by rw [← k4, e1, g3]; grind
  have et : ∀ x, zp t2 (d - 1 - n (m - 1) + 1) x = ρ * t0 x := pg.cancel (zp_pp _ _) (pt0.smul ρ) (zp_ex g2).nz fun x => by rw [← m4, ← ep, e2, g3]; grind
  have ess : ∀ x, s x = l * s0 x := pG.cancel hs (ps0.smul l) hG.nz fun x => by
    have := hl x
    rw [e1] at this; grind
  obtain ⟨i1, i2⟩ := nz_inv l0
  have ea : d - 1 - n (m - 1) + 1 = d - n (m - 1) := by omega
  rw [ea] at m4 et
  refine ⟨g, s2, t2, n (m - 1), d - n (m - 1), ρ * l⁻¹, by omega, by omega, g1, g2, k3, by rw [show d - n (m - 1) - 1 = d - 1 - n (m - 1) by omega]; exact m3, nz_mul ρ0 i1, k4, m4, fun x => ?_, fun x => ρ⁻¹ * U x, fun x => ρ⁻¹ * V x, pU.smul _, pV.smul _, fun x => ?_⟩
  · rw [es, ess]
    have : ρ * l⁻¹ * (l * s0 x) = l⁻¹ * l * (ρ * s0 x) := by grind
    rw [this, i2]; grind
  · rw [es, et]
    have h1 := e3 x
    have : ρ⁻¹ * U x * (ρ * s0 x) + ρ⁻¹ * V x * (ρ * t0 x) = ρ⁻¹ * ρ * (U x * s0 x + V x * t0 x) := by grind
    rw [this, h1, j2]; grind
theorem schain.scale {F : Nat → pf} {m : Nat} (h : schain F m) {κ : Rat} (hκ : κ ≠ 0) : schain (fun i x => F i x * κ) m := by
  obtain ⟨h1, h2, h3, c, h4, h5⟩ := h
  refine ⟨h1, fun i hi => ?_, fun i a b => ?_, c * κ, nz_mul h4 hκ, fun x => ?_⟩
  · have := (h2 i hi).smul κ
    rwa [show (fun x => κ * F i x) = fun x => F i x * κ from funext fun x => by grind] at this
  · obtain ⟨c, q, c0, hq, hx⟩ := h3 i a b
    exact ⟨c, q, c0, hq, fun x => by have := hx x; show c * (F (i - 1) x * κ) = q x * (F i x * κ) - F (i + 1) x * κ; grind⟩
  · show F (m - 1) x * κ = c * κ
    rw [h5]
theorem stc.scale {F : Nat → pf} {m : Nat} (h : stc F m) {κ : Rat} (hκ : κ ≠ 0) : stc (fun i x => F i x * κ) m := by
  obtain ⟨h1, c, c0, h2⟩ := h
  refine ⟨h1.scale hκ, c, c0, fun hm => ?_⟩
  have := (h2 hm).smul κ
  rw [show (fun x => κ * F 0 x) = fun x => F 0 x * κ from funext fun x => by grind, show (fun x => κ * (c * F 1 x)) = fun x => c * (F 1 x * κ) from funext fun x => by grind] at this
  exact this
/-- a row cut to n numbers -/
theorem zp_ext9 (f : Nat → Int) {n N : Nat} (hn : n ≤ N) : ∃ g : Nat → Int, (∀ x, zp g N x = zp f n x) ∧ ∀ k, k < N → g k = if k < n then f k else 0 := by
  refine ⟨fun k => if k < n then f k else 0, fun x => ?_, fun k _ => rfl⟩
  show ps (zq fun k => if k < n then f k else 0) N x = ps (zq f) n x
  rw [show N = n + (N - n) by omega, ps_ext (N - n) (fun k h1 h2 => by
    show (((if k < n then f k else 0) : Int) : Rat) = 0
    rw [if_neg (by omega)]; rfl)]
  exact ps_congr (fun k hk => by show (((if k < n then f k else 0) : Int) : Rat) = ((f k : Int) : Rat); rw [if_pos hk]) x
theorem ab_nat {z : Int} {N : Nat} (h : z.natAbs ≤ N) : ab ((z : Int) : Rat) ((N : Nat) : Rat) := by
  constructor
  · have : (((-(N : Int)) : Int) : Rat) ≤ ((z : Int) : Rat) := Rat.intCast_le_intCast.mpr (by omega)
    rw [Rat.intCast_neg] at this
    exact this
  · have : ((z : Int) : Rat) ≤ (((N : Int)) : Rat) := Rat.intCast_le_intCast.mpr (by omega)
    exact this
theorem zp_lip9 {f : Nat → Int} {n N W : Nat} (hn : n ≤ W) (h : ∀ k, k < n → (f k).natAbs ≤ N) : lip (zp f n) ((N : Rat) * glw W) := by
  obtain ⟨g, g1, g2⟩ := zp_ext9 f hn
  rw [show zp f n = zp g W from funext fun x => (g1 x).symm]
  refine ps_lip W fun k hk => ?_
  show ab ((g k : Int) : Rat) _
  rw [g2 k hk]
  refine ab_nat ?_
  split
  · exact h k (by assumption)
  · exact Nat.zero_le _
theorem zp_bnd9 {f : Nat → Int} {n N W : Nat} (hn : n ≤ W) (h : ∀ k, k < n → (f k).natAbs ≤ N) : bnd (zp f n) ((N : Rat) * gpw W) := by
  obtain ⟨g, g1, g2⟩ := zp_ext9 f hn
  rw [show zp f n = zp g W from funext fun x => (g1 x).symm]
  refine ps_bnd W fun k hk => ?_
  show ab ((g k : Int) : Rat) _
  rw [g2 k hk]
  refine ab_nat ?_
  split
  · exact h k (by assumption)
  · exact Nat.zero_le _
theorem int_ge {c : Rat} (h0 : c ≠ 0) (h : ∃ z : Int, c = (z : Rat)) : 1 ≤ c ∨ c ≤ -1 := by
  obtain ⟨z, rfl⟩ := h
  have hz : z ≠ 0 := fun w => h0 (by rw [w]; rfl)
  rcases Int.lt_or_le z 0 with w | w
  · right
    have : ((z : Int) : Rat) ≤ (((-1) : Int) : Rat) := Rat.intCast_le_intCast.mpr (by omega)
    exact this
  · left
    have : ((1 : Int) : Rat) ≤ ((z : Int) : Rat) := Rat.intCast_le_intCast.mpr (by omega)
    exact this
def epsH : Rat := 256 * (((2 ^ 389 : Nat) : Int) : Rat)⁻¹
theorem vst_le {F : Nat → Rat} : ∀ k, 0 ≤ (vst F k).2 ∧ ((vst F k).1 = 0 → (vst F k).2 = 0) ∧ ((vst F k).1 ≠ 0 → (vst F k).2 + 1 ≤ k) := by
  intro k
  induction k with
  | zero => simp [vst]
  | succ k ih =>
    obtain ⟨h0, h1, h2⟩ := ih
    simp only [vst]
    split
    · refine ⟨h0, h1, fun w => ?_⟩
      have := h2 w; omega
    · rename_i hs
      refine ⟨?_, fun w => absurd w hs, fun _ => ?_⟩
      · simp only; split <;> omega
      · simp only
        split
        · rename_i q
          by_cases w : (vst F k).1 = 0
          · rw [w] at q; omega
          · have := h2 w; omega
        · by_cases w : (vst F k).1 = 0
          · have := h1 w; omega
          · have := h2 w; omega
theorem vch_le {F : Nat → Rat} {m : Nat} : 0 ≤ vch F m ∧ (vch F m + 1 ≤ m ∨ vch F m = 0) := by
  unfold vch
  obtain ⟨h0, h1, h2⟩ := vst_le (F := F) m
  refine ⟨h0, ?_⟩
  by_cases w : (vst F m).1 = 0
  · exact .inr (h1 w)
  · exact .inl (h2 w)
theorem num_big : (24000 : Nat) ^ 14 ≤ 2 ^ 210 := Nat.le_of_ble_eq_true rfl
theorem eps_pos : 0 < epsH := Rat.mul_pos (by decide) (pos_inv (r2_pos 389)).1
theorem gpw8 : gpw 8 = (((567382630219905 : Nat) : Int) : Rat) := by decide +kernel
theorem glw9 : glw 9 = (((4534593461993729 : Nat) : Int) : Rat) := by decide +kernel
theorem glw8 : glw 8 = (((30993834623233 : Nat) : Int) : Rat) := by decide +kernel
/-- a product of whole numbers times the width -/
theorem eps_nat {N : Nat} (h : N * 256 < 2 ^ 389) : ((N : Int) : Rat) * epsH < 1 := by
  unfold epsH
  obtain ⟨x1, x2⟩ := pos_inv (r2_pos 389)
  have h1 : ((((N * 256 : Nat) : Int)) : Rat) < (((2 ^ 389 : Nat) : Int) : Rat) := Rat.intCast_lt_intCast.mpr (Int.ofNat_lt.mpr h)
  rw [Int.natCast_mul, Rat.intCast_mul] at h1
  have h2 := Rat.mul_lt_mul_of_pos_right h1 x1
  rw [Rat.mul_inv_cancel _ (fun w => by have := r2_pos 389; rw [w] at this; exact Rat.lt_irrefl this)] at h2
  have h3 : (((256 : Nat) : Int) : Rat) = 256 := rfl
  rw [h3] at h2
  have h4 : ((N : Int) : Rat) * (256 * (((2 ^ 389 : Nat) : Int) : Rat)⁻¹) = ((N : Int) : Rat) * 256 * (((2 ^ 389 : Nat) : Int) : Rat)⁻¹ := by grind
  rw [h4]; exact h2
theorem eps1 : 2 * (((2 ^ 210 : Nat) : Rat) * gpw 8) * (((2 ^ 65 : Nat) : Rat) * glw 9) * epsH < 1 := by
  have h := eps_nat (N := 2 * (2 ^ 210 * 567382630219905) * (2 ^ 65 * 4534593461993729)) (Nat.le_of_ble_eq_true rfl)
  rw [Int.natCast_mul, Int.natCast_mul, Int.natCast_mul, Int.natCast_mul, Rat.intCast_mul, Rat.intCast_mul, Rat.intCast_mul, Rat.intCast_mul] at h
  rw [gpw8, glw9]
  exact h
theorem eps2 : 4 * (((2 ^ 210 : Nat) : Rat) * gpw 8) * (((2 ^ 68 : Nat) : Rat) * glw 8) * epsH < 1 := by
  have h := eps_nat (N := 4 * (2 ^ 210 * 567382630219905) * (2 ^ 68 * 30993834623233)) (Nat.le_of_ble_eq_true rfl)
  rw [Int.natCast_mul, Int.natCast_mul, Int.natCast_mul, Int.natCast_mul, Rat.intCast_mul, Rat.intCast_mul, Rat.intCast_mul, Rat.intCast_mul] at h
  rw [gpw8, glw8]
  exact h
theorem nat_mul_pos {N : Nat} {x : Rat} (h : 0 < N) (hx : 0 < x) : 0 < (N : Rat) * x := Rat.mul_pos (Rat.natCast_pos.mpr h) hx
theorem wide_le {h : Nat} (hh : 389 ≤ h) (w : Int) : rpt h (w + 1) - rpt h w ≤ epsH := by
  rw [rpt_wide]
  unfold epsH
  have p1 := r2_pos 389
  have p2 := r2_pos h
  obtain ⟨x1, x2⟩ := pos_inv p1
  obtain ⟨y1, y2⟩ := pos_inv p2
  have h1 : (((2 ^ 389 : Nat) : Int) : Rat) ≤ (((2 ^ h : Nat) : Int) : Rat) := Rat.intCast_le_intCast.mpr (Int.ofNat_le.mpr (pw_le2 hh))
  generalize (((2 ^ 389 : Nat) : Int) : Rat) = X at *
  generalize (((2 ^ h : Nat) : Int) : Rat) = Y at *
  have h2 := Rat.mul_le_mul_of_nonneg_right h1 (Rat.le_of_lt (Rat.mul_pos x1 y1))
  have h3 : X * (X⁻¹ * Y⁻¹) = X⁻¹ * X * Y⁻¹ := by grind
  have h4 : Y * (X⁻¹ * Y⁻¹) = Y⁻¹ * Y * X⁻¹ := by grind
  rw [h3, h4, x2, y2] at h2
  grind
set_option maxHeartbeats 1000000 in
/-- over a span as short as that there is one root at most -/
theorem sepP {f : Nat → Int} {d : Nat} (hd : d ≤ 8) (hd1 : 1 ≤ d) (hf : f d ≠ 0) (hb : ∀ k, k ≤ d → (f k).natAbs ≤ 99) {F : Nat → Nat → Int} {n : Nat → Nat} {m : Nat} {s : pf} (hpc : pchain s (zF F n) n m) (hsm : smp (zp f (d + 1)) s) {x y : Rat} (i1 : iB x) (i2 : iB y) (i3 : x ≤ y) (hwd : y - x ≤ epsH) : vP (zp f (d + 1)) x ≤ vP (zp f (d + 1)) y + 1 := by
  have hst := hsm.stc hpc
  have eV : ∀ x, vP (zp f (d + 1)) x = vch (fun i => zF F n i x) m := fun x => vP_eq ⟨s, zF F n, n, m, hsm, hpc, rfl⟩
  have hf' : zder f (d - 1) ≠ 0 := zder_top hf hd1
  obtain ⟨g, s2, t2, e, a, ρ, ea, a1, g1, g2, g3, g4, ρ0, e1, e2, e3, e4⟩ := cof hd1 hf hf' zder_DD hsm
  rw [eV, eV]
  obtain ⟨l, l0, h4⟩ := hpc.2.2.2.1
  obtain ⟨l1, l2⟩ := pos_inv l0
  have l00 : l ≠ 0 := fun w => by rw [w] at l0; exact Rat.lt_irrefl l0
  have κ0 : ρ * l⁻¹ ≠ 0 := nz_mul ρ0 (nz_inv l00).1
  have hst2 := hst.scale κ0
  have eF0 : ∀ x, zF F n 0 x * (ρ * l⁻¹) = zp s2 (a + 1) x := fun x => by
    rw [h4, e3]
    have : l * s x * (ρ * l⁻¹) = l⁻¹ * l * (ρ * s x) := by grind
    rw [this, l2]; grind
  -- sizes
  have hq1 : ∀ t : Int, ∃ z : Int, zp f (d + 1) (t : Rat) = zp s2 (a + 1) (t : Rat) * (z : Rat) := fun t => by
    obtain ⟨z, hz⟩ := zp_int g t (e + 1)
    exact ⟨z, by rw [e1, hz]; grind⟩
  have bs2 := fac_bd hd (by omega) hf hb hq1
  have ed1 : d - 1 + 1 = d := by omega
  have hq2 : ∀ t : Int, ∃ z : Int, zp (zder f) (d - 1 + 1) (t : Rat) = zp t2 (a - 1 + 1) (t : Rat) * (z : Rat) := fun t => by
    obtain ⟨z, hz⟩ := zp_int g t (e + 1)
    exact ⟨z, by rw [ed1, show a - 1 + 1 = a by omega, e2, hz]; grind⟩
  have bz : ∀ k, k ≤ d - 1 → (zder f k).natAbs ≤ 800 := fun k hk => by
    unfold zder
    rw [Int.natAbs_mul, Int.natAbs_natCast]
    have h1 := hb (k + 1) (by omega)
    have h2 : (f (k + 1)).natAbs * (k + 1) ≤ 99 * 8 := Nat.mul_le_mul h1 (by omega)
    omega
  have bt2 := fac_bd8 (d := d - 1) (e := a - 1) (by omega) (by omega) hf' bz hq2
  -- a small mixture
  obtain ⟨U, V, c, c0, bU, bV, hc⟩ := bez_small (P := f) (Q := zder f) (dp := d) (dq := d - 1) (e := e) (a := a) (b := a - 1) (A := 800) (by decide) ea (by omega) (by omega) (zp_ex g2) (zp_ex g3) (by have := zp_ex g4; rwa [show a - 1 + 1 = a by omega] at this) e1 (fun x => by rw [ed1]; exact e2 x) e4 (fun k hk => by have := hb k hk; omega) bz
  have big : (2 * (a + (a - 1)) * 800) ^ (a + (a - 1) - 1) ≤ 2 ^ 210 := by
    refine Nat.le_trans ?_ num_big
    exact Nat.le_trans (Nat.pow_le_pow_left (show 2 * (a + (a - 1)) * 800 ≤ 24000 by omega) _) (Nat.pow_le_pow_right (by decide) (by omega))
  have cI : ∃ z : Int, c = (z : Rat) := by
    obtain ⟨z1, h1⟩ := zp_int U 0 (a - 1)
    obtain ⟨z2, h2⟩ := zp_int s2 0 (a + 1)
    obtain ⟨z3, h3⟩ := zp_int V 0 a
    obtain ⟨z4, h5⟩ := zp_int t2 0 a
    refine ⟨z1 * z2 + z3 * z4, ?_⟩
    have := hc ((0 : Int) : Rat)
    rw [h1, h2, h3, h5] at this
    rw [← this, Rat.intCast_add, Rat.intCast_mul, Rat.intCast_mul]
  have cge := int_ge c0 cI
  obtain ⟨ci, ci2⟩ := nz_inv c0
  have Ku0 : (0 : Rat) < ((2 ^ 210 : Nat) : Rat) * gpw 8 := nat_mul_pos (Nat.two_pow_pos _) (by rw [gpw8]; decide)
  have Ls0 : (0 : Rat) < ((2 ^ 65 : Nat) : Rat) * glw 9 := nat_mul_pos (Nat.two_pow_pos _) (by rw [glw9]; decide)
  have Lt0 : (0 : Rat) < ((2 ^ 68 : Nat) : Rat) * glw 8 := nat_mul_pos (Nat.two_pow_pos _) (by rw [glw8]; decide)
  have bu : bnd (fun x => zp U (a - 1) x * c⁻¹) (((2 ^ 210 : Nat) : Rat) * gpw 8) := fun x hx => by
    refine ab_div (d := c) ?_ cge
    have := zp_bnd9 (f := U) (n := a - 1) (N := 2 ^ 210) (W := 8) (by omega) (fun k hk => Nat.le_trans (bU k hk) big) x hx
    rwa [show c * (zp U (a - 1) x * c⁻¹) = c⁻¹ * c * zp U (a - 1) x by grind, ci2, Rat.one_mul]
  have bv : bnd (fun x => zp V a x * c⁻¹) (((2 ^ 210 : Nat) : Rat) * gpw 8) := fun x hx => by
    refine ab_div (d := c) ?_ cge
    have := zp_bnd9 (f := V) (n := a) (N := 2 ^ 210) (W := 8) (by omega) (fun k hk => Nat.le_trans (bV k hk) big) x hx
    rwa [show c * (zp V a x * c⁻¹) = c⁻¹ * c * zp V a x by grind, ci2, Rat.one_mul]
  have pp0 : PF (d + 1) (zp f (d + 1)) := zp_pf _ _
  obtain ⟨κ, k0, kD⟩ := hst2.2
  have DDp : DD (zp f (d + 1)) (fun z => zp g (e + 1) z * zp t2 a z) := by
    have := zder_DD (f := f) (d := d)
    rwa [show zp (zder f) d = fun z => zp g (e + 1) z * zp t2 a z from funext e2] at this
  have key := sep_short (F := fun i x => zF F n i x * (ρ * l⁻¹)) hst2.1 k0 kD (t := zp t2 a) (g := zp g (e + 1)) (p := zp f (d + 1)) (u := fun x => zp U (a - 1) x * c⁻¹) (v := fun x => zp V a x * c⁻¹) (zp_pp _ _) (zp_pp _ _) pp0 (fun z => by show _ = _ * (zF F n 0 z * (ρ * l⁻¹)); rw [eF0]; exact e1 z) DDp (zp_ex hf).nz (Ls := ((2 ^ 65 : Nat) : Rat) * glw 9) (Lt := ((2 ^ 68 : Nat) : Rat) * glw 8) (by show lip (fun x => zF F n 0 x * (ρ * l⁻¹)) _; rw [show (fun x => zF F n 0 x * (ρ * l⁻¹)) = zp s2 (a + 1) from funext eF0]; exact zp_lip9 (by omega) fun k hk => bs2 k (by omega)) (zp_lip9 (by omega) fun k hk => bt2 k (by omega)) Ls0 Lt0 bu bv Ku0 Ku0 (fun z _ => by
    show zp U (a - 1) z * c⁻¹ * (zF F n 0 z * (ρ * l⁻¹)) + zp V a z * c⁻¹ * zp t2 a z = 1
    rw [eF0]
    have := hc z
    have k1 : zp U (a - 1) z * c⁻¹ * zp s2 (a + 1) z + zp V a z * c⁻¹ * zp t2 a z = c⁻¹ * (zp U (a - 1) z * zp s2 (a + 1) z + zp V a z * zp t2 a z) := by grind
    rw [k1, this, ci2]) eps_pos eps1 eps2 i1 i2 i3 hwd
  have v1 : vch (fun i => zF F n i x * (ρ * l⁻¹)) m = vch (fun i => zF F n i x) m := vch_scale (F := fun i => zF F n i x) κ0 m
  have v2 : vch (fun i => zF F n i y * (ρ * l⁻¹)) m = vch (fun i => zF F n i y) m := vch_scale (F := fun i => zF F n i y) κ0 m
  have key' : vch (fun i => zF F n i x * (ρ * l⁻¹)) m ≤ vch (fun i => zF F n i y * (ρ * l⁻¹)) m + 1 := key
  rw [v1, v2] at key'
  omega
set_option maxHeartbeats 1000000 in
theorem gdN_of {f : Nat → Int} {d : Nat} (hd : d ≤ 8) (hd1 : 1 ≤ d) (hf : f d ≠ 0) (hb : ∀ k, k ≤ d → (f k).natAbs ≤ 99) {F : Nat → Nat → Int} {n : Nat → Nat} {m : Nat} {s : pf} (hpc : pchain s (zF F n) n m) (hsm : smp (zp f (d + 1)) s) : gdN (nR (zp f (d + 1))) := by
  have hst := hsm.stc hpc
  have eV : ∀ x, vP (zp f (d + 1)) x = vch (fun i => zF F n i x) m := fun x => vP_eq ⟨s, zF F n, n, m, hsm, hpc, rfl⟩
  have iBw : ∀ h w, 0 ≤ w → w < ((2 ^ h : Nat) : Int) → iB (rpt h w) ∧ iB (rpt h (w + 1)) ∧ rpt h w ≤ rpt h (w + 1) := fun h w h0 h1 => ⟨rpt_iB h0 (by omega), rpt_iB (by omega) (by omega), rpt_mono (by omega)⟩
  have hf' : zder f (d - 1) ≠ 0 := zder_top hf hd1
  obtain ⟨g, s2, t2, e, a, ρ, ea, a1, g1, g2, g3, g4, ρ0, e1, e2, e3, e4⟩ := cof hd1 hf hf' zder_DD hsm
  refine ⟨fun h w h0 h1 => ?_, fun h w => nR_half _ h w, ?_, fun h w hh h0 h1 => ?_⟩
  · obtain ⟨i1, i2, i3⟩ := iBw h w h0 h1
    unfold nR
    rw [eV, eV]
    have := hst.mono i1 i2 i3
    omega
  · -- at most as many as its degree
    unfold nR
    rw [eV, eV]
    obtain ⟨h1, h2, h3, ⟨l, l0, h4⟩, s', h5, h6, β, β0, h7⟩ := hpc
    have hn0 : n 0 = a := by
      have k1 := h2.1 0 (by omega)
      have k2 := ((zp_ex g3).smul (p := l * ρ⁻¹) (nz_mul (fun w => by rw [w] at l0; exact Rat.lt_irrefl l0) (nz_inv ρ0).1)).congr (g := zF F n 0) fun x => by
        rw [h4, e3]
        have := (nz_inv ρ0).2
        have k3 : l * ρ⁻¹ * (ρ * s x) = ρ⁻¹ * ρ * (l * s x) := by grind
        rw [k3, this]; grind
      exact k1.uniq k2
    have hn1 : n 1 < a := by
      have k1 := h2.1 1 (by omega)
      obtain ⟨c, hc, -⟩ := h2.1 0 (by omega)
      have k2 := ps_DD c (n 0)
      rw [show ps c (n 0 + 1) = zF F n 0 from funext fun x => (hc x).symm] at k2
      have k3 := h6.smul l
      rw [show (fun x => l * s x) = zF F n 0 from funext fun x => (h4 x).symm] at k3
      have k4 := k3.same k2 (h5.smul l) ⟨_, dco c, fun _ => rfl⟩
      rcases Nat.lt_or_ge (n 1) a with w | w
      · exact w
      · exfalso
        obtain ⟨i1, i2⟩ := pos_inv l0
        have k5 : PF (n 0) (zF F n 1) := (PF.smul (⟨dco c, fun _ => rfl⟩ : PF (n 0) (ps (dco c) (n 0))) (β * l⁻¹)).congr fun x => by
          rw [← k4 x, h7]
          have k6 : β * l⁻¹ * (l * s' x) = l⁻¹ * l * (β * s' x) := by grind
          rw [k6, i2]; grind
        exact k1.no (k5.mono (by omega))
    have hdesc := h2.desc (m - 2) 1 (by omega) (by omega)
    have q1 := (vch_le (F := fun i => zF F n i (rpt 0 0)) (m := m))
    have q2 := (vch_le (F := fun i => zF F n i (rpt 0 (0 + 1))) (m := m))
    omega
  · have hwd := wide_le hh w
    obtain ⟨i1, i2, i3⟩ := iBw h w h0 h1
    have := sepP hd hd1 hf hb hpc hsm i1 i2 i3 hwd
    unfold nR
    omega
theorem chB.gd {f : Nat → Int} {d : Nat} {D : Dat} {b : Nat} (h : chB (zp f (d + 1)) D b) (hd : d ≤ 8) (hd1 : 1 ≤ d) (hf : f d ≠ 0) (hb : ∀ k, k ≤ d → (f k).natAbs ≤ 99) : gdN (nR (zp f (d + 1))) := by
  obtain ⟨F, n, m, s, -, -, -, h1, h2⟩ := h
  exact gdN_of hd hd1 hf hb h1 h2
