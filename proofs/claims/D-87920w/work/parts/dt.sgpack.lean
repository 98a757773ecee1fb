/-! the sign: what both sides need to know beforehand, and what they answer -/
-- needs: ds.msgn4
set_option maxRecDepth 100000
set_option linter.unusedVariables false
theorem zsm_128 : ∀ d : Nat, 127 * zsm 128 d = 128 ^ d - 1 := by
  intro d
  induction d with
  | zero => rw [Rat.pow_zero]; show (127 : Rat) * 0 = 1 - 1; grind
  | succ d ih =>
    show 127 * (zsm 128 d + 128 ^ d) = 128 ^ (d + 1) - 1
    rw [Rat.pow_succ]; grind
/-- no root at -128 -/
theorem no_128 {f : Nat → Int} {d : Nat} (hf : f d ≠ 0) (hb : ∀ k, k ≤ d → (f k).natAbs ≤ 99) : zp f (d + 1) (-128) ≠ 0 := by
  intro h0
  have e : zp f (d + 1) (-128) = zp f d (-128) + ((f d : Int) : Rat) * (-128) ^ d := rfl
  rw [e] at h0
  have h1 : ab (zp f d (-128)) (99 * zsm 128 d) := zp_bd (by unfold ab; decide) d fun k hk => ab_nat (N := 99) (hb k (by omega))
  have h2 := zsm_128 d
  have hp : (0 : Rat) < 128 ^ d := Rat.pow_pos (by decide)
  have hs : (-128 : Rat) ^ d = 128 ^ d ∨ (-128 : Rat) ^ d = - 128 ^ d := by
    clear h0 e h1 h2 hp
    induction d with
    | zero => left; rfl
    | succ d ih =>
      rw [Rat.pow_succ, Rat.pow_succ]
      have ih' : (-128 : Rat) ^ d = 128 ^ d ∨ (-128 : Rat) ^ d = - 128 ^ d := by
        have key : ∀ n : Nat, (-128 : Rat) ^ n = 128 ^ n ∨ (-128 : Rat) ^ n = - 128 ^ n := by
          intro n
          induction n with
          | zero => left; rfl
          | succ n ihn =>
            rw [Rat.pow_succ, Rat.pow_succ]
            rcases ihn with q | q <;> rw [q]
            · right; grind
            · left; grind
        exact key d
      rcases ih' with q | q <;> rw [q]
      · right; grind
      · left; grind
  have hge := int_ge (c := ((f d : Int) : Rat)) (fun w => hf (Rat.intCast_inj.mp (w.trans Rat.intCast_zero.symm))) ⟨_, rfl⟩
  generalize (128 : Rat) ^ d = X at *
  unfold ab at h1
  have hX : X ≤ 99 * zsm 128 d := by
    rcases hs with q | q <;> rw [q] at h0 <;> rcases hge with r | r
    · have := Rat.mul_le_mul_of_nonneg_right r (Rat.le_of_lt hp); grind
    · have := Rat.mul_le_mul_of_nonneg_right r (Rat.le_of_lt hp); grind
    · have := Rat.mul_le_mul_of_nonneg_right r (Rat.le_of_lt hp); grind
    · have := Rat.mul_le_mul_of_nonneg_right r (Rat.le_of_lt hp); grind
  grind
theorem wide2_le {h : Nat} (hh : 390 ≤ h) (w : Int) : rpt h (w + 1) - rpt h (w - 1) ≤ epsH := by
  have e1 := rpt_wide h w
  have e2 := rpt_wide h (w - 1)
  rw [show w - 1 + 1 = w by omega] at e2
  obtain ⟨k, rfl⟩ : ∃ k, h = k + 1 := ⟨h - 1, by omega⟩
  have e3 := wide_le (h := k) (by omega) 0
  rw [rpt_wide] at e3
  have p1 := r2_pos k
  obtain ⟨x1, x2⟩ := pos_inv p1
  have p2 := r2_pos (k + 1)
  obtain ⟨y1, y2⟩ := pos_inv p2
  have e4 : 2 * (((2 ^ (k + 1) : Nat) : Int) : Rat)⁻¹ = (((2 ^ k : Nat) : Int) : Rat)⁻¹ := by
    have e5 : (((2 ^ (k + 1) : Nat) : Int) : Rat) = (((2 ^ k : Nat) : Int) : Rat) * 2 := by rw [Nat.pow_succ, Int.natCast_mul, Rat.intCast_mul]; rfl
    rw [e5] at y2 ⊢
    generalize (((2 ^ k : Nat) : Int) : Rat) = X at *
    have : X⁻¹ * X * (2 * (X * 2)⁻¹) = X⁻¹ * ((X * 2)⁻¹ * (X * 2)) := by grind
    rw [x2, y2] at this
    grind
  grind
/-- far down the low end is no root beside the one within -/
theorem low_nz {f : Nat → Int} {d : Nat} (hd : d ≤ 8) (hd1 : 1 ≤ d) (hf : f d ≠ 0) (hb : ∀ k, k ≤ d → (f k).natAbs ≤ 99) {F : Nat → Nat → Int} {n : Nat → Nat} {m : Nat} {s : pf} (hpc : pchain s (zF F n) n m) (hsm : smp (zp f (d + 1)) s) {h : Nat} {w : Int} (hh : 390 ≤ h) (h0 : 0 ≤ w) (h1 : w < ((2 ^ h : Nat) : Int)) (hn : nR (zp f (d + 1)) h w = 1) : s (rpt h w) ≠ 0 := by
  intro hs0
  have hst := hsm.stc hpc
  obtain ⟨l, l0, hl⟩ := hpc.2.2.2.1
  have eV : ∀ x, vP (zp f (d + 1)) x = vch (fun i => zF F n i x) m := fun x => vP_eq ⟨s, zF F n, n, m, hsm, hpc, rfl⟩
  rcases Int.lt_or_le 0 w with q | q
  · have ix : iB (rpt h (w - 1)) := rpt_iB (by omega) (by omega)
    have iy : iB (rpt h w) := rpt_iB (by omega) (by omega)
    have iz : iB (rpt h (w + 1)) := rpt_iB (by omega) (by omega)
    have hsep := sepP hd hd1 hf hb hpc hsm ix iz (rpt_mono (by omega)) (wide2_le hh w)
    have hmono := hst.mono ix iy (rpt_mono (by omega))
    have hlt : rpt h (w - 1) < rpt h w := by
      have e2 := rpt_wide h (w - 1)
      rw [show w - 1 + 1 = w by omega] at e2
      have := (pos_inv (r2_pos h)).1
      have : (0 : Rat) < 256 * (((2 ^ h : Nat) : Int) : Rat)⁻¹ := Rat.mul_pos (by decide) this
      grind
    have hne : cnt (zF F n) m (rpt h (w - 1)) ≠ cnt (zF F n) m (rpt h w) := fun e => by
      have hnz : ¬ ∀ x, zF F n 0 x = 0 := (hpc.2.1.1 0 (by have := hpc.1; omega)).nz
      refine hst.behind hnz ix iy e hlt Rat.le_refl ?_
      rw [hl, hs0]; grind
    unfold nR at hn
    rw [eV, eV] at hn
    rw [eV, eV] at hsep
    have e1 : cnt (zF F n) m (rpt h (w - 1)) = vch (fun i => zF F n i (rpt h (w - 1))) m := rfl
    have e2 : cnt (zF F n) m (rpt h w) = vch (fun i => zF F n i (rpt h w)) m := rfl
    omega
  · have : w = 0 := by omega
    subst this
    rw [rpt_lo] at hs0
    obtain ⟨_, _, _, r, t, p', _, _, _, h7, _⟩ := hsm.shr
    exact no_128 hf hb (by rw [h7, hs0]; grind)
/-- the component's search ends: far down the other one has no root in the span -/
theorem csign_stop {f g : Nat → Int} {d dq : Nat} (hd : d ≤ 8) (hd1 : 1 ≤ d) (hdq : dq ≤ 8) (hf : f d ≠ 0) (hg : g dq ≠ 0) (bf : ∀ k, k ≤ d → (f k).natAbs ≤ 99) (bg : ∀ k, k ≤ dq → (g k).natAbs ≤ 99) {D1 D2 : Dat} {b1 b2 : Nat} (hp : chB (zp f (d + 1)) D1 b1) (hq : chB (zp g (dq + 1)) D2 b2) {C : Nat → pf} {mg : Nat} {e : pf} (hC : stc C mg) (hc : shr (C 0) e) (he : ∃ c1 c2 U V : pf, PP c1 ∧ PP c2 ∧ PP U ∧ PP V ∧ (∀ z, zp f (d + 1) z = c1 z * e z) ∧ (∀ z, zp g (dq + 1) z = c2 z * e z) ∧ ∀ z, e z = U z * zp f (d + 1) z + V z * zp g (dq + 1) z) {lo hi : Rat} (hlo : iB lo) (hhi : iB hi) (hc0 : cnt C mg lo = cnt C mg hi) :
    (∀ h w, 389 ≤ h → 0 ≤ w → w < ((2 ^ h : Nat) : Int) → lo ≤ rpt h w → rpt h (w + 1) ≤ hi → nR (zp f (d + 1)) h w = 1 → nR (zp g (dq + 1)) h w = 0) ∧ (∀ h w, 0 ≤ w → w < ((2 ^ h : Nat) : Int) → 0 ≤ nR (zp g (dq + 1)) h w) := by
  obtain ⟨F, n, m, a1, a2, a3, a4, a5, a6, a7⟩ := hp.stc
  obtain ⟨F', n', m', b1, b2, b3, b4, b5, b6, b7⟩ := hq.stc
  have eP : ∀ x, vP (zp f (d + 1)) x = cnt (zF F n) m x := fun x => vP_eq (a7 x)
  have eQ : ∀ x, vP (zp g (dq + 1)) x = cnt (zF F' n') m' x := fun x => vP_eq (b7 x)
  refine ⟨fun h w hh h0 h1 l1 l2 hn => ?_, fun h w h0 h1 => ?_⟩
  · have ix : iB (rpt h w) := rpt_iB h0 (by omega)
    have iy : iB (rpt h (w + 1)) := rpt_iB (by omega) (by omega)
    have hlt : rpt h w < rpt h (w + 1) := by
      have e2 := rpt_wide h w
      have := (pos_inv (r2_pos h)).1
      have : (0 : Rat) < 256 * (((2 ^ h : Nat) : Int) : Rat)⁻¹ := Rat.mul_pos (by decide) this
      grind
    have m1 := hC.mono hlo ix l1
    have m2 := hC.mono ix iy (Rat.le_of_lt hlt)
    have m3 := hC.mono iy hhi l2
    unfold nR at hn ⊢
    rw [eP, eP] at hn
    rw [eQ, eQ]
    have := sep_pq hd hdq hf hg bf bg a5 a6 hC hc b5 b6 he ix iy hlt (wide_le hh w) (by show cnt C mg _ = cnt C mg _; unfold cnt at hc0 ⊢; omega) (by omega)
    omega
  · unfold nR
    rw [eQ, eQ]
    have := b5.mono (rpt_iB h0 (show w ≤ ((2 ^ h : Nat) : Int) by omega)) (rpt_iB (show 0 ≤ w + 1 by omega) (show w + 1 ≤ ((2 ^ h : Nat) : Int) by omega)) (rpt_mono (h := h) (show w ≤ w + 1 by omega))
    unfold cnt
    omega
