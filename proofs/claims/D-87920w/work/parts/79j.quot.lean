/-! quotients of rows of whole numbers -/
-- pure
-- needs: 79i.simple
set_option maxRecDepth 100000
set_option linter.unusedVariables false
/-- a row cut behind d -/
def cut (f : Nat → Int) (d : Nat) : Nat → Int := fun k => if k ≤ d then f k else 0
theorem cut_zp (f : Nat → Int) {d n : Nat} (h : d + 1 ≤ n) (x : Rat) : zp (cut f d) n x = zp f (d + 1) x := by
  show ps (zq (cut f d)) n x = ps (zq f) (d + 1) x
  rw [show n = d + 1 + (n - (d + 1)) by omega, ps_ext (n - (d + 1)) (fun k h1 h2 => by
    show ((cut f d k : Int) : Rat) = 0
    unfold cut; rw [if_neg (by omega)]; rfl)]
  exact ps_congr (fun k hk => by show ((cut f d k : Int) : Rat) = ((f k : Int) : Rat); unfold cut; rw [if_pos (by omega)]) x
/-- a primitive row that divides -/
theorem quo_ex {f g : Nat → Int} {d e : Nat} (hp : zprim g (e + 1)) (hg : g e ≠ 0) (hf : f d ≠ 0) (h : ∃ u : pf, PP u ∧ ∀ x, zp f (d + 1) x = u x * zp g (e + 1) x) : e ≤ d ∧ ∃ h : Nat → Int, (∀ k, d - e < k → h k = 0) ∧ h (d - e) ≠ 0 ∧ (∀ x, zp f (d + 1) x = zp g (e + 1) x * zp h (d - e + 1) x) ∧ ∀ k, k ≤ d → f k = zcv g h (e + 1) k := by
  obtain ⟨u, hu, hx⟩ := h
  have u0 : ¬ ∀ x, u x = 0 := fun w => (zp_ex hf).nz fun x => by rw [hx, w]; grind
  obtain ⟨a, ha⟩ := hu.ex u0
  have hda := ((ha.mul (zp_ex hg)).congr hx).uniq (zp_ex hf)
  have hed : e ≤ d := by omega
  refine ⟨hed, ?_⟩
  obtain ⟨q, hq, hq0⟩ := ha
  have ea : a = d - e := by omega
  rw [ea] at hq hq0
  obtain ⟨z, hz⟩ := gaussQ (g := g) (p := cut f d) (q := q) (n := e + 1) (m := d - e + 1) hp (fun x => by
    rw [show e + 1 + (d - e + 1) = d + 2 by omega]
    have := cut_zp f (d := d) (n := d + 2) (by omega) x
    show _ = zp (cut f d) (d + 2) x
    rw [this, hx x, hq x]
    show zp g (e + 1) x * _ = _
    grind)
  refine ⟨cut z (d - e), fun k hk => by unfold cut; rw [if_neg (by omega)], ?_, ?_, ?_⟩
  · unfold cut; rw [if_pos (Nat.le_refl _)]
    intro w
    have := hz (d - e) (by omega)
    rw [w] at this
    exact hq0 this
  · intro x
    rw [cut_zp _ (Nat.le_refl _), hx x, hq x]
    have : zp z (d - e + 1) x = ps q (d - e + 1) x := ps_congr (fun k hk => (hz k hk).symm) x
    rw [this]; grind
  · have key : ∀ x, ps (zq (zcv g (cut z (d - e)) (e + 1))) (d + 2) x = ps (zq (cut f d)) (d + 2) x := fun x => by
      have h1 := zcv_ps g (cut z (d - e)) (d - e + 1) (fun k hk => by unfold cut; rw [if_neg (by omega)]) x (e + 1)
      rw [show e + 1 + (d - e + 1) = d + 2 by omega] at h1
      rw [h1]
      have h2 := cut_zp f (d := d) (n := d + 2) (by omega) x
      have h3 := cut_zp z (d := d - e) (n := d - e + 1) (Nat.le_refl _) x
      show _ = zp (cut f d) (d + 2) x
      rw [h2, hx x, hq x]
      show zp g (e + 1) x * zp (cut z (d - e)) (d - e + 1) x = _
      rw [h3]
      have : zp z (d - e + 1) x = ps q (d - e + 1) x := ps_congr (fun k hk => (hz k hk).symm) x
      rw [this]; grind
    intro k hk
    have := ps_inj key k (by omega)
    have h4 : cut f d k = f k := by unfold cut; rw [if_pos hk]
    rw [← h4]
    exact (Rat.intCast_inj.mp this).symm
/-- a primitive row's multiple is one by a whole number -/
theorem prim_mul {f g : Nat → Int} {d : Nat} (hp : zprim g (d + 1)) (hg : g d ≠ 0) (hf : f d ≠ 0) {l : Rat} (h : ∀ x, zp f (d + 1) x = l * zp g (d + 1) x) : ∃ z : Int, z ≠ 0 ∧ (∀ k, k ≤ d → f k = z * g k) ∧ (0 < l → 0 < z) := by
  obtain ⟨-, q, q1, q2, q3, q4⟩ := quo_ex hp hg hf ⟨fun _ => l, PP.const l, h⟩
  rw [Nat.sub_self] at q1 q2 q3
  have e : ∀ k, zcv g q (d + 1) k = if k ≤ d then q 0 * g k else 0 := by
    have key : ∀ n k, zcv g q n k = if k < n then q 0 * g k else 0 := by
      intro n
      induction n with
      | zero => intro k; rfl
      | succ n ih =>
        intro k
        simp only [zcv]
        rw [ih]
        rcases Nat.lt_trichotomy k n with w | w | w
        · rw [if_pos w, if_pos w, if_pos (by omega)]; omega
        · subst w; rw [if_neg (by omega), if_neg (by omega), if_pos (by omega), Nat.sub_self, Int.mul_comm]; omega
        · rw [if_neg (by omega), if_neg (by omega), if_neg (by omega), q1 (k - n) (by omega)]; omega
    intro k
    rw [key]
    by_cases w : k ≤ d
    · rw [if_pos w, if_pos (by omega)]
    · rw [if_neg w, if_neg (by omega)]
  have fk : ∀ k, k ≤ d → f k = q 0 * g k := fun k hk => by rw [q4 k hk, e k, if_pos hk]
  refine ⟨q 0, q2, fk, fun l0 => ?_⟩
  -- the sign
  have h1 : ∀ x, zp f (d + 1) x = (q 0 : Rat) * zp g (d + 1) x := fun x => by rw [← zp_smul]; exact zp_congr (fun k hk => fk k (by omega)) x
  have h2 : ∀ x, zp g (d + 1) x * l = zp g (d + 1) x * ((q 0 : Int) : Rat) := fun x => by have := h x; have := h1 x; grind
  have h3 := PP.cancel (zp_pp g (d + 1)) (PP.const l) (PP.const ((q 0 : Int) : Rat)) (zp_ex hg).nz h2 0
  rw [h3] at l0
  exact Rat.intCast_pos.mp l0
theorem zprim_le {f g : Nat → Int} {d : Nat} (hp : zprim g (d + 1)) (hg : g d ≠ 0) (hf : f d ≠ 0) {l : Rat} (h : ∀ x, zp f (d + 1) x = l * zp g (d + 1) x) : ∀ k, k ≤ d → (g k).natAbs ≤ (f k).natAbs := fun k hk => by
  obtain ⟨z, z0, hz, -⟩ := prim_mul hp hg hf h
  rw [hz k hk, Int.natAbs_mul]
  exact Nat.le_mul_of_pos_left _ (by omega)
