/-! fine cells: where a row of functions changes its signs -/
set_option maxRecDepth 100000
set_option linter.unusedVariables false
def sgr (x : Rat) : Int := if 0 < x then 1 else if x < 0 then -1 else 0
theorem sgr_pos {x : Rat} (h : 0 < x) : sgr x = 1 := if_pos h
theorem sgr_neg {x : Rat} (h : x < 0) : sgr x = -1 := by unfold sgr; rw [if_neg (by grind), if_pos h]
theorem sgr_zero : sgr 0 = 0 := by decide
/-- f keeps the sign g between x and y; g is 1 or -1 -/
def fxw (g : Int) (f : pf) (x y : Rat) : Prop := (g = 1 ∧ ∀ z, x ≤ z → z ≤ y → 0 < f z) ∨ (g = -1 ∧ ∀ z, x ≤ z → z ≤ y → f z < 0)
/-- and keeps away from 0 -/
def fxs (g : Int) (f : pf) (x y : Rat) : Prop := ∃ d : Rat, 0 < d ∧ ((g = 1 ∧ ∀ z, x ≤ z → z ≤ y → d ≤ f z) ∨ (g = -1 ∧ ∀ z, x ≤ z → z ≤ y → f z ≤ -d))
theorem fxs.w {g : Int} {f : Rat → Rat} {x y : Rat} (h : fxs g f x y) : fxw g f x y := by
  obtain ⟨d, h0, ⟨e, h⟩ | ⟨e, h⟩⟩ := h
  · exact Or.inl ⟨e, fun z a b => by have := h z a b; grind⟩
  · exact Or.inr ⟨e, fun z a b => by have := h z a b; grind⟩
theorem fxw.at {g : Int} {f : Rat → Rat} {x y z : Rat} (h : fxw g f x y) (h1 : x ≤ z) (h2 : z ≤ y) : sgr (f z) = g := by
  rcases h with ⟨rfl, h⟩ | ⟨rfl, h⟩
  · exact sgr_pos (h z h1 h2)
  · exact sgr_neg (h z h1 h2)
theorem fxs.at {g : Int} {f : Rat → Rat} {x y z : Rat} (h : fxs g f x y) (h1 : x ≤ z) (h2 : z ≤ y) : sgr (f z) = g := h.w.at h1 h2
theorem fxs.unit {g : Int} {f : Rat → Rat} {x y : Rat} (h : fxs g f x y) : g = 1 ∨ g = -1 := by obtain ⟨d, h0, ⟨h, _⟩ | ⟨h, _⟩⟩ := h <;> omega
theorem fxs.sub {g : Int} {f : Rat → Rat} {x y x' y' : Rat} (h : fxs g f x y) (h1 : x ≤ x') (h2 : y' ≤ y) : fxs g f x' y' := by
  obtain ⟨d, h0, ⟨e, h⟩ | ⟨e, h⟩⟩ := h
  · exact ⟨d, h0, Or.inl ⟨e, fun z a b => h z (by grind) (by grind)⟩⟩
  · exact ⟨d, h0, Or.inr ⟨e, fun z a b => h z (by grind) (by grind)⟩⟩
/-- the count of changes along a row, and the last sign: as a loop goes -/
def vst (F : Nat → Rat) : Nat → Int × Int
  | 0 => (0, 0)
  | k + 1 => let s := sgr (F k); if s = 0 then vst F k else (s, (vst F k).2 + if (vst F k).1 = -s then 1 else 0)
def vch (F : Nat → Rat) (m : Nat) : Int := (vst F m).2
theorem vst_step {F : Nat → Rat} {k : Nat} {g : Int} (hg : g = 1 ∨ g = -1) (h : sgr (F k) = g) : vst F (k + 1) = (g, (vst F k).2 + if (vst F k).1 = -g then 1 else 0) := by
  simp only [vst, h]
  rw [if_neg (by omega)]
theorem vst_skip {F : Nat → Rat} {k : Nat} (h : sgr (F k) = 0) : vst F (k + 1) = vst F k := by
  simp only [vst, h]; rw [if_pos trivial]
theorem sgr_cases (x : Rat) : sgr x = 1 ∨ sgr x = -1 ∨ sgr x = 0 := by unfold sgr; split <;> (try split) <;> simp
theorem vst_fst (F : Nat → Rat) : ∀ k, (vst F k).1 = 1 ∨ (vst F k).1 = -1 ∨ (vst F k).1 = 0 := by
  intro k
  induction k with
  | zero => simp [vst]
  | succ k ih =>
    rcases sgr_cases (F k) with h | h | h
    · rw [vst_step (Or.inl rfl) h]; simp
    · rw [vst_step (Or.inr rfl) h]; simp
    · rw [vst_skip h]; exact ih
/-- a row over a cell: what isn't kept lies between two kept ones of opposite signs -/
def cellOK (F : Nat → pf) (m : Nat) (x y : Rat) : Prop := ∀ i, 1 ≤ i → i < m → (∃ g, fxs g (F i) x y) ∨ (i + 1 < m ∧ ∃ g, fxs g (F (i - 1)) x y ∧ fxs (-g) (F (i + 1)) x y)
/-- the same difference from a kept one on -/
theorem cell_tail {F : Nat → pf} {m : Nat} {x y : Rat} (hxy : x ≤ y) (h : cellOK F m x y) {j : Nat} (hj : 1 ≤ j) (hjm : j ≤ m) {g : Int} (hk : fxs g (F (j - 1)) x y) {d : Int} (hd : (vst (fun i => F i x) j).2 = (vst (fun i => F i y) j).2 + d) (hx : (vst (fun i => F i x) j).1 = g) (hy : (vst (fun i => F i y) j).1 = g) :
    ∀ (n k : Nat), j ≤ k → k + n = m → ∀ g, fxs g (F (k - 1)) x y → (vst (fun i => F i x) k).2 = (vst (fun i => F i y) k).2 + d → (vst (fun i => F i x) k).1 = g → (vst (fun i => F i y) k).1 = g → vch (fun i => F i x) m = vch (fun i => F i y) m + d := by
  intro n
  induction n using Nat.strongRecOn with
  | ind n ih =>
    intro k hk hn g hg h1 h2 h3
    match n, ih, hn with
    | 0, _, hn => have : k = m := by omega
                  subst this; exact h1
    | n + 1, ih, hn =>
      rcases h k (by omega) (by omega) with ⟨g', hg'⟩ | ⟨hkm, g', hg1, hg2⟩
      · have ex := vst_step (F := fun i => F i x) hg'.unit (hg'.at Rat.le_refl hxy)
        have ey := vst_step (F := fun i => F i y) hg'.unit (hg'.at hxy Rat.le_refl)
        refine ih n (by omega) (k + 1) (by omega) (by omega) g' (by rw [Nat.add_sub_cancel]; exact hg') ?_ (by rw [ex]) (by rw [ey])
        rw [ex, ey, h2, h3, h1]; simp only []; omega
      · have egg : g' = g := by
          have a1 := hg1.at Rat.le_refl hxy
          have a2 := hg.at Rat.le_refl hxy
          rw [← a1, ← a2]
        subst egg
        match n, ih, hn with
        | 0, _, hn => exact absurd hkm (by omega)
        | n + 1, ih, hn =>
          have gu := hg.unit
          have key : ∀ z, x ≤ z → z ≤ y → (vst (fun i => F i z) k).1 = g' → vst (fun i => F i z) (k + 2) = (-g', (vst (fun i => F i z) k).2 + 1) := by
            intro z z1 z2 hz
            have e2 := vst_step (F := fun i => F i z) (k := k + 1) hg2.unit (hg2.at z1 z2)
            rw [e2]
            rcases sgr_cases (F k z) with q | q | q
            · rw [vst_step (F := fun i => F i z) (Or.inl rfl) q, hz]
              simp only []
              rcases gu with e | e <;> subst e <;> simp
            · rw [vst_step (F := fun i => F i z) (Or.inr rfl) q, hz]
              simp only []
              rcases gu with e | e <;> subst e <;> simp
            · rw [vst_skip (F := fun i => F i z) q, hz]
              rcases gu with e | e <;> subst e <;> simp
          have ex := key x Rat.le_refl hxy h2
          have ey := key y hxy Rat.le_refl h3
          refine ih n (by omega) (k + 2) (by omega) (by omega) (-g') (by rw [show k + 2 - 1 = k + 1 by omega]; exact hg2) ?_ (by rw [ex]) (by rw [ey])
          rw [ex, ey, h1]; simp only []; omega
/-- the first one kept: nothing changes -/
theorem cell_kept {F : Nat → pf} {m : Nat} {x y : Rat} (hxy : x ≤ y) (h : cellOK F m x y) (hm : 1 ≤ m) {g : Int} (hk : fxs g (F 0) x y) : vch (fun i => F i x) m = vch (fun i => F i y) m := by
  have ex := vst_step (F := fun i => F i x) (k := 0) hk.unit (hk.at Rat.le_refl hxy)
  have ey := vst_step (F := fun i => F i y) (k := 0) hk.unit (hk.at hxy Rat.le_refl)
  have := cell_tail (d := 0) hxy h (j := 1) (by omega) hm (g := g) hk (by rw [ex, ey]; rcases hk.unit with e | e <;> subst e <;> simp [vst]) (by rw [ex]) (by rw [ey]) (m - 1) 1 (by omega) (by omega) g hk (by rw [ex, ey]; rcases hk.unit with e | e <;> subst e <;> simp [vst]) (by rw [ex]) (by rw [ey])
  omega
/-- the second one kept: the first one's signs decide -/
theorem cell_head {F : Nat → pf} {m : Nat} {x y : Rat} (hxy : x ≤ y) (h : cellOK F m x y) (hm : 2 ≤ m) {g : Int} (hk : fxs g (F 1) x y) : vch (fun i => F i x) m = vch (fun i => F i y) m + ((if sgr (F 0 x) = -g then 1 else 0) - (if sgr (F 0 y) = -g then 1 else 0)) := by
  have gu := hk.unit
  have key : ∀ z, x ≤ z → z ≤ y → vst (fun i => F i z) 2 = (g, if sgr (F 0 z) = -g then 1 else 0) := by
    intro z z1 z2
    rw [vst_step (F := fun i => F i z) (k := 1) gu (hk.at z1 z2)]
    rcases sgr_cases (F 0 z) with q | q | q
    · rw [vst_step (F := fun i => F i z) (k := 0) (Or.inl rfl) q, q]
      rcases gu with e | e <;> subst e <;> simp [vst]
    · rw [vst_step (F := fun i => F i z) (k := 0) (Or.inr rfl) q, q]
      rcases gu with e | e <;> subst e <;> simp [vst]
    · rw [vst_skip (F := fun i => F i z) (k := 0) q, q]
      rcases gu with e | e <;> subst e <;> simp [vst]
  have ex := key x Rat.le_refl hxy
  have ey := key y hxy Rat.le_refl
  exact cell_tail hxy h (j := 2) (by omega) hm (g := g) hk (by rw [ex, ey]; simp only []; omega) (by rw [ex]) (by rw [ey]) (m - 2) 2 (by omega) (by omega) g hk (by rw [ex, ey]; simp only []; omega) (by rw [ex]) (by rw [ey])
/-- a function is kept over a short cell where it is far from 0 -/
theorem keep_far {f : Rat → Rat} {L : Rat} (hl : lip f L) (hL : 0 < L) {x y h : Rat} (hx : iB x) (hy : iB y) (hxy : x ≤ y) (hh : y - x ≤ h) {z : Rat} (hz1 : x ≤ z) (hz2 : z ≤ y) (hz : ¬ ab (f z) (L * h)) : ∃ g, fxs g f x y := by
  have hd : ∀ w, x ≤ w → w ≤ y → ab (f w - f z) (L * h) := by
    intro w w1 w2
    have bw := iB.of hx hy w1 w2
    have bz := iB.of hx hy hz1 hz2
    have h0 : 0 ≤ h := by grind
    rcases (Rat.le_total : w ≤ z ∨ z ≤ w) with q | q
    · have a := (hl w z bw bz q).neg
      rw [show -(f z - f w) = f w - f z by grind] at a
      exact a.mono (Rat.mul_le_mul_of_nonneg_left (by grind) (Rat.le_of_lt hL))
    · exact (hl z w bz bw q).mono (Rat.mul_le_mul_of_nonneg_left (by grind) (Rat.le_of_lt hL))
  rcases Classical.em (L * h < f z) with q | q
  · exact ⟨1, f z - L * h, by grind, Or.inl ⟨rfl, fun w w1 w2 => by have := (hd w w1 w2).1; grind⟩⟩
  · exact ⟨-1, - f z - L * h, by
      rcases Classical.em (f z < -(L * h)) with r | r
      · grind
      · exact absurd ⟨by grind, by grind⟩ hz, Or.inr ⟨rfl, fun w w1 w2 => by
      have h1 := (hd w w1 w2).2
      have h2 : f z < -(L * h) := by
        rcases Classical.em (f z < -(L * h)) with r | r
        · exact r
        · exact absurd ⟨by grind, by grind⟩ hz
      grind⟩⟩
/-- either it is kept, or it is small all over the cell -/
theorem keep_or {f : Rat → Rat} {L : Rat} (hl : lip f L) (hL : 0 < L) {x y h : Rat} (hx : iB x) (hy : iB y) (hxy : x ≤ y) (hh : y - x ≤ h) : (∃ g, fxs g f x y) ∨ ∀ z, x ≤ z → z ≤ y → ab (f z) (L * h) := by
  rcases Classical.em (∀ z, x ≤ z → z ≤ y → ab (f z) (L * h)) with q | q
  · exact Or.inr q
  · left
    have : ∃ z, x ≤ z ∧ z ≤ y ∧ ¬ ab (f z) (L * h) := Classical.byContradiction fun e => q fun z z1 z2 => Classical.byContradiction fun r => e ⟨z, z1, z2, r⟩
    obtain ⟨z, z1, z2, z3⟩ := this
    exact keep_far hl hL hx hy hxy hh z1 z2 z3
/-- the other of two without common zeros is kept then -/
theorem keep_other {f g u v : Rat → Rat} {Lf Lg Ku Kv : Rat} (hf : lip f Lf) (hg : lip g Lg) (hLf : 0 < Lf) (hLg : 0 < Lg) (hu : bnd u Ku) (hv : bnd v Kv) (hKu : 0 < Ku) (hKv : 0 < Kv) (hb : ∀ z, iB z → u z * f z + v z * g z = 1) {x y h : Rat} (hx : iB x) (hy : iB y) (hxy : x ≤ y) (hh : y - x ≤ h) (h0 : 0 < h) (h1 : 2 * Ku * Lf * h < 1) (h2 : 4 * Kv * Lg * h < 1)
    (hs : ∀ z, x ≤ z → z ≤ y → ab (f z) (Lf * h)) : (∃ s, fxs s g x y) ∧ ∀ z, x ≤ z → z ≤ y → ¬ ab (Kv * g z) (1 / 4) := by
  have far : ∀ z, x ≤ z → z ≤ y → ¬ ab (Kv * g z) (1 / 4) := by
    intro z z1 z2 q
    have bz := iB.of hx hy z1 z2
    have e := hb z bz
    have a1 := (hu z bz).mul (hs z z1 z2)
    have hKg : ab (v z * g z) (Kv * (1 / (4 * Kv))) := (hv z bz).mul (by
      unfold ab at q ⊢
      have hk : 0 < 4 * Kv := by grind
      have e1 : Kv * (1 / (4 * Kv)) = 1 / 4 := by grind
      constructor
      · refine Rat.le_of_mul_le_mul_left (c := Kv) ?_ hKv; grind
      · refine Rat.le_of_mul_le_mul_left (c := Kv) ?_ hKv; grind)
    have e2 : Kv * (1 / (4 * Kv)) = 1 / 4 := by grind
    rw [e2] at hKg
    have e3 : Ku * (Lf * h) = Ku * Lf * h := by grind
    rw [e3] at a1
    unfold ab at a1 hKg
    grind
  refine ⟨keep_far hg hLg hx hy hxy hh Rat.le_refl hxy fun q => far x Rat.le_refl hxy ?_, far⟩
  refine q |> fun q => ?_
  have a := (ab.self (Rat.le_of_lt hKv)).mul q
  exact a.mono (by rw [show Kv * (Lg * h) = Kv * Lg * h by grind]; grind)
