/-! near a point; factors; mixtures -/
-- pure
-- needs: 71.poly 74.anal 75.cells 76.sturm 77.sep 78.keep 79.ode
set_option maxRecDepth 100000
set_option linter.unusedVariables false
/-- around a point with a sign -/
theorem near {f : Rat → Rat} (hf : PP f) {x : Rat} (hx : iB x) (h : f x ≠ 0) : ∃ η : Rat, 0 < η ∧ ∀ a b, iB a → iB b → x - η ≤ a → b ≤ x + η → a ≤ b → fxs (sgr (f x)) f a b := by
  obtain ⟨n, hf⟩ := hf
  obtain ⟨L, L0, hL⟩ := hf.lip
  have hLi : L * L⁻¹ = 1 := Rat.mul_inv_cancel _ (by intro q; grind)
  have key : ∀ d : Rat, 0 < d → ∀ z, iB z → x - d * L⁻¹ ≤ z → z ≤ x + d * L⁻¹ → ab (f z - f x) d := fun d d0 z hz z1 z2 => by
    rcases (Rat.le_total : x ≤ z ∨ z ≤ x) with q | q
    · have h1 := hL x z hx hz q
      have h2 : L * (z - x) ≤ L * (d * L⁻¹) := Rat.mul_le_mul_of_nonneg_left (by grind) (Rat.le_of_lt L0)
      have h3 : L * (d * L⁻¹) = d := by grind
      unfold ab at h1 ⊢; grind
    · have h1 := hL z x hz hx q
      have h2 : L * (x - z) ≤ L * (d * L⁻¹) := Rat.mul_le_mul_of_nonneg_left (by grind) (Rat.le_of_lt L0)
      have h3 : L * (d * L⁻¹) = d := by grind
      unfold ab at h1 ⊢; grind
  rcases Classical.em (0 < f x) with p | p
  · refine ⟨f x / 2 * L⁻¹, Rat.mul_pos (by grind) (Rat.inv_pos.mpr L0), fun a b ha hb a1 b1 hab => ?_⟩
    rw [sgr_pos p]
    refine ⟨f x / 2, by grind, Or.inl ⟨rfl, fun z z1 z2 => ?_⟩⟩
    have := key (f x / 2) (by grind) z (iB.of ha hb z1 z2) (by grind) (by grind)
    unfold ab at this; grind
  · have p2 : f x < 0 := by grind
    refine ⟨-f x / 2 * L⁻¹, Rat.mul_pos (by grind) (Rat.inv_pos.mpr L0), fun a b ha hb a1 b1 hab => ?_⟩
    rw [sgr_neg p2]
    refine ⟨-f x / 2, by grind, Or.inr ⟨rfl, fun z z1 z2 => ?_⟩⟩
    have := key (-f x / 2) (by grind) z (iB.of ha hb z1 z2) (by grind) (by grind)
    unfold ab at this; grind
/-- the count doesn't change just behind a point -/
theorem stc.right {F : Nat → pf} {m : Nat} (h : stc F m) {x : Rat} (hx : iB x) : ∃ η : Rat, 0 < η ∧ ∀ y, iB y → x ≤ y → y ≤ x + η → vch (fun i => F i x) m = vch (fun i => F i y) m := by
  obtain ⟨η, n0, hf⟩ := h.fine
  rcases Classical.em (F 0 x = 0) with q | q
  · refine ⟨η, n0, fun y hy h1 h2 => ?_⟩
    rw [(hf x y hx hy h1 (by grind)).1]
    unfold chg
    rw [q, sgr_zero, if_pos rfl, Int.add_zero]
  · obtain ⟨η', n0', hn⟩ := near (h.pp (i := 0) (by have := h.1.1; omega)) hx q
    refine ⟨if η ≤ η' then η else η', by split <;> assumption, fun y hy h1 h2 => ?_⟩
    have hm : (if η ≤ η' then η else η') ≤ η ∧ (if η ≤ η' then η else η') ≤ η' := by split <;> grind
    rw [(hf x y hx hy h1 (by grind)).1]
    have e := (hn x y hx hy (by grind) (by grind) h1).at h1 Rat.le_refl
    unfold chg
    rw [e, if_neg (sgr_ne.mpr q), if_pos rfl, Int.add_zero]
theorem fxs.far {u : Int} {f : Rat → Rat} {x y : Rat} (h : fxs u f x y) : ∃ d : Rat, 0 < d ∧ ∀ z, x ≤ z → z ≤ y → d ≤ f z ∨ f z ≤ -d := by
  obtain ⟨d, d0, ⟨_, h⟩ | ⟨_, h⟩⟩ := h
  · exact ⟨d, d0, fun z a b => Or.inl (h z a b)⟩
  · exact ⟨d, d0, fun z a b => Or.inr (h z a b)⟩
/-- a factor of what keeps its sign -/
theorem fxs.factor {u : Int} {p r s : Rat → Rat} {x y : Rat} (h : fxs u p x y) (hr : PP r) (hs : PP s) (hx : iB x) (hy : iB y) (hxy : x ≤ y) (e : ∀ z, p z = r z * s z) : ∃ w, fxs w s x y := by
  obtain ⟨d, d0, hd⟩ := h.far
  obtain ⟨n, hr⟩ := hr
  obtain ⟨K, k0, hK⟩ := hr.bnd
  have hKi : K * K⁻¹ = 1 := Rat.mul_inv_cancel _ (by intro q; grind)
  have ki := Rat.inv_pos.mpr k0
  refine fxs.of_far hs hx hy hxy (δ := d * K⁻¹) (Rat.mul_pos d0 ki) fun z z1 z2 => ?_
  have h1 := hd z z1 z2
  rw [e] at h1
  obtain ⟨k1, k2⟩ := hK z (iB.of hx hy z1 z2)
  rcases Classical.em (d * K⁻¹ ≤ s z ∨ s z ≤ -(d * K⁻¹)) with q | q
  · exact q
  · exfalso
    have q1 : s z < d * K⁻¹ := by grind
    have q2 : -(d * K⁻¹) < s z := by grind
    have e3 : K * (d * K⁻¹) = d := by grind
    have h2 : ab (r z * s z) (K * (d * K⁻¹)) := ab.mul ⟨k1, k2⟩ ⟨by grind, by grind⟩
    rw [e3] at h2
    obtain ⟨h3, h4⟩ := h2
    have h5 : r z * s z < d ∧ -d < r z * s z := by
      have m1 : (if 0 ≤ s z then s z else - s z) < d * K⁻¹ := by split <;> grind
      have m2 : K * (if 0 ≤ s z then s z else - s z) < K * (d * K⁻¹) := (Rat.mul_lt_mul_left k0).mpr m1
      rw [e3] at m2
      have m3 : ab (r z * s z) (K * (if 0 ≤ s z then s z else - s z)) := ab.mul ⟨k1, k2⟩ (by unfold ab; split <;> grind)
      unfold ab at m3; grind
    grind
/-- s has the noughts of p, once each -/
def shr (s p : pf) : Prop := PP s ∧ PP p ∧ (¬ ∀ z, p z = 0) ∧ ∃ r t p' : pf, PP r ∧ PP t ∧ PP p' ∧ (∀ z, p z = r z * s z) ∧ DD p p' ∧ ∀ z, p' z * s z = p z * t z
theorem shr.fxs {s p : Rat → Rat} (h : shr s p) {u : Int} {x y : Rat} (hx : iB x) (hy : iB y) (hxy : x < y) (k : fxs u s x y) : ∃ w, Jvm.Pilot.CIdealCourtLaw_law_r5787_380c08.fxs w p x y := by
  obtain ⟨h1, h2, h3, r, t, p', r1, t1, p1, e, hD, e2⟩ := h
  have h4 : ∃ c, x ≤ c ∧ c ≤ y ∧ p c ≠ 0 := by
    refine Classical.byContradiction fun q => ?_
    obtain ⟨n, h2⟩ := h2
    exact h3 (h2.span_zero hxy fun z z1 z2 => Classical.byContradiction fun r => q ⟨z, z1, z2, r⟩)
  obtain ⟨c, c1, c2, c3⟩ := h4
  exact ode_fxs h2 p1 t1 e2 hD hx hy (Rat.le_of_lt hxy) k c1 c2 c3
theorem shr.back {s p : Rat → Rat} (h : shr s p) {u : Int} {x y : Rat} (hx : iB x) (hy : iB y) (hxy : x ≤ y) (k : Jvm.Pilot.CIdealCourtLaw_law_r5787_380c08.fxs u p x y) : ∃ w, Jvm.Pilot.CIdealCourtLaw_law_r5787_380c08.fxs w s x y := by
  obtain ⟨h1, h2, h3, r, t, p', r1, t1, p1, e, hD, e2⟩ := h
  exact k.factor r1 h1 hx hy hxy e
/-- where a mixture keeps its sign one of the two does, cell by cell -/
theorem mix {a b U V f : Rat → Rat} (ha : PP a) (hb : PP b) (hU : PP U) (hV : PP V) (e : ∀ z, f z = U z * a z + V z * b z) {x y : Rat} (hx : iB x) (hy : iB y) {u : Int} (h : fxs u f x y) : fine (fun v w => x ≤ v → w ≤ y → (∃ g, fxs g a v w) ∨ ∃ g, fxs g b v w) := by
  obtain ⟨d, d0, hd⟩ := h.far
  obtain ⟨n1, ha⟩ := ha
  obtain ⟨n2, hU⟩ := hU
  obtain ⟨n3, hV⟩ := hV
  obtain ⟨L, l0, hL⟩ := ha.lip
  obtain ⟨K, k0, hK⟩ := hU.bnd
  obtain ⟨K', k0', hK'⟩ := hV.bnd
  have kl := Rat.mul_pos k0 l0
  have hi : K * L * (K * L)⁻¹ = 1 := Rat.mul_inv_cancel _ (by intro q; grind)
  have hi' : K' * K'⁻¹ = 1 := Rat.mul_inv_cancel _ (by intro q; grind)
  refine ⟨d / 2 * (K * L)⁻¹, Rat.mul_pos (by grind) (Rat.inv_pos.mpr kl), fun v w hv hw hvw hh h1 h2 => ?_⟩
  rcases keep_or hL l0 hv hw hvw hh with q | q
  · exact Or.inl q
  · right
    refine fxs.of_far hb hv hw hvw (δ := d / 2 * K'⁻¹) (Rat.mul_pos (by grind) (Rat.inv_pos.mpr k0')) fun z z1 z2 => ?_
    have hz := iB.of hv hw z1 z2
    have q1 := (hK z hz).mul (q z z1 z2)
    have e1 : K * (L * (d / 2 * (K * L)⁻¹)) = d / 2 := by grind
    rw [e1] at q1
    have q2 := hd z (by grind) (by grind)
    rw [e] at q2
    have q3 : d / 2 ≤ V z * b z ∨ V z * b z ≤ -(d / 2) := by unfold ab at q1; grind
    rcases Classical.em (d / 2 * K'⁻¹ ≤ b z ∨ b z ≤ -(d / 2 * K'⁻¹)) with r | r
    · exact r
    · exfalso
      have m1 : (if 0 ≤ b z then b z else - b z) < d / 2 * K'⁻¹ := by split <;> grind
      have m2 : K' * (if 0 ≤ b z then b z else - b z) < K' * (d / 2 * K'⁻¹) := (Rat.mul_lt_mul_left k0').mpr m1
      have e3 : K' * (d / 2 * K'⁻¹) = d / 2 := by grind
      rw [e3] at m2
      have m3 : ab (V z * b z) (K' * (if 0 ≤ b z then b z else - b z)) := ab.mul (hK' z hz) (by unfold ab; split <;> grind)
      unfold ab at m3; grind
/-- a sign kept cell by cell is kept -/
theorem fxs.mesh {f : Rat → Rat} {x y : Rat} (hx : iB x) (hy : iB y) (hxy : x < y) (h : fine (fun v w => x ≤ v → w ≤ y → v < w → ∃ g, fxs g f v w)) : ∃ g, fxs g f x y := by
  refine h.mesh (fun p q r _ _ _ hpq hqr h1 h2 a1 a2 a3 => ?_) hx hy (Rat.le_of_lt hxy) Rat.le_refl Rat.le_refl hxy
  rcases Classical.em (p < q) with e1 | e1
  · rcases Classical.em (q < r) with e2 | e2
    · obtain ⟨g, k1⟩ := h1 a1 (by grind) e1
      obtain ⟨g', k2⟩ := h2 (by grind) a2 e2
      have i1 := k1.at hpq Rat.le_refl
      have i2 := k2.at Rat.le_refl hqr
      rw [i1] at i2
      rw [← i2] at k2
      exact ⟨g, k1.join k2⟩
    · have : q = r := by grind
      subst this; exact h1 a1 a2 e1
  · have : p = q := by grind
    subst this; exact h2 a1 a2 a3
