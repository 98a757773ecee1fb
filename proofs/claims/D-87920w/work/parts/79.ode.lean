/-! signs kept by what has the same noughts -/
-- pure
-- needs: 71.poly 74.anal 75.cells 76.sturm 77.sep 78.keep
set_option maxRecDepth 100000
set_option linter.unusedVariables false
/-- away from 0 everywhere: one sign -/
theorem fxs.of_far {b : Rat → Rat} (hb : PP b) {x y δ : Rat} (hx : iB x) (hy : iB y) (hxy : x ≤ y) (d0 : 0 < δ) (h : ∀ z, x ≤ z → z ≤ y → δ ≤ b z ∨ b z ≤ -δ) : ∃ w, fxs w b x y := by
  rcases h x Rat.le_refl hxy with h0 | h0
  · refine ⟨1, δ, d0, Or.inl ⟨rfl, fun z z1 z2 => ?_⟩⟩
    rcases h z z1 z2 with q | q
    · exact q
    · exfalso
      obtain ⟨w, w1, w2, w3, w4⟩ := crossing (s := fun z => - b z) hb.neg hx (iB.of hx hy z1 z2) z1 (by show - b x < 0; grind) (by show 0 ≤ - b z; grind) d0
      have w3' : -δ < - b w := w3
      have w4' : - b w < 0 := w4
      rcases h w w1 (by grind) with r | r <;> grind
  · refine ⟨-1, δ, d0, Or.inr ⟨rfl, fun z z1 z2 => ?_⟩⟩
    rcases h z z1 z2 with q | q
    · exfalso
      obtain ⟨w, w1, w2, w3, w4⟩ := crossing hb hx (iB.of hx hy z1 z2) z1 (by grind) (by grind) d0
      rcases h w w1 (by grind) with r | r <;> grind
    · exact q
theorem ode_fxs {s t b b' : Rat → Rat} (hb : PP b) (hb' : PP b') (ht : PP t) (e : ∀ z, b' z * s z = b z * t z) (hD : DD b b') {x y : Rat} (hx : iB x) (hy : iB y) (hxy : x ≤ y) {u : Int} (hu : fxs u s x y) {c : Rat} (hc1 : x ≤ c) (hc2 : c ≤ y) (hc : b c ≠ 0) : ∃ w, fxs w b x y := by
  obtain ⟨nb, hb⟩ := hb
  obtain ⟨nb', hb'⟩ := hb'
  obtain ⟨nt, ht⟩ := ht
  obtain ⟨K, k1, k2⟩ := ht.bnd
  obtain ⟨δ, d0, hδ⟩ := hu
  have box : ∀ z, x ≤ z → z ≤ y → iB z := fun z a b => iB.of hx hy a b
  -- the square's slope is at most M times the square
  obtain ⟨M, m0, hM⟩ : ∃ M : Rat, 0 < M ∧ ∀ z, x ≤ z → z ≤ y → ab (2 * (b z * b' z)) (M * (b z * b z)) := by
    refine ⟨2 * (K * δ⁻¹), by have := Rat.mul_pos k1 (Rat.inv_pos.mpr d0); grind, fun z a1 a2 => ?_⟩
    have kz := k2 z (box z a1 a2)
    have c1 := (ab.self (rsq (b z))).mul kz
    have e3 : b z * b z * t z = b z * b' z * s z := by have := e z; grind
    rw [e3] at c1
    have c2 := div_bound d0 (by rcases hδ with ⟨_, g⟩ | ⟨_, g⟩
                                · exact Or.inl (g z a1 a2)
                                · exact Or.inr (g z a1 a2)) c1
    clear kz c1 e3 hδ
    obtain ⟨c3, c4⟩ := c2
    constructor <;> grind
  have hDb := hD.mul hD hb hb hb' hb'
  have hDs : DD (fun z => b z * b z) (fun z => 2 * (b z * b' z)) := by
    rwa [show (fun z => b' z * b z + b z * b' z) = fun z => 2 * (b z * b' z) from funext fun z => by grind] at hDb
  have hM2 : 0 < (4 * M)⁻¹ := Rat.inv_pos.mpr (by grind)
  have hMM : 4 * M * (4 * M)⁻¹ = 1 := Rat.mul_inv_cancel _ (by intro q; grind)
  have lin : ∀ (c q : Rat), DD (fun z => 1 + c * (z - q)) (fun _ => c) := fun c q => ⟨0, Rat.le_refl, fun x y _ _ => by
    show ab (1 + c * (y - q) - (1 + c * (x - q)) - (y - x) * c) (0 * ((y - x) * (y - x)))
    unfold ab; grind⟩
  have linp : ∀ (c q : Rat), PF 2 (fun z => 1 + c * (z - q)) := fun c q => ⟨fun k => if k = 0 then 1 - c * q else c, fun z => by
    simp only [ps, Rat.pow_zero, Rat.pow_succ]
    rw [if_pos trivial, if_neg (by omega)]; grind⟩
  have hbb : PF (nb + (nb + 1)) (fun z => b z * b z) := hb.mul (hb.mono (by omega))
  have hbb' : PF (nb + (nb' + 1)) (fun z => 2 * (b z * b' z)) := (hb.mul (hb'.mono (by omega))).smul 2
  -- over short steps the square at one end bounds the other's
  have step : ∀ v w, iB v → iB w → v ≤ w → w - v ≤ (4 * M)⁻¹ → x ≤ v → w ≤ y → b w * b w ≤ 2 * (b v * b v) ∧ b v * b v ≤ 2 * (b w * b w) := by
    intro v w hv hw hvw hd a1 a2
    have near : ∀ z, v ≤ z → z ≤ w → 0 ≤ 2 * M * (z - v) ∧ 2 * M * (z - v) ≤ 1 / 2 := fun z z1 z2 => by
      have f1 : 4 * M * (z - v) ≤ 4 * M * (4 * M)⁻¹ := Rat.mul_le_mul_of_nonneg_left (by grind) (by grind)
      have f0 : 0 ≤ 2 * M * (z - v) := Rat.mul_nonneg (by grind) (by grind)
      rw [hMM] at f1
      exact ⟨f0, by grind⟩
    constructor
    · have hψ := (hDs.mul (lin (-(2 * M)) v) hbb (linp _ v) hbb' (PF.const _)).smul (-1)
      have r := hψ.mvt hv hw hvw fun z z1 z2 => by
        obtain ⟨z3, z4⟩ := hM z (by grind) (by grind)
        have sq := rsq (b z)
        obtain ⟨f0, f1⟩ := near z z1 z2
        show 0 ≤ -1 * (2 * (b z * b' z) * (1 + -(2 * M) * (z - v)) + b z * b z * -(2 * M))
        have g1 : 2 * (b z * b' z) * (1 - 2 * M * (z - v)) ≤ M * (b z * b z) * (1 - 2 * M * (z - v)) := Rat.mul_le_mul_of_nonneg_right z4 (by grind)
        have g3 := Rat.mul_nonneg (Rat.le_of_lt m0) sq
        have g2 : M * (b z * b z) * (1 - 2 * M * (z - v)) ≤ M * (b z * b z) * 1 := Rat.mul_le_mul_of_nonneg_left (by grind) g3
        have g4 : -1 * (2 * (b z * b' z) * (1 + -(2 * M) * (z - v)) + b z * b z * -(2 * M)) = 2 * (M * (b z * b z)) - 2 * (b z * b' z) * (1 - 2 * M * (z - v)) := by grind
        rw [g4]
        generalize 2 * (b z * b' z) * (1 - 2 * M * (z - v)) = q1 at *
        generalize M * (b z * b z) * (1 - 2 * M * (z - v)) = q2 at *
        generalize M * (b z * b z) = q3 at *
        grind
      have r2 : -1 * (b v * b v * (1 + -(2 * M) * (v - v))) ≤ -1 * (b w * b w * (1 + -(2 * M) * (w - v))) := r
      obtain ⟨f0, f1⟩ := near w hvw Rat.le_refl
      have sq := rsq (b w)
      have g5 : b w * b w * (1 / 2) ≤ b w * b w * (1 - 2 * M * (w - v)) := Rat.mul_le_mul_of_nonneg_left (by grind) sq
      have g6 : b w * b w * (1 + -(2 * M) * (w - v)) = b w * b w * (1 - 2 * M * (w - v)) := by grind
      rw [g6] at r2
      have g7 : b v * b v * (1 + -(2 * M) * (v - v)) = b v * b v := by grind
      rw [g7] at r2
      generalize b w * b w * (1 - 2 * M * (w - v)) = q1 at *
      generalize b w * b w = q2 at *
      generalize b v * b v = q3 at *
      grind
    · have hψ := hDs.mul (lin (2 * M) v) hbb (linp _ v) hbb' (PF.const _)
      have r := hψ.mvt hv hw hvw fun z z1 z2 => by
        obtain ⟨z3, z4⟩ := hM z (by grind) (by grind)
        have sq := rsq (b z)
        obtain ⟨f0, f1⟩ := near z z1 z2
        show 0 ≤ 2 * (b z * b' z) * (1 + 2 * M * (z - v)) + b z * b z * (2 * M)
        have g3 := Rat.mul_nonneg (Rat.le_of_lt m0) sq
        have g1 : -(M * (b z * b z)) * (1 + 2 * M * (z - v)) ≤ 2 * (b z * b' z) * (1 + 2 * M * (z - v)) := Rat.mul_le_mul_of_nonneg_right z3 (by grind)
        have g2 : M * (b z * b z) * (1 + 2 * M * (z - v)) ≤ M * (b z * b z) * (3 / 2) := Rat.mul_le_mul_of_nonneg_left (by grind) g3
        have g4 : -(M * (b z * b z)) * (1 + 2 * M * (z - v)) = -(M * (b z * b z) * (1 + 2 * M * (z - v))) := by grind
        have g5 : b z * b z * (2 * M) = 2 * (M * (b z * b z)) := by grind
        rw [g4] at g1
        rw [g5]
        generalize 2 * (b z * b' z) * (1 + 2 * M * (z - v)) = q1 at *
        generalize M * (b z * b z) * (1 + 2 * M * (z - v)) = q2 at *
        generalize M * (b z * b z) = q3 at *
        grind
      have r2 : b v * b v * (1 + 2 * M * (v - v)) ≤ b w * b w * (1 + 2 * M * (w - v)) := r
      obtain ⟨f0, f1⟩ := near w hvw Rat.le_refl
      have sq := rsq (b w)
      have g5 : b w * b w * (1 + 2 * M * (w - v)) ≤ b w * b w * (3 / 2) := Rat.mul_le_mul_of_nonneg_left (by grind) sq
      have g7 : b v * b v * (1 + 2 * M * (v - v)) = b v * b v := by grind
      rw [g7] at r2
      generalize b w * b w * (1 + 2 * M * (w - v)) = q1 at *
      generalize b w * b w = q2 at *
      generalize b v * b v = q3 at *
      grind
  have two : ∀ v w, iB v → iB w → v ≤ w → w - v ≤ (4 * M)⁻¹ → x ≤ v → w ≤ y → ∃ C : Rat, 0 < C ∧ ∀ z1 z2, v ≤ z1 → z1 ≤ w → v ≤ z2 → z2 ≤ w → b z1 * b z1 ≤ C * (b z2 * b z2) := fun v w hv hw hvw hd a1 a2 => by
    refine ⟨2, by decide, fun z1 z2 p1 p2 q1 q2 => ?_⟩
    rcases (Rat.le_total : z1 ≤ z2 ∨ z2 ≤ z1) with q | q
    · exact (step z1 z2 (iB.of hv hw p1 p2) (iB.of hv hw q1 q2) q (by grind) (by grind) (by grind)).2
    · exact (step z2 z1 (iB.of hv hw q1 q2) (iB.of hv hw p1 p2) q (by grind) (by grind) (by grind)).1
  obtain ⟨C, C0, hC⟩ := fine.mesh (W := fun v w => x ≤ v → w ≤ y → ∃ C : Rat, 0 < C ∧ ∀ z1 z2, v ≤ z1 → z1 ≤ w → v ≤ z2 → z2 ≤ w → b z1 * b z1 ≤ C * (b z2 * b z2)) ⟨_, hM2, fun v w hv hw hvw hd a1 a2 => two v w hv hw hvw hd a1 a2⟩ (fun p q r _ _ _ hpq hqr h1 h2 a1 a2 => by
    obtain ⟨C1, c1, k1⟩ := h1 a1 (by grind)
    obtain ⟨C2, c2, k2⟩ := h2 (by grind) a2
    have cc := Rat.mul_pos c1 c2
    refine ⟨C1 * C2 + C1 + C2, by grind, fun z1 z2 p1 p2 q1 q2 => ?_⟩
    have s2 := rsq (b z2)
    have t0 := Rat.mul_nonneg (Rat.le_of_lt c1) s2
    have t1 := Rat.mul_nonneg (Rat.le_of_lt c2) s2
    have t2 := Rat.mul_nonneg (Rat.le_of_lt cc) s2
    rcases (Rat.le_total : z1 ≤ q ∨ q ≤ z1) with e1 | e1 <;> rcases (Rat.le_total : z2 ≤ q ∨ q ≤ z2) with e2 | e2
    · have := k1 z1 z2 p1 e1 q1 e2; grind
    · have u1 := k1 z1 q p1 e1 hpq Rat.le_refl
      have u2 := Rat.mul_le_mul_of_nonneg_left (k2 q z2 Rat.le_refl hqr e2 q2) (Rat.le_of_lt c1)
      grind
    · have u1 := k2 z1 q e1 p2 Rat.le_refl hqr
      have u2 := Rat.mul_le_mul_of_nonneg_left (k1 q z2 hpq Rat.le_refl q1 e2) (Rat.le_of_lt c2)
      grind
    · have := k2 z1 z2 e1 p2 e2 q2; grind) hx hy hxy Rat.le_refl Rat.le_refl
  have hcc : 0 < b c * b c := by
    have := rsq (b c)
    have h2 : b c * b c ≠ 0 := fun q => by rcases Rat.mul_eq_zero.mp q with r | r <;> exact hc r
    grind
  have low : ∀ z, x ≤ z → z ≤ y → 0 < b z * b z ∧ b c * b c ≤ C * (b z * b z) := fun z z1 z2 => by
    have h1 := hC c z hc1 hc2 z1 z2
    refine ⟨?_, h1⟩
    have h2 := rsq (b z)
    have h3 : b z * b z ≠ 0 := fun q => by rw [q] at h1; grind
    grind
  -- a bound from below
  obtain ⟨δ, d0, hδ⟩ : ∃ δ : Rat, 0 < δ ∧ ∀ z, x ≤ z → z ≤ y → δ ≤ b z ∨ b z ≤ -δ := by
    obtain ⟨B, B0, hB⟩ := hb.bnd
    refine ⟨b c * b c * C⁻¹ * B⁻¹, Rat.mul_pos (Rat.mul_pos hcc (Rat.inv_pos.mpr C0)) (Rat.inv_pos.mpr B0), fun z z1 z2 => ?_⟩
    have h1 := (low z z1 z2).2
    obtain ⟨b1, b2⟩ := hB z (box z z1 z2)
    have i1 : C * C⁻¹ = 1 := Rat.mul_inv_cancel _ (by intro q; grind)
    have i2 : B * B⁻¹ = 1 := Rat.mul_inv_cancel _ (by intro q; grind)
    have h2 := Rat.mul_le_mul_of_nonneg_right h1 (Rat.le_of_lt (Rat.inv_pos.mpr C0))
    have h3 : C * (b z * b z) * C⁻¹ = b z * b z := by grind
    rw [h3] at h2
    have iB0 := Rat.le_of_lt (Rat.inv_pos.mpr B0)
    rcases (Rat.le_total : 0 ≤ b z ∨ b z ≤ 0) with e | e
    · left
      have h4 : b z * b z ≤ b z * B := Rat.mul_le_mul_of_nonneg_left b2 e
      have h5 := Rat.mul_le_mul_of_nonneg_right (Rat.le_trans h2 h4) iB0
      have h6 : b z * B * B⁻¹ = b z := by grind
      rwa [h6] at h5
    · right
      have h4 : -b z * -b z ≤ -b z * B := Rat.mul_le_mul_of_nonneg_left (by grind) (by grind)
      have h4' : b z * b z ≤ -b z * B := by grind
      have h5 := Rat.mul_le_mul_of_nonneg_right (Rat.le_trans h2 h4') iB0
      have h6 : -b z * B * B⁻¹ = -b z := by grind
      rw [h6] at h5
      grind
  exact fxs.of_far ⟨nb, hb⟩ hx hy hxy d0 hδ
