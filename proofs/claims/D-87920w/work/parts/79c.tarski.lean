/-! Tarski's count, and the sign of a polynomial at a root -/
-- pure
-- needs: 71.poly 74.anal 75.cells 76.sturm 77.sep 78.keep 79.ode 79a.near 79b.gcd
set_option maxRecDepth 100000
set_option linter.unusedVariables false
theorem sgr_mul (x y : Rat) : sgr (x * y) = sgr x * sgr y := by
  rcases Classical.em (x = 0) with a | a
  · subst a; rw [Rat.zero_mul, sgr_zero]; omega
  rcases Classical.em (y = 0) with b | b
  · subst b; rw [Rat.mul_zero, sgr_zero]; omega
  rcases Classical.em (0 < x) with p | p <;> rcases Classical.em (0 < y) with q | q
  · rw [sgr_pos p, sgr_pos q, sgr_pos (Rat.mul_pos p q)]; rfl
  · have q2 : 0 < -y := by grind
    have := Rat.mul_pos p q2
    rw [sgr_pos p, sgr_neg (by grind), sgr_neg (by grind)]; rfl
  · have p2 : 0 < -x := by grind
    have := Rat.mul_pos p2 q
    rw [sgr_pos q, sgr_neg (by grind), sgr_neg (by grind)]; rfl
  · have := Rat.mul_pos (show 0 < -x by grind) (show 0 < -y by grind)
    rw [sgr_neg (x := x) (by grind), sgr_neg (x := y) (by grind), sgr_pos (by grind)]; rfl
theorem fxs.mul {u v : Int} {f g : Rat → Rat} {x y : Rat} (h : fxs u f x y) (k : fxs v g x y) : fxs (u * v) (fun z => f z * g z) x y := by
  obtain ⟨d, d0, h⟩ := h
  obtain ⟨e, e0, k⟩ := k
  have mm : ∀ p q : Rat, d ≤ p → e ≤ q → d * e ≤ p * q := fun p q a b => Rat.le_trans (Rat.mul_le_mul_of_nonneg_right a (Rat.le_of_lt e0)) (Rat.mul_le_mul_of_nonneg_left b (by grind))
  refine ⟨d * e, Rat.mul_pos d0 e0, ?_⟩
  rcases h with ⟨rfl, h⟩ | ⟨rfl, h⟩ <;> rcases k with ⟨rfl, k⟩ | ⟨rfl, k⟩
  · exact Or.inl ⟨rfl, fun z a b => mm _ _ (h z a b) (k z a b)⟩
  · refine Or.inr ⟨rfl, fun z a b => ?_⟩
    have := mm (f z) (- g z) (h z a b) (by have := k z a b; grind)
    show f z * g z ≤ _; grind
  · refine Or.inr ⟨rfl, fun z a b => ?_⟩
    have := mm (- f z) (g z) (by have := h z a b; grind) (k z a b)
    show f z * g z ≤ _; grind
  · refine Or.inl ⟨rfl, fun z a b => ?_⟩
    have := mm (- f z) (- g z) (by have := h z a b; grind) (by have := k z a b; grind)
    show _ ≤ f z * g z; grind
/-- a place where s is as small as one likes -/
theorem small_at {s : Rat → Rat} (hs : PP s) {x y : Rat} (hx : iB x) (hy : iB y) (hxy : x ≤ y) (h : ¬ (sgr (s x) = sgr (s y) ∧ s x ≠ 0)) {δ : Rat} (d0 : 0 < δ) : ∃ z, x ≤ z ∧ z ≤ y ∧ ab (s z) δ := by
  rcases Classical.em (s x = 0) with a | a
  · exact ⟨x, Rat.le_refl, hxy, by rw [a]; unfold ab; grind⟩
  rcases Classical.em (s y = 0) with b | b
  · exact ⟨y, hxy, Rat.le_refl, by rw [b]; unfold ab; grind⟩
  rcases Classical.em (s x < 0) with p | p
  · have q : 0 ≤ s y := by
      rcases Classical.em (s y < 0) with r | r
      · exact absurd ⟨by rw [sgr_neg p, sgr_neg r], a⟩ h
      · grind
    obtain ⟨z, z1, z2, z3, z4⟩ := crossing hs hx hy hxy p q d0
    exact ⟨z, z1, z2, by unfold ab; grind⟩
  · have q : s y < 0 := by
      rcases Classical.em (0 < s y) with r | r
      · exact absurd ⟨by rw [sgr_pos (show 0 < s x by grind), sgr_pos r], a⟩ h
      · grind
    obtain ⟨z, z1, z2, z3, z4⟩ := crossing (s := fun z => - s z) hs.neg hx hy hxy (by show - s x < 0; grind) (by show 0 ≤ - s y; grind) d0
    have z3' : -δ < - s z := z3
    have z4' : - s z < 0 := z4
    exact ⟨z, z1, z2, by unfold ab; grind⟩
/-- signs agree where the difference is small -/
theorem sgn_same {P N μ s : Rat → Rat} {x y : Rat} (hs : PP s) (hμ : PP μ) (hx : iB x) (hy : iB y) (hxy : x ≤ y) {u v : Int} (hP : fxs u P x y) (hN : fxs v N x y) (e : ∀ z, N z = P z - μ z * s z) (h : ¬ (sgr (s x) = sgr (s y) ∧ s x ≠ 0)) : u = v := by
  obtain ⟨d, d0, hd⟩ := hP.far
  obtain ⟨n, hμ⟩ := hμ
  obtain ⟨K, k0, hK⟩ := hμ.bnd
  have hi : K * K⁻¹ = 1 := Rat.mul_inv_cancel _ (by intro q; grind)
  obtain ⟨z, z1, z2, z3⟩ := small_at hs hx hy hxy h (δ := d / 2 * K⁻¹) (Rat.mul_pos (by grind) (Rat.inv_pos.mpr k0))
  have h1 := (hK z (iB.of hx hy z1 z2)).mul z3
  have e1 : K * (d / 2 * K⁻¹) = d / 2 := by grind
  rw [e1] at h1
  have h2 := hd z z1 z2
  have h3 := e z
  rw [← hP.at z1 z2, ← hN.at z1 z2]
  unfold ab at h1
  rcases h2 with q | q
  · rw [sgr_pos (show 0 < P z by grind), sgr_pos (show 0 < N z by grind)]
  · rw [sgr_neg (show P z < 0 by grind), sgr_neg (show N z < 0 by grind)]
theorem tarski_arith (γ σ κ a b : Int) (hγ : γ = 1 ∨ γ = -1) (hσ : σ = 1 ∨ σ = -1) (hκ : κ = 1 ∨ κ = -1) (ha : a = 1 ∨ a = -1 ∨ a = 0) (hb : b = 1 ∨ b = -1 ∨ b = 0) :
    ((if κ * a = -(γ * σ * κ) then (1 : Int) else 0) - (if κ * b = -(γ * σ * κ) then 1 else 0)) - σ * ((if a = -γ then 1 else 0) - (if b = -γ then 1 else 0)) + (if σ = -1 then (if a = 0 then 1 else 0) - (if b = 0 then 1 else 0) else 0) = 0 := by
  rcases hγ with rfl | rfl <;> rcases hσ with rfl | rfl <;> rcases hκ with rfl | rfl <;> rcases ha with rfl | rfl | rfl <;> rcases hb with rfl | rfl | rfl <;> decide
/-- the count of the other chain where q and G keep their signs -/
theorem tarski {S K : Nat → pf} {ms mt : Nat} (hS : stc S ms) (hK : schain K mt) {s k G q s' : pf} (e0 : S 0 = s) (ek : K 0 = k) (hk : PP k) (hG : PP G) (hq : PP q) (hs' : PP s') (es : ∀ z, s z = k z * G z) (hD : DD s s') (hT : 2 ≤ mt → ∃ (l : Rat) (μ : pf), 0 < l ∧ PP μ ∧ ∀ z, K 1 z * G z = l * (s' z * q z) - μ z * s z)
    {a b : Rat} (ha : iB a) (hb : iB b) (hab : a ≤ b) {σ κ : Int} (kq : fxs σ q a b) (kG : fxs κ G a b) (sa : s a ≠ 0) (sb : s b ≠ 0) : cnt K mt a - cnt K mt b = σ * (cnt S ms a - cnt S ms b) := by
  have hs : PP s := by rw [← e0]; exact hS.nz
  have W : fine (fun v w => a ≤ v → w ≤ b → cnt K mt v - σ * cnt S ms v + (if σ = -1 then (if sgr (s v) = 0 then 1 else 0) else 0) = cnt K mt w - σ * cnt S ms w + (if σ = -1 then (if sgr (s w) = 0 then 1 else 0) else 0)) := by
    refine (hS.1.fine.and hK.fine).mp fun v w hv hw hvw hh a1 a2 => ?_
    obtain ⟨⟨c1, c2⟩, ⟨d1, d2⟩⟩ := hh
    have kG' := kG.sub a1 a2
    have kq' := kq.sub a1 a2
    have kept : ∀ u, fxs u s v w → cnt K mt v - σ * cnt S ms v + (if σ = -1 then (if sgr (s v) = 0 then 1 else 0) else 0) = cnt K mt w - σ * cnt S ms w + (if σ = -1 then (if sgr (s w) = 0 then 1 else 0) else 0) := fun u hu => by
      obtain ⟨x, i1⟩ := hu.factor hG hk hv hw hvw (fun z => by rw [es]; grind)
      have f1 : cnt K mt v = cnt K mt w := cell_kept hvw d1 hK.1 (by rw [ek]; exact i1)
      have f2 : cnt S ms v = cnt S ms w := cell_kept hvw c1 hS.1.1 (by rw [e0]; exact hu)
      rw [f1, f2, hu.at Rat.le_refl hvw, hu.at hvw Rat.le_refl]
    rcases c2 with ⟨u, c2⟩ | ⟨m2, γ, c2⟩
    · rw [e0] at c2; exact kept u c2
    rcases d2 with ⟨u, d2⟩ | ⟨t2, β, d2⟩
    · rw [ek] at d2
      have := d2.mul kG'
      rw [show (fun z => k z * G z) = s from funext fun z => (es z).symm] at this
      exact kept _ this
    obtain ⟨κs, κ0, hDD⟩ := hS.2
    have sl : ∀ z, s' z = κs * S 1 z := by
      have h2 := hDD m2
      rw [e0] at h2
      obtain ⟨n1, hs'⟩ := hs'
      obtain ⟨n2, hs1⟩ := hS.pp (i := 1) (by omega)
      exact DD.uniq hD h2 hs' (hs1.smul κs)
    have v1 : vch (fun i => S i v) ms = vch (fun i => S i w) ms + ((if sgr (S 0 v) = -γ then 1 else 0) - (if sgr (S 0 w) = -γ then 1 else 0)) := cell_head hvw c1 m2 c2
    have v2 : vch (fun i => K i v) mt = vch (fun i => K i w) mt + ((if sgr (K 0 v) = -β then 1 else 0) - (if sgr (K 0 w) = -β then 1 else 0)) := cell_head hvw d1 t2 d2
    have sk : ∀ z, v ≤ z → z ≤ w → sgr (k z) = κ * sgr (s z) := fun z z1 z2 => by
      rw [es, sgr_mul, kG'.at z1 z2]
      rcases kG.unit with e | e <;> rw [e] <;> omega
    rw [e0] at v1
    rw [ek, sk v Rat.le_refl hvw, sk w hvw Rat.le_refl] at v2
    rcases Classical.em (sgr (s v) = sgr (s w) ∧ s v ≠ 0) with e | e
    · show vch _ _ - σ * vch _ _ + _ = vch _ _ - σ * vch _ _ + _
      rw [v1, v2, e.1]; simp
    · have hβ : γ * σ = β * κ := by
        obtain ⟨l, μ, l0, hμ, hN⟩ := hT t2
        have lc : fxs 1 (fun _ => l * κs) v w := ⟨l * κs, Rat.mul_pos l0 κ0, Or.inl ⟨rfl, fun _ _ _ => Rat.le_refl⟩⟩
        have hP := (lc.mul c2).mul kq'
        rw [Int.one_mul] at hP
        refine sgn_same hs hμ hv hw hvw hP (d2.mul kG') (fun z => ?_) e
        rw [hN, sl]; grind
      have hb2 : β = γ * σ * κ := by
        rcases kG.unit with e | e <;> rw [e] at hβ ⊢ <;> omega
      rw [hb2] at v2
      have ar := tarski_arith γ σ κ (sgr (s v)) (sgr (s w)) c2.unit kq.unit kG.unit (sgr_cases _) (sgr_cases _)
      show vch _ _ - σ * vch _ _ + _ = vch _ _ - σ * vch _ _ + _
      rw [v1, v2]
      generalize (if κ * sgr (s v) = -(γ * σ * κ) then (1 : Int) else 0) - (if κ * sgr (s w) = -(γ * σ * κ) then 1 else 0) = A at *
      generalize (if sgr (s v) = -γ then (1 : Int) else 0) - (if sgr (s w) = -γ then 1 else 0) = Bq at *
      rw [Int.mul_add]
      rcases kq.unit with e | e
      · subst e; simp only [show ¬ ((1 : Int) = -1) by decide, if_false] at *; omega
      · subst e; simp only [if_true] at *; omega
  have r := W.mesh (fun x y z _ _ _ hxy hyz p q a1 a2 => (p a1 (by grind)).trans (q (by grind) a2)) ha hb hab Rat.le_refl Rat.le_refl
  rw [if_neg (sgr_ne.mpr sa), if_neg (sgr_ne.mpr sb)] at r
  rw [Int.mul_sub]
  split at r <;> omega
