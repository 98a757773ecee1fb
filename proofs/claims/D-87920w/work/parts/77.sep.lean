/-! at most one fall where the other factor of the slope keeps its sign -/
set_option maxRecDepth 100000
set_option linter.unusedVariables false
/-- a change of sign comes near 0 -/
theorem crossing {s : Rat → Rat} (hs : PP s) {x y : Rat} (hx : iB x) (hy : iB y) (hxy : x ≤ y) (h0 : s x < 0) (h1 : 0 ≤ s y) {δ : Rat} (hδ : 0 < δ) : ∃ z, x ≤ z ∧ z ≤ y ∧ -δ < s z ∧ s z < 0 := by
  obtain ⟨n, hs⟩ := hs
  obtain ⟨L, l1, l2⟩ := hs.lip
  refine Classical.byContradiction fun hno => ?_
  have far : ∀ z, x ≤ z → z ≤ y → s z < 0 → s z ≤ -δ := fun z a b c => by
    rcases Classical.em (s z ≤ -δ) with q | q
    · exact q
    · exact absurd ⟨z, a, b, by grind, c⟩ hno
  have hLi : 0 < L⁻¹ := Rat.inv_pos.mpr l1
  have hLL : L * L⁻¹ = 1 := Rat.mul_inv_cancel _ (by intro q; rw [q] at l1; exact Rat.lt_irrefl l1)
  have W : fine (fun u v => x ≤ u → v ≤ y → s u < 0 → s v < 0) := by
    refine ⟨δ / 2 * L⁻¹, Rat.mul_pos (by grind) hLi, fun u v hu hv huv hd a b c => ?_⟩
    have e1 := far u a (by grind) c
    have e2 := (l2 u v hu hv huv).2
    have e3 : L * (v - u) ≤ L * (δ / 2 * L⁻¹) := Rat.mul_le_mul_of_nonneg_left hd (Rat.le_of_lt l1)
    have e4 : L * (δ / 2 * L⁻¹) = δ / 2 := by grind
    grind
  have := W.mesh (fun u v w _ _ _ huv hvw p q a b c => q (by grind) b (p a (by grind) c)) hx hy hxy Rat.le_refl Rat.le_refl h0
  grind
/-- what is below all multiples of small numbers is not above 0 -/
theorem lim_lin {w C d : Rat} (hC : 0 ≤ C) (hd : 0 < d) (h : ∀ δ, 0 < δ → δ < d → w ≤ C * δ) : w ≤ 0 := by
  rcases Classical.em (w ≤ 0) with q | q
  · exact q
  exfalso
  have hw : 0 < w := by grind
  have hCd := Rat.mul_nonneg hC (Rat.le_of_lt hd)
  obtain ⟨D, hD⟩ : ∃ D, D = 2 * (w + C * d) := ⟨_, rfl⟩
  have hD0 : 0 < D := by grind
  have hDi : 0 < D⁻¹ := Rat.inv_pos.mpr hD0
  have hDD : D * D⁻¹ = 1 := Rat.mul_inv_cancel _ (by intro q; rw [q] at hD0; exact Rat.lt_irrefl hD0)
  have p1 := Rat.mul_pos hw hd
  have p2 := Rat.mul_pos p1 hDi
  have e1 : w * d * D⁻¹ < d := by
    refine Rat.lt_of_mul_lt_mul_left (c := D) ?_ (Rat.le_of_lt hD0)
    have e2 : D * (w * d * D⁻¹) = w * d := by grind
    rw [e2, hD]
    have := Rat.mul_nonneg hCd (Rat.le_of_lt hd)
    grind
  have e3 := h _ p2 e1
  have e4 : D * w ≤ D * (C * (w * d * D⁻¹)) := Rat.mul_le_mul_of_nonneg_left e3 (Rat.le_of_lt hD0)
  have e5 : D * (C * (w * d * D⁻¹)) = C * d * w := by grind
  rw [e5, hD] at e4
  have p3 := Rat.mul_pos hw hw
  have p4 := Rat.mul_nonneg hCd (Rat.le_of_lt hw)
  grind
/-- 0 over a span: 0 everywhere -/
theorem PF.span_zero {n : Nat} {p : Rat → Rat} (h : PF n p) {x y : Rat} (hxy : x < y) (hz : ∀ z, x ≤ z → z ≤ y → p z = 0) : ∀ z, p z = 0 := by
  obtain ⟨c, h⟩ := h
  rcases Nat.eq_zero_or_pos n with e | e
  · subst e; intro z; rw [h]; rfl
  have hN' : (0 : Rat) < (n : Rat) := Rat.natCast_pos.mpr e
  have hN0 : (n : Rat) ≠ 0 := by intro e; rw [e] at hN'; exact Rat.lt_irrefl hN'
  have hi : 0 < (n : Rat)⁻¹ := Rat.inv_pos.mpr hN'
  have hii : (n : Rat) * (n : Rat)⁻¹ = 1 := Rat.mul_inv_cancel _ hN0
  obtain ⟨d, hd⟩ : ∃ d, d = (y - x) * (n : Rat)⁻¹ := ⟨_, rfl⟩
  have hd0 : 0 < d := by rw [hd]; exact Rat.mul_pos (by grind) hi
  have hnd : (n : Rat) * d = y - x := by rw [hd]; grind
  have hc := ps_roots n c (fun i => x + (i : Rat) * d) (fun i j hij _ e => by
    have e2 : (i : Rat) * d = (j : Rat) * d := by
      have e' : x + (i : Rat) * d = x + (j : Rat) * d := e
      grind
    have := Rat.mul_lt_mul_of_pos_right (Rat.natCast_lt_natCast.mpr hij) hd0
    rw [e2] at this; exact Rat.lt_irrefl this) fun i hi => by
    rw [← h]
    have a1 : 0 ≤ (i : Rat) * d := Rat.mul_nonneg Rat.natCast_nonneg (Rat.le_of_lt hd0)
    have a2 : (i : Rat) * d ≤ (n : Rat) * d := Rat.mul_le_mul_of_nonneg_right (Rat.natCast_le_natCast.mpr (by omega)) (Rat.le_of_lt hd0)
    exact hz _ (by grind) (by grind)
  intro z
  rw [h, ps_congr (d := fun _ => 0) (fun k hk => hc k hk), ps_zero]
theorem ab_sq {x K : Rat} (h : ab x K) : x * x ≤ K * K := by
  have := (h.mul h).2; exact this
/-- where p = g s, p' = g t and t is below 0, a rising s doesn't change its sign -/
theorem no_reverse {s t g p : Rat → Rat} (hs : PP s) (hg : PP g) (ht : PP t) {n : Nat} (hp : PF n p) (e : ∀ z, p z = g z * s z) (hD : DD p (fun z => g z * t z)) (hn : ¬ ∀ z, p z = 0) {x y : Rat} (hx : iB x) (hy : iB y) (hxy : x ≤ y) (hm : ∀ a b, x ≤ a → a ≤ b → b ≤ y → s a ≤ s b) (hneg : ∀ z, x ≤ z → z ≤ y → t z < 0) : sgr (s x) = sgr (s y) := by
  refine Classical.byContradiction fun hne => ?_
  have box : ∀ z, x ≤ z → z ≤ y → iB z := fun z a b => iB.of hx hy a b
  obtain ⟨ng, hg'⟩ := hg
  obtain ⟨nt, ht'⟩ := ht
  obtain ⟨K, k1, k2⟩ := hg'.bnd
  have hgt : PF (ng + (nt + 1)) (fun z => g z * t z) := hg'.mul (ht'.mono (by omega))
  have hD2 := hD.mul hD hp hp hgt hgt
  have sq : ∀ z, (fun z => g z * t z * p z + p z * (g z * t z)) z = 2 * (g z * g z) * (s z * t z) := fun z => by
    show g z * t z * p z + p z * (g z * t z) = _
    rw [e]; grind
  have mxy := hm x y Rat.le_refl hxy Rat.le_refl
  rcases Classical.em (s x < 0) with h0 | h0
  · have h1 : 0 ≤ s y := by
      rcases Classical.em (s y < 0) with q | q
      · exact absurd (by rw [sgr_neg h0, sgr_neg q]) hne
      · grind
    have hlt : x < y := by
      rcases Classical.em (x < y) with q | q
      · exact q
      · have : x = y := by grind
        rw [this] at h0; grind
    -- p's square rises while s is below 0
    have rise : ∀ z', x ≤ z' → ∀ z, z' ≤ z → z ≤ y → s z < 0 → p z' * p z' ≤ p z * p z := fun z' a z b c q => by
      refine hD2.mvt (box z' a (by grind)) (box z (by grind) c) b fun v v1 v2 => ?_
      show 0 ≤ g v * t v * p v + p v * (g v * t v)
      rw [show g v * t v * p v + p v * (g v * t v) = 2 * (g v * g v) * (s v * t v) from sq v]
      have a1 := hm v z (by grind) v2 c
      have a2 := hneg v (by grind) (by grind)
      have a3 := Rat.mul_nonneg (show 0 ≤ - s v by grind) (show 0 ≤ - t v by grind)
      have a4 := Rat.mul_nonneg (rsq (g v)) a3
      grind
    obtain ⟨m, m1, m2, m3, m4⟩ := crossing hs hx hy hxy h0 h1 (δ := - s x / 2) (by grind)
    have hxm : x < m := by
      rcases Classical.em (x < m) with q | q
      · exact q
      · have : x = m := by grind
        rw [← this] at m3; grind
    have hK2 : 0 ≤ K * K := Rat.mul_nonneg (Rat.le_of_lt k1) (Rat.le_of_lt k1)
    have zero : ∀ z', x ≤ z' → z' ≤ m → p z' = 0 := fun z' a b => by
      have h5 : p z' * p z' ≤ 0 := by
        refine lim_lin (C := K * K * (- s m)) (d := - s m) (Rat.mul_nonneg hK2 (by grind)) (by grind) fun δ d1 d2 => ?_
        obtain ⟨z, z1, z2, z3, z4⟩ := crossing hs hx hy hxy h0 h1 d1
        have hmz : m ≤ z := by
          rcases Classical.em (m ≤ z) with q | q
          · exact q
          · have := hm z m z1 (by grind) m2
            grind
        have r := rise z' a z (by grind) z2 z4
        have r2 : p z * p z ≤ K * K * (- s m * δ) := by
          have b1 : s z * s z ≤ - s m * δ := by
            have b2 := ab_sq (x := s z) (K := δ) (by unfold ab; grind)
            have b3 : δ * δ ≤ (- s m) * δ := Rat.mul_le_mul_of_nonneg_right (by grind) (Rat.le_of_lt d1)
            grind
          have b4 := ab_sq (k2 z (box z z1 z2))
          have b5 := rsq (s z)
          have b6 : g z * g z * (s z * s z) ≤ K * K * (s z * s z) := Rat.mul_le_mul_of_nonneg_right b4 b5
          have b7 : K * K * (s z * s z) ≤ K * K * (- s m * δ) := Rat.mul_le_mul_of_nonneg_left b1 hK2
          have b8 : p z * p z = g z * g z * (s z * s z) := by rw [e]; grind
          grind
        grind
      have h6 := rsq (p z')
      have h7 : p z' * p z' = 0 := by grind
      rcases Rat.mul_eq_zero.mp h7 with q | q <;> exact q
    exact hn (hp.span_zero hxm zero)
  · have h1 : s x = 0 := by
      rcases Classical.em (s x = 0) with q | q
      · exact q
      · have q1 : 0 < s x := by grind
        exact absurd (by rw [sgr_pos q1, sgr_pos (show 0 < s y by grind)]) hne
    have h2 : 0 < s y := by
      rcases Classical.em (0 < s y) with q | q
      · exact q
      · have : s y = 0 := by grind
        exact absurd (by rw [h1, this]) hne
    have hlt : x < y := by
      rcases Classical.em (x < y) with q | q
      · exact q
      · have : x = y := by grind
        rw [this] at h1; grind
    have px : p x = 0 := by rw [e, h1]; grind
    refine hn (hp.span_zero hlt fun z a b => ?_)
    have fall : p z * p z ≤ p x * p x := by
      have := (hD2.smul (-1)).mvt hx (box z a b) a fun v v1 v2 => by
        have a1 := hm x v Rat.le_refl v1 (by grind)
        have a2 := hneg v v1 (by grind)
        have a3 := Rat.mul_nonneg (show 0 ≤ s v by grind) (show 0 ≤ - t v by grind)
        have a4 := Rat.mul_nonneg (rsq (g v)) a3
        have a5 := sq v
        show 0 ≤ -1 * (g v * t v * p v + p v * (g v * t v))
        have a6 : g v * t v * p v + p v * (g v * t v) = 2 * (g v * g v) * (s v * t v) := a5
        rw [a6]; grind
      grind
    have h6 := rsq (p z)
    rw [px] at fall
    have h7 : p z * p z = 0 := by grind
    rcases Rat.mul_eq_zero.mp h7 with q | q <;> exact q
theorem sgr_negate (x : Rat) : sgr (-x) = - sgr x := by
  unfold sgr
  rcases Classical.em (0 < x) with h | h
  · rw [if_pos h, if_neg (by grind), if_pos (by grind)]
  · rw [if_neg h]
    rcases Classical.em (x < 0) with q | q
    · rw [if_pos q, if_pos (by grind)]; rfl
    · rw [if_neg q, if_neg (by grind), if_neg (by grind)]; rfl
/-- the count over a span where t keeps the sign u -/
theorem sep_count {F : Nat → pf} {m : Nat} (h : schain F m) {κ : Rat} (hκ : 0 < κ) (hDF : 2 ≤ m → DD (F 0) (fun x => κ * F 1 x)) {t g p : Rat → Rat} (hg : PP g) (ht : PP t) {n : Nat} (hp : PF n p) (e : ∀ z, p z = g z * F 0 z) (hD : DD p (fun z => g z * t z)) (hn : ¬ ∀ z, p z = 0) {a b : Rat} (ha : iB a) (hb : iB b) (hab : a ≤ b) {u : Int} (hu : fxs u t a b) :
    vch (fun i => F i a) m + (if sgr (F 0 b) = -u then 1 else 0) = vch (fun i => F i b) m + (if sgr (F 0 a) = -u then 1 else 0) := by
  have W : Jvm.Pilot.CIdealCourtLaw_law_r5787_380c08.fine (fun x y => a ≤ x → y ≤ b → vch (fun i => F i x) m + (if sgr (F 0 y) = -u then 1 else 0) = vch (fun i => F i y) m + (if sgr (F 0 x) = -u then 1 else 0)) := by
    refine h.fine.mp fun x y hx hy hxy hh h1 h2 => ?_
    obtain ⟨c1, ⟨γ, c2⟩ | ⟨c2, γ, c3⟩⟩ := hh
    · rw [cell_kept hxy c1 h.1 c2, c2.at Rat.le_refl hxy, c2.at hxy Rat.le_refl]
    · rw [cell_head hxy c1 c2 c3]
      by_cases hgu : γ = u
      · subst hgu; omega
      · have key : sgr (F 0 x) = sgr (F 0 y) := by
          have mm : ∀ a b, x ≤ a → a ≤ b → b ≤ y → _ := fun a b q1 q2 q3 => c3.mono (hDF c2) hκ (iB.of hx hy q1 (by grind)) (iB.of hx hy (by grind) q3) q1 q2 q3
          have gu := c3.unit
          have uu := hu.unit
          rcases gu with e1 | e1
          · have e2 : u = -1 := by omega
            subst e1
            refine no_reverse (h.2.1 0 (by omega)) hg ht hp e hD hn hx hy hxy (fun a b q1 q2 q3 => (mm a b q1 q2 q3).1 rfl) fun z z1 z2 => ?_
            rcases hu.w with ⟨q, _⟩ | ⟨_, q⟩
            · omega
            · exact q z (by grind) (by grind)
          · have e2 : u = 1 := by omega
            subst e1
            have := no_reverse (s := fun z => - F 0 z) (t := fun z => - t z) (g := fun z => - g z) (p := p) (h.2.1 0 (by omega)).neg hg.neg ht.neg hp (fun z => by rw [e]; grind) (by
              rwa [show (fun z => - g z * - t z) = fun z => g z * t z from funext fun z => by grind]) hn hx hy hxy (fun a b q1 q2 q3 => by
                have := (mm a b q1 q2 q3).2 rfl
                grind) fun z z1 z2 => by
                rcases hu.w with ⟨_, q⟩ | ⟨q, _⟩
                · have := q z (by grind) (by grind); grind
                · omega
            simp only [sgr_negate] at this
            omega
        rw [key]; omega
  exact W.mesh (fun x y z _ _ _ hxy hyz q1 q2 a1 a2 => by
    have b1 := q1 a1 (by grind)
    have b2 := q2 (by grind) a2
    omega) ha hb hab Rat.le_refl Rat.le_refl
/-- no fall where the first one keeps its sign -/
theorem kept_all {F : Nat → pf} {m : Nat} (h : schain F m) {a b : Rat} (ha : iB a) (hb : iB b) (hab : a ≤ b) {u : Int} (hu : fxs u (F 0) a b) : vch (fun i => F i a) m = vch (fun i => F i b) m := by
  have W : Jvm.Pilot.CIdealCourtLaw_law_r5787_380c08.fine (fun x y => a ≤ x → y ≤ b → vch (fun i => F i x) m = vch (fun i => F i y) m) := by
    refine h.fine.mp fun x y hx hy hxy hh h1 h2 => ?_
    obtain ⟨c1, ⟨γ, c2⟩ | ⟨c2, γ, c3⟩⟩ := hh
    · exact cell_kept hxy c1 h.1 c2
    · rw [cell_head hxy c1 c2 c3, hu.at h1 (by grind), hu.at (by grind) h2]; omega
  exact W.mesh (fun x y z _ _ _ hxy hyz q1 q2 a1 a2 => (q1 a1 (by grind)).trans (q2 (by grind) a2)) ha hb hab Rat.le_refl Rat.le_refl
/-- over a span as short as the numbers tell there is one fall at most -/
theorem sep_short {F : Nat → pf} {m : Nat} (h : schain F m) {κ : Rat} (hκ : 0 < κ) (hDF : 2 ≤ m → DD (F 0) (fun x => κ * F 1 x)) {t g p u v : Rat → Rat} (hg : PP g) (ht : PP t) {n : Nat} (hp : PF n p) (e : ∀ z, p z = g z * F 0 z) (hD : DD p (fun z => g z * t z)) (hn : ¬ ∀ z, p z = 0)
    {Ls Lt Ku Kv : Rat} (hLs : lip (F 0) Ls) (hLt : lip t Lt) (s0 : 0 < Ls) (t0 : 0 < Lt) (hu : bnd u Ku) (hv : bnd v Kv) (u0 : 0 < Ku) (v0 : 0 < Kv) (hb : ∀ z, iB z → u z * F 0 z + v z * t z = 1) {ε : Rat} (h0 : 0 < ε) (h1 : 2 * Ku * Ls * ε < 1) (h2 : 4 * Kv * Lt * ε < 1) {x y : Rat} (hx : iB x) (hy : iB y) (hxy : x ≤ y) (hd : y - x ≤ ε) : vch (fun i => F i x) m ≤ vch (fun i => F i y) m + 1 := by
  rcases keep_or hLs s0 hx hy hxy hd with ⟨γ, q⟩ | q
  · rw [kept_all h hx hy hxy q]; omega
  · obtain ⟨⟨w, k1⟩, _⟩ := keep_other hLs hLt s0 t0 hu hv u0 v0 hb hx hy hxy hd h0 h1 h2 q
    have := sep_count h hκ hDF hg ht hp e hD hn hx hy hxy k1
    split at this <;> split at this <;> omega
theorem div_bound1 {v s δ B : Rat} (d0 : 0 < δ) (hs : δ ≤ s ∨ s ≤ -δ) (h1 : v * s ≤ B) (h2 : -(v * s) ≤ B) (hB : 0 ≤ B) : v ≤ B * δ⁻¹ := by
  have hi : 0 < δ⁻¹ := Rat.inv_pos.mpr d0
  have hdd : δ * δ⁻¹ = 1 := Rat.mul_inv_cancel _ (by intro q; rw [q] at d0; exact Rat.lt_irrefl d0)
  rcases Classical.em (v ≤ 0) with q | q
  · have := Rat.mul_nonneg hB (Rat.le_of_lt hi); exact Rat.le_trans q this
  · have v0 : 0 ≤ v := by grind
    have h3 : v * δ ≤ B := by
      rcases hs with g | g
      · exact Rat.le_trans (Rat.mul_le_mul_of_nonneg_left g v0) h1
      · have h4 := Rat.mul_le_mul_of_nonneg_left g v0
        have h5 : v * -δ = -(v * δ) := by grind
        rw [h5] at h4
        have h6 : v * δ ≤ -(v * s) := by grind
        exact Rat.le_trans h6 h2
    have h7 := Rat.mul_le_mul_of_nonneg_right h3 (Rat.le_of_lt hi)
    have h8 : v * δ * δ⁻¹ = v := by grind
    rwa [h8] at h7
theorem div_bound {v s δ B : Rat} (d0 : 0 < δ) (hs : δ ≤ s ∨ s ≤ -δ) (h : ab (v * s) B) : ab v (B * δ⁻¹) := by
  have hB := h.nn
  obtain ⟨h1, h2⟩ := h
  have a1 := div_bound1 (v := v) d0 hs h2 (by grind) hB
  have a2 := div_bound1 (v := -v) d0 hs (by grind) (by grind) hB
  exact ⟨by grind, a1⟩
/-- b' s = b t with s away from 0: b is away from 0, or 0 -/
theorem ode_keep {s t b b' : Rat → Rat} (hb : PP b) (hb' : PP b') (ht : PP t) (e : ∀ z, b' z * s z = b z * t z) (hD : DD b b') {x y : Rat} (hx : iB x) (hy : iB y) (hxy : x ≤ y) {u : Int} (hu : fxs u s x y) {c : Rat} (hc1 : x ≤ c) (hc2 : c ≤ y) (hc : b c ≠ 0) : ∀ z, x ≤ z → z ≤ y → b z ≠ 0 := by
  obtain ⟨nb, hb⟩ := hb
  obtain ⟨nb', hb'⟩ := hb'
  obtain ⟨nt, ht⟩ := ht
  obtain ⟨K, k1, k2⟩ := ht.bnd
  obtain ⟨δ, d0, hδ⟩ := hu
  have box : ∀ z, x ≤ z → z ≤ y → iB z := fun z a b => iB.of hx hy a b
  -- the square's slope is at most M times the square
  obtain ⟨M, m0, hM⟩ : ∃ M : Rat, 0 < M ∧ ∀ z, x ≤ z → z ≤ y → ab (2 * (b z * b' z)) (M * (b z * b z)) := by
    refine ⟨2 * (K * δ⁻¹), by have := Rat.mul_pos k1 (Rat.inv_pos.mpr d0); grind, fun z a1 a2 => ?_⟩
    have kz := k2 z (box z a1 a2)
    have c1 := (ab.self (rsq (b z))).mul kz
    have e3 : b z * b z * t z = b z * b' z * s z := by have := e z; grind
    rw [e3] at c1
    have c2 := div_bound d0 (by rcases hδ with ⟨_, g⟩ | ⟨_, g⟩
                                · exact Or.inl (g z a1 a2)
                                · exact Or.inr (g z a1 a2)) c1
    clear kz c1 e3 hδ
    obtain ⟨c3, c4⟩ := c2
    constructor <;> grind
  have hDb := hD.mul hD hb hb hb' hb'
  have hDs : DD (fun z => b z * b z) (fun z => 2 * (b z * b' z)) := by
    rwa [show (fun z => b' z * b z + b z * b' z) = fun z => 2 * (b z * b' z) from funext fun z => by grind] at hDb
  have hM2 : 0 < (4 * M)⁻¹ := Rat.inv_pos.mpr (by grind)
  have hMM : 4 * M * (4 * M)⁻¹ = 1 := Rat.mul_inv_cancel _ (by intro q; grind)
  have lin : ∀ (c q : Rat), DD (fun z => 1 + c * (z - q)) (fun _ => c) := fun c q => ⟨0, Rat.le_refl, fun x y _ _ => by
    show ab (1 + c * (y - q) - (1 + c * (x - q)) - (y - x) * c) (0 * ((y - x) * (y - x)))
    unfold ab; grind⟩
  have linp : ∀ (c q : Rat), PF 2 (fun z => 1 + c * (z - q)) := fun c q => ⟨fun k => if k = 0 then 1 - c * q else c, fun z => by
    simp only [ps, Rat.pow_zero, Rat.pow_succ]
    rw [if_pos trivial, if_neg (by omega)]; grind⟩
  have hbb : PF (nb + (nb + 1)) (fun z => b z * b z) := hb.mul (hb.mono (by omega))
  have hbb' : PF (nb + (nb' + 1)) (fun z => 2 * (b z * b' z)) := (hb.mul (hb'.mono (by omega))).smul 2
  -- over short steps the square at one end bounds the other's
  have step : fine (fun v w => x ≤ v → w ≤ y → (b v = 0 → b w = 0) ∧ (b w = 0 → b v = 0)) := by
    refine ⟨(4 * M)⁻¹, hM2, fun v w hv hw hvw hd a1 a2 => ?_⟩
    have near : ∀ z, v ≤ z → z ≤ w → 0 ≤ 2 * M * (z - v) ∧ 2 * M * (z - v) ≤ 1 / 2 := fun z z1 z2 => by
      have f1 : 4 * M * (z - v) ≤ 4 * M * (4 * M)⁻¹ := Rat.mul_le_mul_of_nonneg_left (by grind) (by grind)
      have f0 : 0 ≤ 2 * M * (z - v) := Rat.mul_nonneg (by grind) (by grind)
      rw [hMM] at f1
      exact ⟨f0, by grind⟩
    constructor
    · intro h0
      have hψ := (hDs.mul (lin (-(2 * M)) v) hbb (linp _ v) hbb' (PF.const _)).smul (-1)
      have r := hψ.mvt hv hw hvw fun z z1 z2 => by
        obtain ⟨z3, z4⟩ := hM z (by grind) (by grind)
        have sq := rsq (b z)
        obtain ⟨f0, f1⟩ := near z z1 z2
        show 0 ≤ -1 * (2 * (b z * b' z) * (1 + -(2 * M) * (z - v)) + b z * b z * -(2 * M))
        have g1 : 2 * (b z * b' z) * (1 - 2 * M * (z - v)) ≤ M * (b z * b z) * (1 - 2 * M * (z - v)) := Rat.mul_le_mul_of_nonneg_right z4 (by grind)
        have g3 := Rat.mul_nonneg (Rat.le_of_lt m0) sq
        have g2 : M * (b z * b z) * (1 - 2 * M * (z - v)) ≤ M * (b z * b z) * 1 := Rat.mul_le_mul_of_nonneg_left (by grind) g3
        have g4 : -1 * (2 * (b z * b' z) * (1 + -(2 * M) * (z - v)) + b z * b z * -(2 * M)) = 2 * (M * (b z * b z)) - 2 * (b z * b' z) * (1 - 2 * M * (z - v)) := by grind
        rw [g4]
        generalize 2 * (b z * b' z) * (1 - 2 * M * (z - v)) = q1 at *
        generalize M * (b z * b z) * (1 - 2 * M * (z - v)) = q2 at *
        generalize M * (b z * b z) = q3 at *
        grind
      have r2 : -1 * (b v * b v * (1 + -(2 * M) * (v - v))) ≤ -1 * (b w * b w * (1 + -(2 * M) * (w - v))) := r
      rw [h0] at r2
      obtain ⟨f0, f1⟩ := near w hvw Rat.le_refl
      have sq := rsq (b w)
      have g5 : b w * b w * (1 / 2) ≤ b w * b w * (1 - 2 * M * (w - v)) := Rat.mul_le_mul_of_nonneg_left (by grind) sq
      have g6 : b w * b w * (1 + -(2 * M) * (w - v)) = b w * b w * (1 - 2 * M * (w - v)) := by grind
      rw [g6] at r2
      have h7 : b w * b w = 0 := by
        generalize b w * b w * (1 - 2 * M * (w - v)) = q1 at *
        generalize b w * b w = q2 at *
        grind
      rcases Rat.mul_eq_zero.mp h7 with q | q <;> exact q
    · intro h0
      have hψ := hDs.mul (lin (2 * M) v) hbb (linp _ v) hbb' (PF.const _)
      have r := hψ.mvt hv hw hvw fun z z1 z2 => by
        obtain ⟨z3, z4⟩ := hM z (by grind) (by grind)
        have sq := rsq (b z)
        obtain ⟨f0, f1⟩ := near z z1 z2
        show 0 ≤ 2 * (b z * b' z) * (1 + 2 * M * (z - v)) + b z * b z * (2 * M)
        have g3 := Rat.mul_nonneg (Rat.le_of_lt m0) sq
        have g1 : -(M * (b z * b z)) * (1 + 2 * M * (z - v)) ≤ 2 * (b z * b' z) * (1 + 2 * M * (z - v)) := Rat.mul_le_mul_of_nonneg_right z3 (by grind)
        have g2 : M * (b z * b z) * (1 + 2 * M * (z - v)) ≤ M * (b z * b z) * (3 / 2) := Rat.mul_le_mul_of_nonneg_left (by grind) g3
        have g4 : -(M * (b z * b z)) * (1 + 2 * M * (z - v)) = -(M * (b z * b z) * (1 + 2 * M * (z - v))) := by grind
        have g5 : b z * b z * (2 * M) = 2 * (M * (b z * b z)) := by grind
        rw [g4] at g1
        rw [g5]
        generalize 2 * (b z * b' z) * (1 + 2 * M * (z - v)) = q1 at *
        generalize M * (b z * b z) * (1 + 2 * M * (z - v)) = q2 at *
        generalize M * (b z * b z) = q3 at *
        grind
      have r2 : b v * b v * (1 + 2 * M * (v - v)) ≤ b w * b w * (1 + 2 * M * (w - v)) := r
      rw [h0] at r2
      have sq := rsq (b v)
      have h7 : b v * b v = 0 := by
        have g6 : b v * b v * (1 + 2 * M * (v - v)) = b v * b v := by grind
        rw [g6] at r2
        grind
      rcases Rat.mul_eq_zero.mp h7 with q | q <;> exact q
  have tr : ∀ p q r : Rat, iB p → iB q → iB r → p ≤ q → q ≤ r → (x ≤ p → q ≤ y → (b p = 0 → b q = 0) ∧ (b q = 0 → b p = 0)) → (x ≤ q → r ≤ y → (b q = 0 → b r = 0) ∧ (b r = 0 → b q = 0)) → (x ≤ p → r ≤ y → (b p = 0 → b r = 0) ∧ (b r = 0 → b p = 0)) := fun p q r _ _ _ hpq hqr h1 h2 a1 a2 => by
    have b1 := h1 a1 (by grind)
    have b2 := h2 (by grind) a2
    exact ⟨fun g => b2.1 (b1.1 g), fun g => b1.2 (b2.2 g)⟩
  intro z z1 z2 hz
  rcases (Rat.le_total : z ≤ c ∨ c ≤ z) with q | q
  · exact hc ((step.mesh tr (box z z1 z2) (box c hc1 hc2) q z1 hc2).1 hz)
  · exact hc ((step.mesh tr (box c hc1 hc2) (box z z1 z2) q hc1 z2).2 hz)
