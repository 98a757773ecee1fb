/-! the sign of a polynomial at a root: both ways -/
-- pure
-- needs: 71.poly 74.anal 75.cells 76.sturm 77.sep 78.keep 79.ode 79a.near 79b.gcd 79c.tarski
set_option maxRecDepth 100000
set_option linter.unusedVariables false
theorem vst_scale {F : Nat → Rat} {c : Rat} (hc : c ≠ 0) : ∀ k, vst (fun i => F i * c) k = (sgr c * (vst F k).1, (vst F k).2) := by
  intro k
  have hs : sgr c = 1 ∨ sgr c = -1 := by
    have := sgr_ne.mpr hc
    rcases sgr_cases c with h | h | h
    · exact Or.inl h
    · exact Or.inr h
    · exact absurd h this
  induction k with
  | zero => simp [vst]
  | succ k ih =>
    have e : sgr (F k * c) = sgr (F k) * sgr c := sgr_mul _ _
    have hf := vst_fst F k
    simp only [vst, e]
    rw [ih]
    rcases sgr_cases (F k) with h | h | h
    · rw [h]; rcases hs with g | g <;> rw [g] <;> rcases hf with f | f | f <;> rw [f] <;> simp
    · rw [h]; rcases hs with g | g <;> rw [g] <;> rcases hf with f | f | f <;> rw [f] <;> simp
    · rw [h]; simp
theorem vch_scale {F : Nat → Rat} {c : Rat} (hc : c ≠ 0) (m : Nat) : vch (fun i => F i * c) m = vch F m := by
  unfold vch; rw [vst_scale hc]
theorem pick2 {m n η : Rat} (h : m < n) (e : 0 < η) : ∃ a, m < a ∧ a < n ∧ a ≤ m + η :=
  ⟨m + (if η ≤ (n - m) / 2 then η else (n - m) / 2), by split <;> grind, by split <;> grind, by split <;> grind⟩
section SIGN
variable {p q s g e G k q1 : pf} {S : Nat → pf} {ms : Nat} {C : Nat → pf} {mg : Nat} {lo hi : Rat}
theorem sign_zero1 (h : com p q s g e G k q1) (hp : spn S ms C mg s g lo hi) (hg : cnt C mg lo ≠ cnt C mg hi) {a b : Rat} (ha : lo ≤ a) (hab : a < b) (hb : b ≤ hi) (h0 : s b = 0) : q b = 0 := by
  have h1 := h.at0 hp hg ha hab hb h0
  obtain ⟨x1, x2, x3, x4, x5, x6, -, x8, x9, -⟩ := h
  rw [x9, h1]; grind
theorem sign_zero2 (h : com p q s g e G k q1) (hp : spn S ms C mg s g lo hi) (hg : cnt C mg lo ≠ cnt C mg hi) {K : Nat → pf} {mt : Nat} (hK : schain K mt) (ek : K 0 = k) {a b : Rat} (ha : lo ≤ a) (hab : a < b) (hb : b ≤ hi) (sa : s a ≠ 0) (sb : s b ≠ 0) : cnt (fun i z => K i z * G z) mt a = cnt (fun i z => K i z * G z) mt b := by
  obtain ⟨u, hu⟩ := h.other hp hg ha hab hb sa
  obtain ⟨hS, e0, hC, e1, hlo, hhi, hlh, h1⟩ := hp
  rw [← ek] at hu
  have hk := kept_all hK (iB.of hlo hhi ha (by grind)) (iB.of hlo hhi (by grind) hb) (Rat.le_of_lt hab) hu
  obtain ⟨x1, x2, x3, x4, x5, x6, -, x8, x9, -⟩ := h
  show vch (fun i => K i a * G a) mt = vch (fun i => K i b * G b) mt
  rw [vch_scale (F := fun i => K i a) (fun w => sa (by rw [x8, w]; grind)), vch_scale (F := fun i => K i b) (fun w => sb (by rw [x8, w]; grind))]
  exact hk
/-- where q has no root beside -/
theorem sign_at1 {b : pf} {Q : Nat → pf} {mq : Nat} (hQ : stc Q mq) (eb : Q 0 = b) (hb : shr b q) {x y z : Rat} (hx : iB x) (hy : iB y) (hv : cnt Q mq x = cnt Q mq y) (h1 : x < z) (h2 : z ≤ y) : sgr (q z) = sgr (q y) ∧ q z ≠ 0 := by
  have hz : iB z := iB.of hx hy (by grind) h2
  have hbn : ¬ ∀ x, Q 0 x = 0 := fun w => by
    obtain ⟨r, t, p', r1, t1, p1, x1, x2, x3⟩ := hb.2.2.2
    rw [eb] at w
    exact hb.2.2.1 fun z => by rw [x1, w z]; grind
  -- a place between
  have hm : iB ((x + z) / 2) := iB.of hx hy (by grind) (by grind)
  have hmv : cnt Q mq ((x + z) / 2) = cnt Q mq y := by
    have m1 : cnt Q mq ((x + z) / 2) ≤ cnt Q mq x := hQ.mono hx hm (by grind)
    have m2 : cnt Q mq y ≤ cnt Q mq ((x + z) / 2) := hQ.mono hm hy (by grind)
    omega
  have hk := hQ.keep hm hy (by grind) hmv (hQ.behind hbn hx hy hv (by grind) (by grind))
  rw [eb] at hk
  obtain ⟨w, hw⟩ := hb.fxs hm hy (by grind) hk
  exact ⟨by rw [hw.at (by grind) h2, hw.at (by grind) Rat.le_refl], hw.ne (by grind) h2⟩
theorem sign_at2 {b : pf} {Q : Nat → pf} {mq : Nat} (hQ : stc Q mq) (eb : Q 0 = b) (hb : shr b q) {x y z : Rat} (hx : iB x) (hy : iB y) (hv : cnt Q mq x = cnt Q mq y) (h1 : x < z) (h2 : z ≤ y) : fxs (sgr (q y)) q z y := by
  have hz : iB z := iB.of hx hy (by grind) h2
  have hbn : ¬ ∀ x, Q 0 x = 0 := fun w => by
    obtain ⟨r, t, p', r1, t1, p1, x1, x2, x3⟩ := hb.2.2.2
    rw [eb] at w
    exact hb.2.2.1 fun z => by rw [x1, w z]; grind
  have hm : iB ((x + z) / 2) := iB.of hx hy (by grind) (by grind)
  have hmv : cnt Q mq ((x + z) / 2) = cnt Q mq y := by
    have m1 : cnt Q mq ((x + z) / 2) ≤ cnt Q mq x := hQ.mono hx hm (by grind)
    have m2 : cnt Q mq y ≤ cnt Q mq ((x + z) / 2) := hQ.mono hm hy (by grind)
    omega
  have hk := hQ.keep hm hy (by grind) hmv (hQ.behind hbn hx hy hv (by grind) (by grind))
  rw [eb] at hk
  obtain ⟨w, hw⟩ := hb.fxs hm hy (by grind) hk
  rw [hw.at (by grind) Rat.le_refl]
  exact hw.sub (by grind) Rat.le_refl
/-- the upper end is the root -/
theorem sign_at3 (hS : stc S ms) (e0 : S 0 = s) (hn : ¬ ∀ z, s z = 0) (hlo : iB lo) (hhi : iB hi) (h1 : cnt S ms lo = cnt S ms hi + 1) {b : pf} {Q : Nat → pf} {mq : Nat} (hQ : stc Q mq) (eb : Q 0 = b) (hb : shr b q)
    {x y a c : Rat} (hx : lo ≤ x) (hxy : x < y) (hy : y ≤ hi) (v1 : cnt S ms x = cnt S ms y + 1) (vq : cnt Q mq x = cnt Q mq y) (ha : lo ≤ a) (hac : a < c) (hc : c ≤ hi) (v2 : cnt S ms a = cnt S ms c + 1) (h0 : s c = 0) : sgr (q c) = sgr (q y) := by
  have ix := iB.of hlo hhi hx (by grind)
  have iy := iB.of hlo hhi (by grind) hy
  have ia := iB.of hlo hhi ha (by grind)
  have ic := iB.of hlo hhi (by grind) hc
  rw [← e0] at hn h0
  have c1 : x < c := by
    refine Classical.byContradiction fun w => ?_
    have m1 : cnt S ms a ≤ cnt S ms lo := hS.mono hlo ia ha
    have m2 : cnt S ms x ≤ cnt S ms c := hS.mono ic ix (by grind)
    have m3 : cnt S ms hi ≤ cnt S ms y := hS.mono iy hhi hy
    omega
  have c2 : c ≤ y := by
    refine Classical.byContradiction fun w => ?_
    have m1 : cnt S ms x ≤ cnt S ms lo := hS.mono hlo ix hx
    have m2 : cnt S ms c ≤ cnt S ms y := hS.mono iy ic (by grind)
    have m3 : cnt S ms hi ≤ cnt S ms c := hS.mono ic hhi hc
    exact hS.behind hn iy ic (by show cnt S ms y = cnt S ms c; omega) (by grind) Rat.le_refl h0
  exact (sign_at1 hQ eb hb ix iy vq c1 c2).1
/-- no end of the span is the root -/
theorem sign_at4 (h : com p q s g e G k q1) (hS : stc S ms) (e0 : S 0 = s) (hlo : iB lo) (hhi : iB hi) (h1 : cnt S ms lo = cnt S ms hi + 1) {b : pf} {Q : Nat → pf} {mq : Nat} (hQ : stc Q mq) (eb : Q 0 = b) (hb : shr b q) {s' : pf} (hs' : PP s') (hD : DD s s')
    {K : Nat → pf} {mt : Nat} (hK : schain K mt) (ek : K 0 = k) (hT : 2 ≤ mt → ∃ (l : Rat) (μ : pf), 0 < l ∧ PP μ ∧ ∀ z, K 1 z * G z = l * (s' z * q z) - μ z * s z)
    {x y a c : Rat} (hx : lo ≤ x) (hxy : x < y) (hy : y ≤ hi) (v1 : cnt S ms x = cnt S ms y + 1) (vq : cnt Q mq x = cnt Q mq y) (ha : lo ≤ a) (hac : a < c) (hc : c ≤ hi) (v2 : cnt S ms a = cnt S ms c + 1) (sa : s a ≠ 0) (sc : s c ≠ 0) : cnt (fun i z => K i z * G z) mt a - cnt (fun i z => K i z * G z) mt c = sgr (q y) := by
  have ix := iB.of hlo hhi hx (by grind)
  have iy := iB.of hlo hhi (by grind) hy
  have ia := iB.of hlo hhi ha (by grind)
  have ic := iB.of hlo hhi (by grind) hc
  have hn := h.nz
  have hn' := hn
  rw [← e0] at hn
  have mo : ∀ u v, lo ≤ u → u ≤ v → v ≤ hi → cnt S ms v ≤ cnt S ms u := fun u v p1 p2 p3 => hS.mono (iB.of hlo hhi p1 (by grind)) (iB.of hlo hhi (by grind) p3) p2
  obtain ⟨x1, x2, x3, x4, x5, x6, -, x8, x9, -, -⟩ := id h
  -- the low end of a smaller span
  obtain ⟨m, m0, m1, m2, m3⟩ : ∃ m, lo ≤ m ∧ x ≤ m ∧ a ≤ m ∧ (m = x ∨ m = a) := by
    rcases (Rat.le_total : x ≤ a ∨ a ≤ x) with w | w
    · exact ⟨a, ha, w, Rat.le_refl, Or.inr rfl⟩
    · exact ⟨x, hx, Rat.le_refl, w, Or.inl rfl⟩
  obtain ⟨n, n0, n1, n2, n3⟩ : ∃ n, n ≤ hi ∧ n ≤ y ∧ n ≤ c ∧ (n = y ∨ n = c) := by
    rcases (Rat.le_total : y ≤ c ∨ c ≤ y) with w | w
    · exact ⟨y, hy, Rat.le_refl, w, Or.inl rfl⟩
    · exact ⟨c, hc, w, Rat.le_refl, Or.inr rfl⟩
  have t1 := mo lo x Rat.le_refl hx (by grind)
  have t2 := mo lo a Rat.le_refl ha (by grind)
  have t3 := mo y hi (by grind) hy Rat.le_refl
  have t4 := mo c hi (by grind) hc Rat.le_refl
  have vm : cnt S ms m = cnt S ms lo := by rcases m3 with w | w <;> rw [w] <;> omega
  have vn : cnt S ms n = cnt S ms hi := by rcases n3 with w | w <;> rw [w] <;> omega
  have hmn : m < n := by
    refine Classical.byContradiction fun w => ?_
    have ln : lo ≤ n := by rcases n3 with r | r <;> rw [r] <;> grind
    have mh : m ≤ hi := by rcases m3 with r | r <;> rw [r] <;> grind
    have := mo n m ln (by grind) mh
    omega
  have im := iB.of hlo hhi m0 (by grind)
  have iN := iB.of hlo hhi (by grind) n0
  obtain ⟨η, e1, e2⟩ := hS.right im
  obtain ⟨a1, a2, a3, a4⟩ : ∃ a1, m < a1 ∧ a1 < n ∧ cnt S ms m = cnt S ms a1 := by
    obtain ⟨d, q1, q2, q3⟩ := pick2 hmn e1
    exact ⟨d, q1, q2, e2 _ (iB.of im iN (Rat.le_of_lt q1) (Rat.le_of_lt q2)) (Rat.le_of_lt q1) q3⟩
  have ia1 := iB.of im iN (Rat.le_of_lt a2) (Rat.le_of_lt a3)
  have sa1 : s a1 ≠ 0 := by
    have := hS.behind hn im ia1 a4 a2 Rat.le_refl
    rwa [e0] at this
  -- and the upper one
  have qa : fxs (sgr (q y)) q a1 y := sign_at2 hQ eb hb ix iy vq (by grind) (by grind)
  obtain ⟨b1, b2, b3, b4, b5, b6⟩ : ∃ b1, n ≤ b1 ∧ b1 ≤ c ∧ s b1 ≠ 0 ∧ cnt S ms b1 = cnt S ms n ∧ fxs (sgr (q y)) q a1 b1 := by
    rcases Classical.em (s n = 0) with z | z
    · have hny : n = y := by
        rcases n3 with w | w
        · exact w
        · rw [w] at z; exact absurd z sc
      have hyc : y < c := by
        rcases Classical.em (y < c) with w | w
        · exact w
        · have : n = c := by grind
          rw [this] at z; exact absurd z sc
      have hq0 : q y ≠ 0 := qa.ne (by grind) Rat.le_refl
      obtain ⟨η1, f1, f2⟩ := hS.right iy
      obtain ⟨η2, g1, g2⟩ := near x3 iy hq0
      have hmin : ∃ d, 0 < d ∧ d ≤ η1 ∧ d ≤ η2 ∧ d ≤ c - y := by
        refine ⟨if η1 ≤ η2 then (if η1 ≤ c - y then η1 else c - y) else (if η2 ≤ c - y then η2 else c - y), ?_, ?_, ?_, ?_⟩ <;> split <;> split <;> grind
      obtain ⟨d, d0, d1, d2, d3⟩ := hmin
      have id1 : iB (y + d) := iB.of iy ic (by grind) (by grind)
      have w1 := f2 (y + d) id1 (by grind) (by grind)
      refine ⟨y + d, by grind, by grind, ?_, by rw [hny]; exact w1.symm, qa.join (g2 y (y + d) iy id1 (by grind) (by grind) (by grind))⟩
      have := hS.behind hn iy id1 w1 (by grind) Rat.le_refl
      rwa [e0] at this
    · exact ⟨n, Rat.le_refl, n2, z, rfl, qa.sub Rat.le_refl n1⟩
  have ib1 := iB.of hlo hhi (show lo ≤ b1 by grind) (by grind)
  have hab : a1 < b1 := by grind
  obtain ⟨κ, kG⟩ := b6.factor x6 x4 ia1 ib1 (Rat.le_of_lt hab) x9
  have T := tarski hS hK e0 ek x5 x4 x3 hs' x8 hD hT ia1 ib1 (Rat.le_of_lt hab) b6 kG sa1 b4
  have still : ∀ u v, iB u → iB v → u ≤ v → cnt S ms u = cnt S ms v → s u ≠ 0 → cnt K mt u = cnt K mt v := fun u v iu iv huv hc' hu => by
    have := hS.keep iu iv huv hc' (by rw [e0]; exact hu)
    rw [e0] at this
    obtain ⟨w, hw⟩ := this.factor x4 x5 iu iv huv (fun z => by rw [x8]; grind)
    rw [← ek] at hw
    exact kept_all hK iu iv huv hw
  have va : cnt S ms a = cnt S ms lo := by omega
  have r1 := still a a1 ia ia1 (by grind) (by omega) sa
  have r2 := still b1 c ib1 ic b3 (by omega) b4
  have r3 : cnt S ms a1 - cnt S ms b1 = 1 := by omega
  have f : ∀ z, s z ≠ 0 → cnt (fun i z => K i z * G z) mt z = cnt K mt z := fun z hz => by
    show vch (fun i => K i z * G z) mt = vch (fun i => K i z) mt
    exact vch_scale (F := fun i => K i z) (fun w => hz (by rw [x8, w]; grind)) mt
  rw [f a sa, f c sc, r1, ← r2, T, r3, Int.mul_one]
end SIGN
