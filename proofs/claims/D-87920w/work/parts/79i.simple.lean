/-! what has each root but once: the chain of it ends in a number -/
-- pure
-- needs: 71.poly 72.siegel 73.gauss 74.anal 75.cells 76.sturm 77.sep 78.keep 79.ode 79a.near 79b.gcd 79c.tarski 79d.sign 79e.node 79f.size 79g.small 79h.chn
set_option maxRecDepth 100000
set_option linter.unusedVariables false
theorem PP.slope {f : pf} (h : PP f) : ∃ f' : pf, PP f' ∧ DD f f' := by
  obtain ⟨n, h⟩ := h
  obtain ⟨c, hc⟩ := h.mono (Nat.le_succ n)
  refine ⟨ps (dco c) n, ⟨n, dco c, fun _ => rfl⟩, ?_⟩
  rw [show f = ps c (n + 1) from funext hc]
  exact ps_DD c n
theorem PP.ex {f : pf} (h : PP f) (h0 : ¬ ∀ x, f x = 0) : ∃ d, EX f d := by
  obtain ⟨n, h⟩ := h
  rcases h.cases with w | ⟨d, _, w⟩
  · exact absurd w h0
  · exact ⟨d, w⟩
theorem PP.cancel {f g h : pf} (hf : PP f) (hg : PP g) (hh : PP h) (h0 : ¬ ∀ x, f x = 0) (e : ∀ x, f x * g x = f x * h x) : ∀ x, g x = h x := by
  obtain ⟨n, hf⟩ := hf; obtain ⟨m, hg⟩ := hg; obtain ⟨l, hh⟩ := hh
  exact hf.cancel hg hh h0 e
theorem DD.same {f f' f'' : pf} (h : DD f f') (k : DD f f'') (p' : PP f') (p'' : PP f'') : ∀ x, f' x = f'' x := by
  obtain ⟨n, p'⟩ := p'; obtain ⟨m, p''⟩ := p''
  exact h.uniq k p' p''
theorem DD.prod {f f' g g' : pf} (h : DD f f') (k : DD g g') (hf : PP f) (hg : PP g) (hf' : PP f') (hg' : PP g') : DD (fun x => f x * g x) (fun x => f' x * g x + f x * g' x) := by
  obtain ⟨a, hf⟩ := hf; obtain ⟨b, hg⟩ := hg; obtain ⟨c, hf'⟩ := hf'; obtain ⟨d, hg'⟩ := hg'
  exact h.mul k hf hg hf' hg'
theorem simple_const {g s t g' s' U V c w s1 : pf} {dg dc : Nat} (hg : EX g dg) (hs : PP s) (ht : PP t) (hg' : PP g') (hs' : PP s') (hU : PP U) (hV : PP V) (hw : PP w) (hs1 : PP s1) (hc : EX c dc) (Dg : DD g g') (Ds : DD s s') (e1 : ∀ x, g' x * s x = g x * (t x - s' x)) (e2 : ∀ x, U x * s x + V x * t x = 1) (e3 : ∀ x, s x = c x * s1 x) (e4 : ∀ x, s' x = c x * w x) : dc = 0 := by
  have pc : PP c := ⟨_, hc.pf⟩
  obtain ⟨c', pc', Dc⟩ := pc.slope
  obtain ⟨s1', ps1', Ds1⟩ := hs1.slope
  have e5 : ∀ x, s' x = c' x * s1 x + c x * s1' x := by
    have h1 := Dc.prod Ds1 pc hs1 pc' ps1'
    rw [show (fun x => c x * s1 x) = s from funext fun x => (e3 x).symm] at h1
    exact Ds.same h1 hs' ((pc'.mul hs1).add (pc.mul ps1'))
  have key : ∀ k : Nat, ∃ (a : Nat) (gk gk' : pf), EX gk a ∧ a + k * dc = dg ∧ PP gk' ∧ DD gk gk' ∧ ∀ x, gk' x * s x = gk x * (t x - s' x - (k : Rat) * (c' x * s1 x)) := by
    intro k
    induction k with
    | zero => exact ⟨dg, g, g', hg, by omega, hg', Dg, fun x => by have := e1 x; have : ((0 : Nat) : Rat) = 0 := rfl; grind⟩
    | succ k ih =>
      obtain ⟨a, gk, gk', h1, h2, h3, h4, h5⟩ := ih
      have pg : PP gk := ⟨_, h1.pf⟩
      -- the next one
      have pn : PP (fun x => gk x * (U x * s1 x) + V x * (gk' x * s1 x + gk x * w x + (k : Rat) * (gk x * (w x - s1' x)))) := (pg.mul (hU.mul hs1)).add (hV.mul (((h3.mul hs1).add (pg.mul hw)).add ((pg.mul (hw.sub ps1')).smul _)))
      have en : ∀ x, gk x = c x * (gk x * (U x * s1 x) + V x * (gk' x * s1 x + gk x * w x + (k : Rat) * (gk x * (w x - s1' x)))) := fun x => by
        have a1 := h5 x
        have a2 := e2 x
        have a3 := e3 x
        have a4 := e4 x
        have a5 := e5 x
        have b1 : c' x * s1 x = c x * (w x - s1' x) := by grind
        have b2 : gk x * t x = gk' x * s x + gk x * s' x + (k : Rat) * (gk x * (c' x * s1 x)) := by grind
        have b3 : gk x = gk x * (U x * s x) + V x * (gk x * t x) := by
          have : gk x = gk x * (U x * s x + V x * t x) := by rw [a2]; grind
          grind
        rw [b2, b1, a3, a4] at b3
        grind
      generalize hgn : (fun x => gk x * (U x * s1 x) + V x * (gk' x * s1 x + gk x * w x + (k : Rat) * (gk x * (w x - s1' x)))) = gn at pn
      have en' : ∀ x, gk x = c x * gn x := fun x => by rw [← hgn]; exact en x
      obtain ⟨gn', pn', Dn⟩ := pn.slope
      have hn0 : ¬ ∀ x, gn x = 0 := fun q => h1.nz fun x => by rw [en' x, q x]; grind
      obtain ⟨b, hb⟩ := pn.ex hn0
      have hab : dc + b = a := ((hc.mul hb).congr fun x => en' x).uniq h1
      refine ⟨b, gn, gn', hb, by rw [Nat.succ_mul]; omega, pn', Dn, ?_⟩
      have h6 : ∀ x, gk' x = c' x * gn x + c x * gn' x := by
        have h7 := Dc.prod Dn pc pn pc' pn'
        rw [show (fun x => c x * gn x) = gk from funext fun x => (en' x).symm] at h7
        exact h4.same h7 h3 ((pc'.mul pn).add (pc.mul pn'))
      have h8 : ∀ x, c x * (gn' x * s x) = c x * (gn x * (t x - s' x - ((k + 1 : Nat) : Rat) * (c' x * s1 x))) := fun x => by
        have a1 := h5 x
        rw [h6 x, en' x] at a1
        have a3 := e3 x
        have a6 : ((k + 1 : Nat) : Rat) = (k : Rat) + 1 := by rw [Rat.natCast_add]; rfl
        rw [a6]
        have a7 : c' x * gn x * s x = c x * (gn x * (c' x * s1 x)) := by rw [a3]; grind
        grind
      exact pc.cancel (pn'.mul hs) (pn.mul ((ht.sub hs').sub ((pc'.mul hs1).smul _))) hc.nz h8
  obtain ⟨a, -, -, -, h, -⟩ := key (dg + 1)
  rcases Nat.eq_zero_or_pos dc with q | q
  · exact q
  · have : (dg + 1) * 1 ≤ (dg + 1) * dc := Nat.mul_le_mul_left _ q
    omega
/-- a chain of p and its slope, whole -/
def pchain (p : pf) (f : Nat → pf) (n : Nat → Nat) (m : Nat) : Prop := 2 ≤ m ∧ fch f n m ∧ fend f m ∧ (∃ l : Rat, 0 < l ∧ ∀ x, f 0 x = l * p x) ∧ ∃ p' : pf, PP p' ∧ DD p p' ∧ ∃ l : Rat, 0 < l ∧ ∀ x, f 1 x = l * p' x
/-- s is p over what it has in common with its slope -/
def smp (p s : pf) : Prop := PP p ∧ PP s ∧ ∃ f n m, pchain p f n m ∧ ∃ l : Rat, l ≠ 0 ∧ ∀ x, l * p x = s x * f (m - 1) x
theorem nz_inv {l : Rat} (h : l ≠ 0) : l⁻¹ ≠ 0 ∧ l⁻¹ * l = 1 := ⟨fun w => by
  have := Rat.inv_mul_cancel l h
  rw [w] at this
  revert this
  have : (0 : Rat) * l = 0 := by grind
  rw [this]; decide, Rat.inv_mul_cancel _ h⟩
theorem nz_mul {a b : Rat} (ha : a ≠ 0) (hb : b ≠ 0) : a * b ≠ 0 := fun w => by
  rcases Rat.mul_eq_zero.mp w with q | q
  · exact ha q
  · exact hb q
theorem pos_inv {l : Rat} (h : 0 < l) : 0 < l⁻¹ ∧ l⁻¹ * l = 1 := ⟨Rat.inv_pos.mpr h, Rat.inv_mul_cancel _ (by intro w; rw [w] at h; exact Rat.lt_irrefl h)⟩
theorem pchain.uniq {p p2 : pf} {f f' : Nat → pf} {n n' : Nat → Nat} {m m' : Nat} (h : pchain p f n m) (h' : pchain p2 f' n' m') (hp : PP p) (e : ∃ l : Rat, 0 < l ∧ ∀ x, p2 x = l * p x) : m = m' ∧ ∀ i, i < m → ∃ l : Rat, 0 < l ∧ ∀ x, f' i x = l * f i x := by
  obtain ⟨h1, h2, h3, ⟨α, α0, h4⟩, p', h5, h6, β, β0, h7⟩ := h
  obtain ⟨g1, g2, g3, ⟨γ, γ0, g4⟩, q', g5, g6, δ, δ0, g7⟩ := h'
  obtain ⟨l, l0, hl⟩ := e
  obtain ⟨i1, i2⟩ := pos_inv α0
  obtain ⟨j1, j2⟩ := pos_inv β0
  have hq : ∀ x, q' x = l * p' x := by
    have k1 := h6.smul l
    rw [show (fun x => l * p x) = p2 from funext fun x => (hl x).symm] at k1
    exact g6.same k1 g5 (h5.smul l)
  refine h2.uniq g2 h3 g3 h1 g1 ⟨γ * l * α⁻¹, Rat.mul_pos (Rat.mul_pos γ0 l0) i1, fun x => ?_⟩ ⟨δ * l * β⁻¹, Rat.mul_pos (Rat.mul_pos δ0 l0) j1, fun x => ?_⟩
  · rw [g4, hl, h4]; grind
  · rw [g7, hq, h7]; grind
theorem smp.uniq {p s s2 : pf} (h : smp p s) (h' : smp p s2) : ∃ l : Rat, l ≠ 0 ∧ ∀ x, s2 x = l * s x := by
  obtain ⟨hp, hs, f, n, m, h1, α, α0, h2⟩ := h
  obtain ⟨-, hs2, f', n', m', g1, β, β0, g2⟩ := h'
  obtain ⟨hm, hu⟩ := h1.uniq g1 hp ⟨1, by decide, fun x => by grind⟩
  subst hm
  obtain ⟨l, l0, hl⟩ := hu (m - 1) (by have := h1.1; omega)
  obtain ⟨i1, i2⟩ := nz_inv α0
  obtain ⟨j1, j2⟩ := pos_inv l0
  have hg := h1.2.1.1 (m - 1) (by have := h1.1; omega)
  refine ⟨l⁻¹ * (β * α⁻¹), nz_mul (nz_inv (fun w => by rw [w] at l0; exact Rat.lt_irrefl l0)).1 (nz_mul β0 i1), PP.cancel ⟨_, hg.pf⟩ hs2 (hs.smul _) hg.nz fun x => ?_⟩
  have a1 := h2 x
  have a2 := g2 x
  rw [hl] at a2
  have a3 : f (m - 1) x * s2 x = l⁻¹ * (β * p x) := by rw [a2]; grind
  have a4 : p x = α⁻¹ * (s x * f (m - 1) x) := by rw [← a1]; grind
  rw [a3, a4]; grind
/-- what p and its slope have in common, and the rest of both -/
theorem pchain.parts {p : pf} {f : Nat → pf} {n : Nat → Nat} {m : Nat} (h : pchain p f n m) (hp : PP p) : ∃ s t p' U V : pf, PP s ∧ PP t ∧ PP p' ∧ PP U ∧ PP V ∧ DD p p' ∧ (∀ x, p x = s x * f (m - 1) x) ∧ (∀ x, p' x = t x * f (m - 1) x) ∧ ∀ x, U x * s x + V x * t x = 1 := by
  obtain ⟨h1, h2, h3, ⟨α, α0, h4⟩, p', h5, h6, β, β0, h7⟩ := h
  obtain ⟨i1, i2⟩ := pos_inv α0
  obtain ⟨j1, j2⟩ := pos_inv β0
  obtain ⟨⟨u, v, hu, hv, e1⟩, ⟨a, ha, e2⟩, b, hb, e3⟩ := h2.last h3 h1
  have hg := h2.1 (m - 1) (by omega)
  refine ⟨fun x => α⁻¹ * a x, fun x => β⁻¹ * b x, p', fun x => α * u x, fun x => β * v x, ha.smul _, hb.smul _, h5, hu.smul _, hv.smul _, h6, fun x => ?_, fun x => ?_, ?_⟩
  · have k1 := e2 x
    rw [h4] at k1
    have k2 : p x = α⁻¹ * (α * p x) := by grind
    rw [k2, k1]; grind
  · have k1 := e3 x
    rw [h7] at k1
    have k2 : p' x = β⁻¹ * (β * p' x) := by grind
    rw [k2, k1]; grind
  · have pgg : PP (f (m - 1)) := ⟨_, hg.pf⟩
    refine pgg.cancel (((hu.smul α).mul (ha.smul α⁻¹)).add ((hv.smul β).mul (hb.smul β⁻¹))) (PP.const 1) hg.nz fun x => ?_
    have k1 := e1 x
    have k2 := e2 x
    have k3 := e3 x
    rw [k2, k3] at k1
    have k4 : α * u x * (α⁻¹ * a x) = u x * a x := by
      have : α * u x * (α⁻¹ * a x) = α⁻¹ * α * (u x * a x) := by grind
      rw [this, i2]; grind
    have k5 : β * v x * (β⁻¹ * b x) = v x * b x := by
      have : β * v x * (β⁻¹ * b x) = β⁻¹ * β * (v x * b x) := by grind
      rw [this, j2]; grind
    rw [k4, k5]
    have k6 : f (m - 1) x * (u x * a x + v x * b x) = u x * (a x * f (m - 1) x) + v x * (b x * f (m - 1) x) := by grind
    rw [k6, ← k1]; grind
theorem smp.ends {p s : pf} (h : smp p s) {f : Nat → pf} {n : Nat → Nat} {m : Nat} (hc : pchain s f n m) : n (m - 1) = 0 := by
  obtain ⟨hp, hs, f0, n0, m0, h1, α, α0, h2⟩ := h
  obtain ⟨s0, t0, p', U, V, k1, k2, k3, k4, k5, k6, k7, k8, k9⟩ := h1.parts hp
  have hg := h1.2.1.1 (m0 - 1) (by have := h1.1; omega)
  have pg : PP (f0 (m0 - 1)) := ⟨_, hg.pf⟩
  have hs0 : ∀ x, s x = α * s0 x := by
    refine pg.cancel hs (k1.smul α) hg.nz fun x => ?_
    have a1 := h2 x
    have a2 := k7 x
    rw [a2] at a1
    grind
  obtain ⟨g', pg', Dg⟩ := pg.slope
  obtain ⟨s', ps', Ds⟩ := hs.slope
  obtain ⟨i1, i2⟩ := nz_inv α0
  obtain ⟨q1, q2, q3, ⟨γ, γ0, q4⟩, s'', q5, q6, δ, δ0, q7⟩ := hc
  obtain ⟨-, ⟨a, ha, e2⟩, b, hb, e3⟩ := q2.last q3 q1
  obtain ⟨j1, j2⟩ := pos_inv γ0
  obtain ⟨l1, l2⟩ := pos_inv δ0
  have es : ∀ x, s'' x = s' x := q6.same Ds q5 ps'
  refine simple_const (t := fun x => α * t0 x) (U := fun x => α⁻¹ * U x) (V := fun x => α⁻¹ * V x) (w := fun x => δ⁻¹ * b x) (s1 := fun x => γ⁻¹ * a x) hg hs (k2.smul α) pg' ps' (k4.smul _) (k5.smul _) (hb.smul _) (ha.smul _) (q2.1 (m - 1) (by omega)) Dg Ds (fun x => ?_) (fun x => ?_) (fun x => ?_) fun x => ?_
  · -- the slope of p, two ways
    have d1 := (Dg.prod Ds pg hs pg' ps').smul α⁻¹
    rw [show (fun x => α⁻¹ * (f0 (m0 - 1) x * s x)) = p from funext fun x => by rw [hs0, k7]; grind] at d1
    have d2 := k6.same d1 k3 (((pg'.mul hs).add (pg.mul ps')).smul _) x
    rw [k8] at d2
    have d3 : α * (t0 x * f0 (m0 - 1) x) = g' x * s x + f0 (m0 - 1) x * s' x := by rw [d2]; grind
    grind
  · rw [hs0]
    have := k9 x
    have d3 : α⁻¹ * U x * (α * s0 x) + α⁻¹ * V x * (α * t0 x) = α⁻¹ * α * (U x * s0 x + V x * t0 x) := by grind
    rw [d3, i2, this]; grind
  · have k1 := e2 x
    rw [q4] at k1
    have k2 : s x = γ⁻¹ * (γ * s x) := by grind
    rw [k2, k1]; grind
  · have k1 := e3 x
    rw [q7, es] at k1
    have k2 : s' x = δ⁻¹ * (δ * s' x) := by grind
    rw [k2, k1]; grind
theorem EX.const {f : Rat → Rat} (h : EX f 0) : ∃ c : Rat, c ≠ 0 ∧ ∀ x, f x = c := by
  obtain ⟨c, h1, h2⟩ := h
  exact ⟨c 0, h2, fun x => by rw [h1]; simp only [ps, Rat.pow_zero]; grind⟩
/-- such a chain is a simple one -/
theorem smp.stc {p s : pf} (h : smp p s) {f : Nat → pf} {n : Nat → Nat} {m : Nat} (hc : pchain s f n m) : stc f m := by
  have he := h.ends hc
  obtain ⟨h1, h2, h3, ⟨α, α0, h4⟩, p', h5, h6, β, β0, h7⟩ := hc
  have hl := h2.1 (m - 1) (by omega)
  rw [he] at hl
  obtain ⟨i1, i2⟩ := pos_inv β0
  refine ⟨⟨by omega, fun i hi => ⟨_, (h2.1 i hi).pf⟩, fun i a1 a2 => ?_, hl.const⟩, α * β⁻¹, Rat.mul_pos α0 i1, fun _ => ?_⟩
  · obtain ⟨-, c, c0, q, hq, hx⟩ := h2.2 i a1 a2
    exact ⟨c, q, c0, hq, fun x => by rw [hx]; grind⟩
  · rw [show f 0 = fun x => α * s x from funext h4, show (fun x => α * β⁻¹ * f 1 x) = fun x => α * p' x from funext fun x => by rw [h7]; grind]
    exact h6.smul α
theorem smp.shr {p s : pf} (h : smp p s) : shr s p := by
  obtain ⟨hp, hs, f0, n0, m0, h1, α, α0, h2⟩ := h
  obtain ⟨s0, t0, p', U, V, k1, k2, k3, k4, k5, k6, k7, k8, k9⟩ := h1.parts hp
  obtain ⟨i1, i2⟩ := nz_inv α0
  have hg := h1.2.1.1 (m0 - 1) (by have := h1.1; omega)
  have pg : PP (f0 (m0 - 1)) := ⟨_, hg.pf⟩
  refine ⟨hs, hp, fun w => ?_, fun x => α⁻¹ * f0 (m0 - 1) x, fun x => α * t0 x, p', pg.smul _, k2.smul _, k3, fun x => ?_, k6, fun x => ?_⟩
  · obtain ⟨gm, g2, -, ⟨l, l0, g4⟩, -⟩ := h1
    exact (g2.1 0 (by omega)).nz fun x => by rw [g4, w]; grind
  · have a1 := h2 x
    have : p x = α⁻¹ * (α * p x) := by grind
    rw [this, a1]; grind
  · rw [k8]
    have a1 := h2 x
    grind
/-- how often signs change along the chain of what p has once -/
def cntP (p : pf) (x : Rat) (v : Int) : Prop := ∃ s f n m, smp p s ∧ pchain s f n m ∧ v = vch (fun i => f i x) m
theorem prem.neg {a g r : pf} (h : prem a g r) : prem (fun x => - a x) (fun x => - g x) (fun x => - r x) := by
  obtain ⟨c, c0, q, hq, hx⟩ := h
  exact ⟨c, c0, q, hq, fun x => by have := hx x; show c * - a x = q x * - g x + - r x; grind⟩
theorem EX.neg {f : Rat → Rat} {d : Nat} (h : EX f d) : EX (fun x => - f x) d := (h.smul (p := -1) (by decide)).congr fun x => by grind
theorem pchain.neg {s s2 : pf} {f : Nat → pf} {n : Nat → Nat} {m : Nat} (h : pchain s f n m) {l : Rat} (hl : l < 0) (e : ∀ x, s2 x = l * s x) : pchain s2 (fun i x => - f i x) n m := by
  obtain ⟨h1, h2, h3, ⟨α, α0, h4⟩, p', h5, h6, β, β0, h7⟩ := h
  have l0 : 0 < -l := by grind
  obtain ⟨i1, i2⟩ := pos_inv l0
  refine ⟨h1, ⟨fun i hi => (h2.1 i hi).neg, fun i a1 a2 => ⟨(h2.2 i a1 a2).1, (h2.2 i a1 a2).2.neg⟩⟩, fun hm => ?_, ⟨(-l)⁻¹ * α, Rat.mul_pos i1 α0, fun x => ?_⟩, fun x => l * p' x, h5.smul l, ?_, (-l)⁻¹ * β, Rat.mul_pos i1 β0, fun x => ?_⟩
  · exact (h3 hm).neg.congr fun x => by show (0 : Rat) = - 0; grind
  · show - f 0 x = _
    rw [h4, e]
    have : (-l)⁻¹ * α * (l * s x) = - ((-l)⁻¹ * -l) * (α * s x) := by grind
    rw [this, i2]; grind
  · have := h6.smul l
    rwa [show (fun x => l * s x) = s2 from funext fun x => (e x).symm] at this
  · show - f 1 x = _
    rw [h7]
    have : (-l)⁻¹ * β * (l * p' x) = - ((-l)⁻¹ * -l) * (β * p' x) := by grind
    rw [this, i2]; grind
theorem cntP.uniq {p : pf} {x : Rat} {v v' : Int} (h : cntP p x v) (h' : cntP p x v') : v = v' := by
  obtain ⟨s, f, n, m, h1, h2, h3⟩ := h
  obtain ⟨s', f', n', m', g1, g2, g3⟩ := h'
  obtain ⟨l, l0, hl⟩ := h1.uniq g1
  rw [h3, g3]
  rcases Classical.em (0 < l) with w | w
  · obtain ⟨hm, hu⟩ := h2.uniq g2 h1.2.1 ⟨l, w, hl⟩
    subst hm
    refine vch_congr fun i hi => ?_
    obtain ⟨l, l0, hl⟩ := hu i hi
    rw [hl, sgr_scale l0]
  · have w2 : l < 0 := by grind
    obtain ⟨hm, hu⟩ := (h2.neg w2 hl).uniq g2 g1.2.1 ⟨1, by decide, fun x => by grind⟩
    subst hm
    have e : vch (fun i => f i x * (-1)) m = vch (fun i => f i x) m := vch_scale (by decide) m
    rw [← e]
    refine vch_congr fun i hi => ?_
    obtain ⟨l, l0, hl⟩ := hu i hi
    rw [hl, sgr_scale l0]
    congr 1
    grind
