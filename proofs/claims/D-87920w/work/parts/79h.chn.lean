/-! chains of remainders: one step of a division, uniqueness, what stands at the end -/
-- pure
-- needs: 71.poly 72.siegel 73.gauss 74.anal 75.cells 76.sturm 77.sep 78.keep 79f.size 79g.small
set_option maxRecDepth 100000
set_option linter.unusedVariables false
/-- a row of n whole numbers as a function -/
def zp (f : Nat → Int) (n : Nat) : pf := ps (zq f) n
theorem zp_congr {f g : Nat → Int} {n : Nat} (h : ∀ k, k < n → f k = g k) (x : Rat) : zp f n x = zp g n x := ps_congr (fun k hk => by show ((f k : Int) : Rat) = ((g k : Int) : Rat); rw [h k hk]) x
theorem zp_drop {f : Nat → Int} {n : Nat} (h : f n = 0) (x : Rat) : zp f (n + 1) x = zp f n x := by
  show ps (zq f) n x + ((f n : Int) : Rat) * x ^ n = _
  rw [h]
  show ps (zq f) n x + ((0 : Int) : Rat) * x ^ n = ps (zq f) n x
  rw [Rat.intCast_zero]; grind
theorem zp_pp (f : Nat → Int) (n : Nat) : PP (zp f n) := ⟨n, zq f, fun _ => rfl⟩
theorem zp_pf (f : Nat → Int) (n : Nat) : PF n (zp f n) := ⟨zq f, fun _ => rfl⟩
theorem zp_ex {f : Nat → Int} {d : Nat} (h : f d ≠ 0) : EX (zp f (d + 1)) d := ⟨zq f, fun _ => rfl, fun w => h (by
  have : ((f d : Int) : Rat) = ((0 : Int) : Rat) := by rw [Rat.intCast_zero]; exact w
  exact Rat.intCast_inj.mp this)⟩
theorem zp_smul (f : Nat → Int) (c : Int) (n : Nat) (x : Rat) : zp (fun k => c * f k) n x = (c : Rat) * zp f n x := by
  show ps (zq (fun k => c * f k)) n x = _
  rw [ps_congr (d := fun k => (c : Rat) * zq f k + 0 * zq f k) (fun k _ => by show ((c * f k : Int) : Rat) = _; rw [Rat.intCast_mul]; grind), ps_lin]
  show (c : Rat) * ps (zq f) n x + 0 * ps (zq f) n x = (c : Rat) * ps (zq f) n x
  grind
theorem zp_neg (f : Nat → Int) (n : Nat) (x : Rat) : zp (fun k => - f k) n x = - zp f n x := by
  rw [zp_congr (g := fun k => (-1) * f k) (fun k _ => by omega), zp_smul]
  show ((-1 : Int) : Rat) * _ = _
  rw [Rat.intCast_neg]; grind
/-- one step of a division of rows: f (d + 1 numbers) by g (e + 1) -/
def prs (f : Nat → Int) (d : Nat) (g : Nat → Int) (e : Nat) : Nat → Int := fun k => f k * ((g e).natAbs : Int) - (if d - e ≤ k then (Int.sign (g e) * f d) * g (k - (d - e)) else 0)
theorem sign_abs (z : Int) : Int.sign z * z = (z.natAbs : Int) := by
  rcases Int.lt_trichotomy z 0 with h | h | h
  · rw [Int.sign_eq_neg_one_of_neg h]; omega
  · subst h; rfl
  · rw [Int.sign_eq_one_of_pos h]; omega
theorem prs_top {f g : Nat → Int} {d e : Nat} (h : e ≤ d) : prs f d g e d = 0 := by
  unfold prs
  rw [if_pos (by omega), show d - (d - e) = e by omega, ← sign_abs (g e)]
  grind
theorem prs_zp {f g : Nat → Int} {d e : Nat} (h : e ≤ d) (x : Rat) : zp (prs f d g e) (d + 1) x = (((g e).natAbs : Int) : Rat) * zp f (d + 1) x - ((Int.sign (g e) * f d : Int) : Rat) * (x ^ (d - e) * zp g (e + 1) x) := by
  have e1 : x ^ (d - e) * zp g (e + 1) x = ps (psh (d - e) (zq g)) (d + 1) x := by
    have := ps_shift (zq g) (d - e) (e + 1) x
    rw [show d - e + (e + 1) = d + 1 by omega] at this
    exact this.symm
  rw [e1]
  show ps (zq (prs f d g e)) (d + 1) x = _
  rw [ps_congr (d := fun k => (((g e).natAbs : Int) : Rat) * zq f k + (-((Int.sign (g e) * f d : Int) : Rat)) * psh (d - e) (zq g) k) (fun k _ => ?_), ps_lin]
  · show _ = (((g e).natAbs : Int) : Rat) * ps (zq f) (d + 1) x - _
    grind
  · show ((f k * ((g e).natAbs : Int) - (if d - e ≤ k then (Int.sign (g e) * f d) * g (k - (d - e)) else 0) : Int) : Rat) = (((g e).natAbs : Int) : Rat) * ((f k : Int) : Rat) + (-((Int.sign (g e) * f d : Int) : Rat)) * (if k < d - e then 0 else ((g (k - (d - e)) : Int) : Rat))
    rw [Rat.intCast_sub, Rat.intCast_mul]
    by_cases w : d - e ≤ k
    · rw [if_pos w, if_neg (by omega), Rat.intCast_mul (Int.sign (g e) * f d)]; grind
    · rw [if_neg w, if_pos (by omega), Rat.intCast_zero]; grind
theorem prs_abs {f g : Nat → Int} {d e H G : Nat} (h : e ≤ d) (hf : ∀ k, k ≤ d → (f k).natAbs ≤ H) (hg : ∀ k, k ≤ e → (g k).natAbs ≤ G) : ∀ k, k ≤ d → (prs f d g e k).natAbs ≤ H * (2 * G) := by
  intro k hk
  have h1 : (f k * ((g e).natAbs : Int)).natAbs ≤ H * G := by
    rw [Int.natAbs_mul, Int.natAbs_natCast]
    exact Nat.mul_le_mul (hf k hk) (hg e (Nat.le_refl _))
  have h2 : (if d - e ≤ k then (Int.sign (g e) * f d) * g (k - (d - e)) else 0).natAbs ≤ H * G := by
    split
    · rw [Int.natAbs_mul, Int.natAbs_mul]
      have hs : (Int.sign (g e)).natAbs ≤ 1 := by
        rcases Int.lt_trichotomy (g e) 0 with q | q | q
        · rw [Int.sign_eq_neg_one_of_neg q]; decide
        · rw [q]; decide
        · rw [Int.sign_eq_one_of_pos q]; decide
      have h3 : (Int.sign (g e)).natAbs * (f d).natAbs ≤ 1 * H := Nat.mul_le_mul hs (hf d (Nat.le_refl _))
      rw [Nat.one_mul] at h3
      exact Nat.mul_le_mul h3 (hg _ (by omega))
    · exact Nat.zero_le _
  unfold prs
  have h3 : H * (2 * G) = H * G + H * G := by rw [Nat.two_mul, Nat.mul_add]
  generalize (f k * ((g e).natAbs : Int)) = u at *
  generalize (if d - e ≤ k then (Int.sign (g e) * f d) * g (k - (d - e)) else 0) = v at *
  omega
/-- f is what is left of a by g, times something above 0 -/
def prem (a g f : pf) : Prop := ∃ c : Rat, 0 < c ∧ ∃ q : pf, PP q ∧ ∀ x, c * a x = q x * g x + f x
theorem prem.refl (a g : pf) : prem a g a := ⟨1, by decide, fun _ => 0, PP.const 0, fun x => by grind⟩
theorem prem.congr {a g f f' : pf} (h : prem a g f) (e : ∀ x, f' x = f x) : prem a g f' := by
  rwa [show f' = f from funext e]
theorem prem.step {a : pf} {f g : Nat → Int} {d e : Nat} (h : prem a (zp g (e + 1)) (zp f (d + 1))) (hed : e ≤ d) (h0 : g e ≠ 0) : prem a (zp g (e + 1)) (zp (prs f d g e) (d + 1)) := by
  obtain ⟨c, c0, q, hq, hx⟩ := h
  have hl : (0 : Rat) < (((g e).natAbs : Int) : Rat) := Rat.intCast_pos.mpr (by omega)
  refine ⟨(((g e).natAbs : Int) : Rat) * c, Rat.mul_pos hl c0, fun x => (((g e).natAbs : Int) : Rat) * q x + ((Int.sign (g e) * f d : Int) : Rat) * x ^ (d - e), (hq.smul _).add (PP.smul ⟨d - e + 1, ?_⟩ _), fun x => ?_⟩
  · exact ((PF.const 1).xpow (d - e)).congr fun x => by grind
  · rw [prs_zp hed]
    have := hx x
    grind
theorem prem.scale {a g f f' : pf} {γ : Rat} (h : prem a g f) (hγ : 0 < γ) (e : ∀ x, γ * f' x = f x) : prem a g f' := by
  obtain ⟨c, c0, q, hq, hx⟩ := h
  refine ⟨γ⁻¹ * c, Rat.mul_pos (Rat.inv_pos.mpr hγ) c0, fun x => γ⁻¹ * q x, hq.smul _, fun x => ?_⟩
  have h1 : γ⁻¹ * γ = 1 := Rat.inv_mul_cancel _ (by intro w; rw [w] at hγ; exact Rat.lt_irrefl hγ)
  have h2 := hx x
  have h3 := e x
  have h4 : f' x = γ⁻¹ * f x := by rw [← h3]; grind
  rw [h4]; grind
theorem prem.first {a a' g f : pf} {γ : Rat} (h : prem a g f) (hγ : 0 < γ) (e : ∀ x, a x = γ * a' x) : prem a' g f := by
  obtain ⟨c, c0, q, hq, hx⟩ := h
  exact ⟨c * γ, Rat.mul_pos c0 hγ, q, hq, fun x => by have := hx x; rw [e] at this; grind⟩
/-- a row of remainders, and that it is at its end -/
def fch (f : Nat → pf) (n : Nat → Nat) (m : Nat) : Prop := (∀ i, i < m → EX (f i) (n i)) ∧ ∀ i, 1 ≤ i → i + 1 < m → n (i + 1) < n i ∧ prem (f (i - 1)) (f i) (fun x => - f (i + 1) x)
def fend (f : Nat → pf) (m : Nat) : Prop := 2 ≤ m → prem (f (m - 2)) (f (m - 1)) (fun _ => 0)
theorem prem_uniq {a a' g g' r r' : pf} {e : Nat} {α γ : Rat} (hα : 0 < α) (hγ : 0 < γ) (ha : ∀ x, a' x = α * a x) (hg : ∀ x, g' x = γ * g x) (hE : EX g e) (h : prem a g r) (h' : prem a' g' r') (hr : PF e r) (hr' : PF e r') : ∃ l : Rat, 0 < l ∧ ∀ x, r' x = l * r x := by
  obtain ⟨c, c0, q, ⟨n, hq⟩, hx⟩ := h
  obtain ⟨c', c0', q', ⟨n', hq'⟩, hx'⟩ := h'
  have hc : c * c⁻¹ = 1 := Rat.mul_inv_cancel _ (by intro w; rw [w] at c0; exact Rat.lt_irrefl c0)
  refine ⟨c' * α * c⁻¹, Rat.mul_pos (Rat.mul_pos c0' hα) (Rat.inv_pos.mpr c0), fun x => ?_⟩
  have := rem_uniq (q := fun x => γ * q' x) (q' := fun x => c' * α * c⁻¹ * q x) (r' := fun x => c' * α * c⁻¹ * r x) hE (hq'.smul γ) (hq.smul _) hr' (hr.smul _) (fun x => by
    have h1 := hx x
    have h2 := hx' x
    rw [ha, hg] at h2
    have h3 : c' * α * c⁻¹ * q x * g x + c' * α * c⁻¹ * r x = c' * α * c⁻¹ * (c * a x) := by rw [h1]; grind
    rw [h3]
    have h4 : c' * α * c⁻¹ * (c * a x) = c' * α * a x * (c * c⁻¹) := by grind
    rw [h4, hc]; grind) x
  exact this
/-- such a row is one, up to factors above 0 -/
theorem fch.uniq {f f' : Nat → pf} {n n' : Nat → Nat} {m m' : Nat} (h : fch f n m) (h' : fch f' n' m') (he : fend f m) (he' : fend f' m') (hm : 2 ≤ m) (hm' : 2 ≤ m') (h0 : ∃ l : Rat, 0 < l ∧ ∀ x, f' 0 x = l * f 0 x) (h1 : ∃ l : Rat, 0 < l ∧ ∀ x, f' 1 x = l * f 1 x) : m = m' ∧ ∀ i, i < m → ∃ l : Rat, 0 < l ∧ ∀ x, f' i x = l * f i x := by
  have key : ∀ i, i + 1 < m → i + 1 < m' → (∃ l : Rat, 0 < l ∧ ∀ x, f' i x = l * f i x) ∧ ∃ l : Rat, 0 < l ∧ ∀ x, f' (i + 1) x = l * f (i + 1) x := by
    intro i
    induction i with
    | zero => intro _ _; exact ⟨h0, h1⟩
    | succ i ih =>
      intro a1 a2
      obtain ⟨⟨α, α0, b1⟩, γ, γ0, b2⟩ := ih (by omega) (by omega)
      refine ⟨⟨γ, γ0, b2⟩, ?_⟩
      obtain ⟨c1, c2⟩ := h.2 (i + 1) (by omega) a1
      obtain ⟨d1, d2⟩ := h'.2 (i + 1) (by omega) a2
      rw [Nat.add_sub_cancel] at c2 d2
      have hn : n' (i + 1) = n (i + 1) := by
        have k1 := h'.1 (i + 1) (by omega)
        have k2 := ((h.1 (i + 1) (by omega)).smul (p := γ) (by intro w; rw [w] at γ0; exact Rat.lt_irrefl γ0)).congr b2
        exact k1.uniq k2
      have p1 : PF (n (i + 1)) (fun x => - f (i + 1 + 1) x) := by
        have := ((h.1 (i + 1 + 1) a1).pf.mono (by omega : n (i + 1 + 1) + 1 ≤ n (i + 1))).smul (-1)
        exact this.congr fun x => by grind
      have p2 : PF (n (i + 1)) (fun x => - f' (i + 1 + 1) x) := by
        have := ((h'.1 (i + 1 + 1) a2).pf.mono (by omega : n' (i + 1 + 1) + 1 ≤ n (i + 1))).smul (-1)
        exact this.congr fun x => by grind
      obtain ⟨l, l0, hl⟩ := prem_uniq α0 γ0 b1 b2 (h.1 (i + 1) (by omega)) c2 d2 p1 p2
      exact ⟨l, l0, fun x => by have := hl x; grind⟩
  -- neither ends before the other
  have noend : ∀ {f f' : Nat → pf} {n n' : Nat → Nat} {m m' : Nat}, fch f n m → fch f' n' m' → fend f m → 2 ≤ m → m < m' → (∃ l : Rat, 0 < l ∧ ∀ x, f' (m - 2) x = l * f (m - 2) x) → (∃ l : Rat, 0 < l ∧ ∀ x, f' (m - 1) x = l * f (m - 1) x) → False := by
    intro f f' n n' m m' h h' he hm hmm ⟨α, α0, b1⟩ ⟨γ, γ0, b2⟩
    obtain ⟨d1, d2⟩ := h'.2 (m - 1) (by omega) (by omega)
    rw [show m - 1 - 1 = m - 2 by omega] at d2
    have hn : n' (m - 1) = n (m - 1) := by
      have k1 := h'.1 (m - 1) (by omega)
      have k2 := ((h.1 (m - 1) (by omega)).smul (p := γ) (by intro w; rw [w] at γ0; exact Rat.lt_irrefl γ0)).congr b2
      exact k1.uniq k2
    have p2 : PF (n (m - 1)) (fun x => - f' (m - 1 + 1) x) := by
      have := ((h'.1 (m - 1 + 1) (by omega)).pf.mono (by omega : n' (m - 1 + 1) + 1 ≤ n (m - 1))).smul (-1)
      exact this.congr fun x => by grind
    obtain ⟨l, l0, hl⟩ := prem_uniq α0 γ0 b1 b2 (h.1 (m - 1) (by omega)) (he hm) d2 (PF.ofZero _) p2
    exact (h'.1 (m - 1 + 1) (by omega)).nz fun x => by have := hl x; grind
  have sym : ∀ {i : Nat}, (∃ l : Rat, 0 < l ∧ ∀ x, f' i x = l * f i x) → ∃ l : Rat, 0 < l ∧ ∀ x, f i x = l * f' i x := fun ⟨l, l0, hl⟩ => ⟨l⁻¹, Rat.inv_pos.mpr l0, fun x => by
    have : l⁻¹ * l = 1 := Rat.inv_mul_cancel _ (by intro w; rw [w] at l0; exact Rat.lt_irrefl l0)
    rw [hl]; grind⟩
  have hmm : m = m' := by
    rcases Nat.lt_trichotomy m m' with w | w | w
    · have := key (m - 2) (by omega) (by omega)
      rw [show m - 2 + 1 = m - 1 by omega] at this
      exact (noend h h' he hm w this.1 this.2).elim
    · exact w
    · have := key (m' - 2) (by omega) (by omega)
      rw [show m' - 2 + 1 = m' - 1 by omega] at this
      exact (noend h' h he' hm' w (sym this.1) (sym this.2)).elim
  refine ⟨hmm, fun i hi => ?_⟩
  rcases Nat.eq_zero_or_pos i with w | w
  · rw [w]; exact h0
  · have := (key (i - 1) (by omega) (by omega)).2
    rwa [show i - 1 + 1 = i by omega] at this
theorem sgr_scale {l x : Rat} (h : 0 < l) : sgr (l * x) = sgr x := by
  rcases (Rat.le_total : x ≤ 0 ∨ 0 ≤ x) with q | q
  · rcases Classical.em (x = 0) with w | w
    · rw [w]; simp
    · have : x < 0 := by grind
      rw [sgr_neg this, sgr_neg]
      have := Rat.mul_pos h (show 0 < -x by grind)
      grind
  · rcases Classical.em (x = 0) with w | w
    · rw [w]; simp
    · have : 0 < x := by grind
      rw [sgr_pos this, sgr_pos (Rat.mul_pos h this)]
theorem vst_congr {F G : Nat → Rat} : ∀ m, (∀ i, i < m → sgr (F i) = sgr (G i)) → vst F m = vst G m := by
  intro m
  induction m with
  | zero => intro _; rfl
  | succ m ih =>
    intro h
    simp only [vst]
    rw [ih fun i hi => h i (by omega), h m (by omega)]
theorem vch_congr {F G : Nat → Rat} {m : Nat} (h : ∀ i, i < m → sgr (F i) = sgr (G i)) : vch F m = vch G m := by unfold vch; rw [vst_congr m h]
/-- the last one divides the others, and is made of the first two -/
theorem fch.last {f : Nat → pf} {n : Nat → Nat} {m : Nat} (h : fch f n m) (he : fend f m) (hm : 2 ≤ m) : (∃ u v : pf, PP u ∧ PP v ∧ ∀ x, f (m - 1) x = u x * f 0 x + v x * f 1 x) ∧ (∃ u : pf, PP u ∧ ∀ x, f 0 x = u x * f (m - 1) x) ∧ ∃ u : pf, PP u ∧ ∀ x, f 1 x = u x * f (m - 1) x := by
  constructor
  · have key : ∀ i, i + 1 < m → (∃ u v : pf, PP u ∧ PP v ∧ ∀ x, f i x = u x * f 0 x + v x * f 1 x) ∧ ∃ u v : pf, PP u ∧ PP v ∧ ∀ x, f (i + 1) x = u x * f 0 x + v x * f 1 x := by
      intro i
      induction i with
      | zero => intro _; exact ⟨⟨fun _ => 1, fun _ => 0, PP.const 1, PP.const 0, fun x => by grind⟩, ⟨fun _ => 0, fun _ => 1, PP.const 0, PP.const 1, fun x => by show f 1 x = _; grind⟩⟩
      | succ i ih =>
        intro hi
        obtain ⟨⟨u, v, hu, hv, e1⟩, u', v', hu', hv', e2⟩ := ih (by omega)
        refine ⟨⟨u', v', hu', hv', e2⟩, ?_⟩
        obtain ⟨-, c, c0, q, hq, hx⟩ := h.2 (i + 1) (by omega) hi
        rw [Nat.add_sub_cancel] at hx
        refine ⟨fun x => q x * u' x - c * u x, fun x => q x * v' x - c * v x, (hq.mul hu').sub (hu.smul c), (hq.mul hv').sub (hv.smul c), fun x => ?_⟩
        have a1 := hx x
        have a2 := e1 x
        have a3 := e2 x
        have : f (i + 1 + 1) x = q x * f (i + 1) x - c * f i x := by grind
        rw [this, a2, a3]; grind
    have := (key (m - 2) (by omega)).2
    rwa [show m - 2 + 1 = m - 1 by omega] at this
  · have key : ∀ j i, i + j + 1 = m - 1 → (∃ u : pf, PP u ∧ ∀ x, f i x = u x * f (m - 1) x) ∧ ∃ u : pf, PP u ∧ ∀ x, f (i + 1) x = u x * f (m - 1) x := by
      intro j
      induction j with
      | zero =>
        intro i hi
        obtain ⟨c, c0, q, hq, hx⟩ := he hm
        have hc : c⁻¹ * c = 1 := Rat.inv_mul_cancel _ (by intro w; rw [w] at c0; exact Rat.lt_irrefl c0)
        rw [show m - 2 = i by omega] at hx
        rw [show i + 1 = m - 1 by omega]
        refine ⟨⟨fun x => c⁻¹ * q x, hq.smul _, fun x => ?_⟩, fun _ => 1, PP.const 1, fun x => by grind⟩
        have := hx x
        have h2 : f i x = c⁻¹ * (c * f i x) := by grind
        rw [h2, this]; grind
      | succ j ih =>
        intro i hi
        obtain ⟨⟨u, hu, e1⟩, u', hu', e2⟩ := ih (i + 1) (by omega)
        refine ⟨?_, ⟨u, hu, e1⟩⟩
        obtain ⟨-, c, c0, q, hq, hx⟩ := h.2 (i + 1) (by omega) (by omega)
        rw [Nat.add_sub_cancel] at hx
        have hc : c⁻¹ * c = 1 := Rat.inv_mul_cancel _ (by intro w; rw [w] at c0; exact Rat.lt_irrefl c0)
        refine ⟨fun x => c⁻¹ * (q x * u x - u' x), ((hq.mul hu).sub hu').smul _, fun x => ?_⟩
        have a1 : c * f i x = q x * f (i + 1) x + - f (i + 1 + 1) x := hx x
        have a2 := e1 x
        have a3 := e2 x
        have h2 : f i x = c⁻¹ * (c * f i x) := by grind
        rw [h2, a1, a2, a3]
        show _ = c⁻¹ * (q x * u x - u' x) * f (m - 1) x
        grind
    have := key (m - 2) 0 (by omega)
    exact ⟨this.1, by have := this.2; exact this⟩
