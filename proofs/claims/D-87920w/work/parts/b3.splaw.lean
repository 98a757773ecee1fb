/-! the span as a law of numbers -/
-- needs: 00.devpm 31.prog0 87.progb0 40.num 41.whole 42.reck 43.times 44.knuth 45.div 46.div2 47.gcd 48.ratio 49.ratio2 50.ratio3 92.terms 93.terms2 94.orders 95.ranks 96.mterms 97.mcmp 98.tinit 99.tinit2 99a.poly 99b.poly2 99c.poly3 99d.poly4 99e.poly5 99f.lead 99g.poly6 99k.div 99m.ordlaw 70.ext 71.poly 72.siegel
set_option maxRecDepth 100000
set_option linter.unusedVariables false
/-- rows, their rows of numbers, their leads, the divisor, what was used -/
abbrev spst : Type := Nat × (Nat → xV) × (Nat → Nat) × Rat × (Nat → Nat × Nat)
def spC : Rat := 343036
/-- a multiple's numbers by terms, and its own mark -/
def spV (v : Nat → Int) (k : Nat) : xV := fun i => if i < 455 then (v i : Rat) else if i = 455 + k then 1 else 0
def spX (st : spst) (v : Nat → Int) : xV := xred st.2.1 st.2.2.1 (spV v st.1) st.1
def pup (P : Nat → Nat) (k q : Nat) : Nat → Nat := fun j => if j = k then q else P j
def uup (U : Nat → Nat × Nat) (k : Nat) (u : Nat × Nat) : Nat → Nat × Nat := fun j => if j = k then u else U j
def spNew (st : spst) (x : xV) (q : Nat) (u : Nat × Nat) : spst := (st.1 + 1, gjR st.1 st.2.1 x q, pup st.2.2.1 st.1 q, st.2.2.2.1 * x q, uup st.2.2.2.2 st.1 u)
def spTake (c g : Nat) (st : spst) (v : Nat → Int) (u : Nat × Nat) : spst := if leadI c g (spX st v) 455 = -7 then st else spNew st (spX st v) (leadI c g (spX st v) 455).toNat u
def spOK (st : spst) : Prop := st.1 ≤ 35 ∧ (∃ M, gj 490 455 spC st.1 st.2.1 st.2.2.1 st.2.2.2.1 M) ∧ (∀ r, r < st.1 → (∀ i, 455 + st.1 ≤ i → st.2.1 r i = 0) ∧ ∀ t, t < 455 → 4 < tdg t → st.2.1 r t = 0)
theorem spOK.zero (R : Nat → xV) (P : Nat → Nat) (U : Nat → Nat × Nat) : spOK (0, R, P, 1, U) := ⟨Nat.zero_le _, ⟨fun _ _ => 0, gj.nil _ _ _ _ _ _⟩, fun r hr => absurd hr (Nat.not_lt_zero r)⟩
/-- a multiple's numbers: small, of degree 4 at most -/
def spW (v : Nat → Int) : Prop := (∀ t, t < 455 → ((v t).natAbs : Int) ≤ 99) ∧ ∀ t, t < 455 → 4 < tdg t → v t = 0
/-- how many terms of degree 4 at most are below n -/
def c4 : Nat → Nat
  | 0 => 0
  | n + 1 => c4 n + (if tdg n ≤ 4 then 1 else 0)
theorem c4_all : c4 455 = 35 := by decide +kernel
theorem spV_dot {v : Nat → Int} (h : spW v) {k : Nat} (hk : k < 35) : xdot 490 (spV v k) (spV v k) ≤ spC := by
  -- the terms
  have key : ∀ (m a : Nat) (f : xV), (∀ i, f i = spV v k (a + i)) → a + m ≤ 455 → xdot m f f ≤ ((c4 (a + m) - c4 a : Nat) : Rat) * 9801 := by
    intro m
    induction m with
    | zero => intro a f _ _; simp only [xdot]; rw [Nat.add_zero, Nat.sub_self]; have e0 : ((0 : Nat) : Rat) = 0 := rfl; rw [e0]; grind
    | succ m ih =>
      intro a f hf ha
      have h1 := ih (a + 1) (xs f) (fun i => by show f (i + 1) = _; rw [hf, show a + (i + 1) = a + 1 + i by omega]) (by omega)
      simp only [xdot]
      have e0 : f 0 = (v a : Rat) := by rw [hf]; unfold spV; rw [if_pos (by omega), Nat.add_zero]
      have mono : ∀ p q, p ≤ q → c4 p ≤ c4 q := fun p q hpq => by
        induction q with
        | zero => rw [Nat.le_zero.mp hpq]; exact Nat.le_refl _
        | succ q ihq =>
          rcases Nat.lt_or_ge p (q + 1) with w | w
          · have := ihq (by omega); simp only [c4]; omega
          · rw [Nat.le_antisymm hpq w]; exact Nat.le_refl _
      rw [show a + 1 + m = a + (m + 1) by omega] at h1
      rw [e0]
      have hc : c4 (a + 1) = c4 a + (if tdg a ≤ 4 then 1 else 0) := rfl
      have hm := mono (a + 1) (a + (m + 1)) (by omega)
      by_cases hd : tdg a ≤ 4
      · rw [if_pos hd] at hc
        have hv := h.1 a (by omega)
        have hsq : (v a : Rat) * (v a : Rat) ≤ 9801 := by
          rw [← Rat.intCast_mul]
          have : v a * v a ≤ 9801 := by
            have h2 : (v a).natAbs ≤ 99 := by omega
            have h3 : (v a).natAbs * (v a).natAbs ≤ 99 * 99 := Nat.mul_le_mul h2 h2
            have h4 : v a * v a = ((v a).natAbs * (v a).natAbs : Nat) := by rw [Int.natCast_mul, Int.natAbs_mul_self']
            omega
          exact Rat.intCast_le_intCast.mpr this
        have e : ((c4 (a + (m + 1)) - c4 a : Nat) : Rat) = ((c4 (a + (m + 1)) - c4 (a + 1) : Nat) : Rat) + 1 := by
          have : c4 (a + (m + 1)) - c4 a = (c4 (a + (m + 1)) - c4 (a + 1)) + 1 := by omega
          rw [this, Rat.natCast_add]; rfl
        rw [e]; grind
      · rw [if_neg hd] at hc
        have hv := h.2 a (by omega) (by omega)
        rw [hv]
        have e : c4 (a + (m + 1)) - c4 a = c4 (a + (m + 1)) - c4 (a + 1) := by omega
        rw [e]
        have : ((0 : Int) : Rat) = 0 := rfl
        rw [this]; grind
  -- the mark
  have tail : ∀ (m a : Nat) (f : xV), (∀ i, f i = spV v k (a + i)) → 455 ≤ a → xdot m f f ≤ if a ≤ 455 + k ∧ 455 + k < a + m then 1 else 0 := by
    intro m
    induction m with
    | zero => intro a f _ _; simp only [xdot]; rw [if_neg (by omega)]; exact Rat.le_refl
    | succ m ih =>
      intro a f hf ha
      have h1 := ih (a + 1) (xs f) (fun i => by show f (i + 1) = _; rw [hf, show a + (i + 1) = a + 1 + i by omega]) (by omega)
      simp only [xdot]
      have e0 : f 0 = if a = 455 + k then 1 else 0 := by rw [hf]; unfold spV; rw [if_neg (by omega), Nat.add_zero]
      rw [e0]
      by_cases w : a = 455 + k
      · rw [if_neg (by omega)] at h1
        rw [if_pos w, if_pos (by omega)]; grind
      · rw [if_neg w]
        by_cases y : a + 1 ≤ 455 + k ∧ 455 + k < a + 1 + m
        · rw [if_pos y] at h1; rw [if_pos (by omega)]; grind
        · rw [if_neg y] at h1; rw [if_neg (by omega)]; grind
  have split : ∀ (m l : Nat) (f : xV), xdot (m + l) f f = xdot m f f + xdot l (fun i => f (m + i)) (fun i => f (m + i)) := by
    intro m
    induction m with
    | zero => intro l f; simp only [xdot, Nat.zero_add]; grind
    | succ m ih =>
      intro l f
      rw [show m + 1 + l = (m + l) + 1 by omega]
      simp only [xdot]
      rw [ih l (xs f)]
      have e : (fun i => xs f (m + i)) = fun i => f (m + 1 + i) := funext fun i => by show f (m + i + 1) = _; congr 1; omega
      rw [e]; grind
  have h1 := key 455 0 (spV v k) (fun i => by rw [Nat.zero_add]) (by omega)
  have h2 := tail 35 455 (fun i => spV v k (455 + i)) (fun _ => rfl) (Nat.le_refl _)
  have h3 := split 455 35 (spV v k)
  rw [if_pos (by omega)] at h2
  rw [Nat.zero_add, c4_all] at h1
  have h4 : c4 0 = 0 := rfl
  rw [h4] at h1
  have h5 : ((35 - 0 : Nat) : Rat) * 9801 = 343035 := by decide +kernel
  rw [h5] at h1
  show xdot (455 + 35) _ _ ≤ _
  rw [h3]
  unfold spC
  grind
theorem spX_zero {st : spst} {v : Nat → Int} (h : spOK st) (hv : spW v) : ∀ t, t < 455 → 4 < tdg t → spX st v t = 0 := by
  intro t ht hd
  have key : ∀ k, k ≤ st.1 → xred st.2.1 st.2.2.1 (spV v st.1) k t = 0 := by
    intro k
    induction k with
    | zero =>
      intro _
      simp only [xred, spV]
      rw [if_pos ht, hv.2 t ht hd]; rfl
    | succ k ih =>
      intro hk
      simp only [xred]
      rw [ih (by omega), (h.2.2 k (by omega)).2 t ht hd]; grind
  exact key st.1 (Nat.le_refl _)
theorem spX_tail {st : spst} {v : Nat → Int} (h : spOK st) : ∀ i, 455 + st.1 ≤ i → spX st v i = if i = 455 + st.1 then 1 else 0 := by
  intro i hi
  have key : ∀ k, k ≤ st.1 → xred st.2.1 st.2.2.1 (spV v st.1) k i = if i = 455 + st.1 then 1 else 0 := by
    intro k
    induction k with
    | zero => intro _; simp only [xred, spV]; rw [if_neg (by omega)]
    | succ k ih =>
      intro hk
      simp only [xred]
      rw [ih (by omega), (h.2.2 k (by omega)).1 i hi]; grind
  exact key st.1 (Nat.le_refl _)
/-- with 35 rows nothing is left -/
theorem c4_pos {t : Nat} : ∀ n, t < n → tdg t ≤ 4 → c4 t < c4 n := by
  intro n
  induction n with
  | zero => intro h; omega
  | succ n ih =>
    intro h hd
    simp only [c4]
    by_cases e : t = n
    · rw [e] at hd ⊢; rw [if_pos hd]; omega
    · have := ih (by omega) hd; omega
theorem c4_inj {s t : Nat} (hs : tdg s ≤ 4) (ht : tdg t ≤ 4) (h : c4 s = c4 t) : s = t := by
  rcases Nat.lt_trichotomy s t with w | w | w
  · have := c4_pos t w hs; omega
  · exact w
  · have := c4_pos s w ht; omega
theorem spOK.piv {st : spst} (h : spOK st) {a : Nat} (ha : a < st.1) : st.2.2.1 a < 455 ∧ tdg (st.2.2.1 a) ≤ 4 ∧ ∀ b, b < st.1 → st.2.1 b (st.2.2.1 a) = if b = a then 1 else 0 := by
  obtain ⟨M, g1, -⟩ := h.2.1
  obtain ⟨p1, p2⟩ := g1 a ha
  refine ⟨p1, ?_, p2⟩
  refine Classical.byContradiction fun w => ?_
  have e := p2 a ha
  rw [if_pos rfl, (h.2.2 a ha).2 _ p1 (by omega)] at e
  exact absurd e (by decide)
theorem spX_piv {st : spst} {v : Nat → Int} (h : spOK st) {a : Nat} (ha : a < st.1) : spX st v (st.2.2.1 a) = 0 := by
  have := xred_piv (R := st.2.1) (P := st.2.2.1) (v := spV v st.1) (m := st.1) (a := a) (fun a ha b hb => (h.piv ha).2.2 b hb) ha st.1 (Nat.le_refl _)
  unfold spX
  rw [this, if_pos ha]
theorem spX_full {st : spst} {v : Nat → Int} (h : spOK st) (hv : spW v) (hk : st.1 = 35) : ∀ t, t < 455 → spX st v t = 0 := by
  intro t ht
  rcases Nat.lt_or_ge 4 (tdg t) with w | w
  · exact spX_zero h hv t ht w
  refine Classical.byContradiction fun hne => ?_
  have hb : ∀ t, t < 455 → tdg t ≤ 4 → c4 t < 35 := fun t ht hd => by rw [← c4_all]; exact c4_pos 455 ht hd
  obtain ⟨i, j, hij, hj, he⟩ := pigeon 35 36 (fun i => if i < 35 then c4 (st.2.2.1 i) else c4 t) (by omega) fun i hi => by
    show (if i < 35 then _ else _) < 35
    split
    · have := h.piv (a := i) (by omega); exact hb _ this.1 this.2.1
    · exact hb t ht w
  have he' : (if i < 35 then c4 (st.2.2.1 i) else c4 t) = (if j < 35 then c4 (st.2.2.1 j) else c4 t) := he
  rw [if_pos (by omega)] at he'
  have pi := h.piv (a := i) (by omega)
  by_cases q : j < 35
  · rw [if_pos q] at he'
    have pj := h.piv (a := j) (by omega)
    have e := c4_inj pi.2.1 pj.2.1 he'
    have a1 := pi.2.2 i (by omega)
    have a2 := pj.2.2 i (by omega)
    rw [e, if_pos rfl] at a1
    rw [if_neg (by omega)] at a2
    rw [a2] at a1
    exact absurd a1 (by decide)
  · rw [if_neg q] at he'
    have e := c4_inj pi.2.1 w he'
    rw [← e] at hne
    exact hne (spX_piv h (by omega))
theorem spOK.step {st : spst} {v : Nat → Int} (h : spOK st) (hv : spW v) {q : Nat} (hq : q < 455) (h0 : spX st v q ≠ 0) (u : Nat × Nat) : spOK (spNew st (spX st v) q u) := by
  have hk : st.1 < 35 := by
    rcases Nat.lt_or_ge st.1 35 with w | w
    · exact w
    · exact absurd (spX_full h hv (by have := h.1; omega) q hq) h0
  obtain ⟨M, hg⟩ := h.2.1
  have hz : ∀ i, isZ (spV v st.1 i) := fun i => by
    unfold spV; split
    · exact isZ.of _
    · split
      · exact isZ.one
      · exact isZ.zero
  have hs := hg.step (v := spV v st.1) (q := q) hz (spV_dot hv hk) hq h0 (P' := pup st.2.2.1 st.1 q) (M' := fun j => if j = st.1 then spV v st.1 else M j) (fun j => rfl) (fun j hj => by show (if j = st.1 then _ else _) = _; rw [if_neg (by omega)]) (by show (if st.1 = st.1 then _ else _) = _; rw [if_pos rfl])
  refine ⟨by show st.1 + 1 ≤ 35; omega, ⟨_, hs⟩, fun r hr => ⟨fun i hi => ?_, fun t ht hd => ?_⟩⟩
  · have hi' : 455 + (st.1 + 1) ≤ i := hi
    have hr' : r < st.1 + 1 := hr
    have hx : spX st v i = 0 := by rw [spX_tail h i (by omega), if_neg (by omega)]
    show gjR st.1 st.2.1 (spX st v) q r i = 0
    unfold gjR
    by_cases w : r < st.1
    · rw [if_pos w, (h.2.2 r w).1 i (by omega), hx]; grind
    · rw [if_neg w, hx]; grind
  · have hr' : r < st.1 + 1 := hr
    have hx := spX_zero h hv t ht hd
    show gjR st.1 st.2.1 (spX st v) q r t = 0
    unfold gjR
    by_cases w : r < st.1
    · rw [if_pos w, (h.2.2 r w).2 t ht hd, hx]; grind
    · rw [if_neg w, hx]; grind
theorem spOK.take {c g : Nat} (ho : ordOK c g) {st : spst} {v : Nat → Int} (h : spOK st) (hv : spW v) (u : Nat × Nat) : spOK (spTake c g st v u) := by
  unfold spTake
  split
  · exact h
  · rename_i hn
    rcases leadI_law ho (φ := spX st v) 455 (Nat.le_refl _) with ⟨h1, _⟩ | ⟨t, h1, h2, h3, h4⟩
    · exact absurd h1 hn
    · rw [h1, Int.toNat_natCast]
      exact h.step hv h2 h3 u
theorem cpw_mono {n m : Nat} (h : n ≤ m) : (343036 : Int) ^ n ≤ 343036 ^ m := by
  induction m with
  | zero => rw [Nat.le_zero.mp h]; exact Int.le_refl _
  | succ m ih =>
    rcases Nat.lt_or_ge n (m + 1) with h1 | h1
    · have h2 := ih (by omega)
      have h3 : (0 : Int) < 343036 ^ m := Int.pow_pos (by decide)
      have h4 : (343036 : Int) ^ (m + 1) = 343036 ^ m * 343036 := Int.pow_succ _ _
      rw [h4]; omega
    · rw [Nat.le_antisymm h h1]; exact Int.le_refl _
theorem spBound {k : Nat} {z : Int} (hk : k ≤ 35) (h : ((z * z : Int) : Rat) ≤ spC ^ k) : (z.natAbs : Int) < 1000000000 ^ 11 := by
  have e : ∀ m : Nat, spC ^ m = ((343036 ^ m : Int) : Rat) := fun m => by
    induction m with
    | zero => rw [Rat.pow_zero]; rfl
    | succ m ih => rw [Rat.pow_succ, ih, Int.pow_succ, Rat.intCast_mul]; rfl
  rw [e] at h
  have h1 := Rat.intCast_le_intCast.mp h
  have h2 : (343036 : Int) ^ k ≤ 343036 ^ 35 := cpw_mono hk
  have h3 : (343036 : Int) ^ 35 < 1000000000 ^ 11 * 1000000000 ^ 11 := by decide +kernel
  have h4 : z * z = z.natAbs * z.natAbs := (Int.natAbs_mul_self' z).symm
  refine Classical.byContradiction fun w => ?_
  have h5 : (1000000000 : Int) ^ 11 * 1000000000 ^ 11 ≤ z.natAbs * z.natAbs := Int.mul_le_mul (by omega) (by omega) (Int.le_of_lt (pw_pos 11)) (by omega)
  omega
/-- whole and small: a row's number times the divisor -/
theorem spOK.cell {st : spst} (h : spOK st) {r i : Nat} (hr : r < st.1) (hi : i < 490) : ∃ z : Int, (z : Rat) = st.2.2.2.1 * st.2.1 r i ∧ (z.natAbs : Int) < 1000000000 ^ 11 := by
  obtain ⟨M, hg⟩ := h.2.1
  obtain ⟨⟨z, hz⟩, h2⟩ := hg.cell (by decide) hr hi
  refine ⟨z, hz.symm, ?_⟩
  rw [hz, ← Rat.intCast_mul] at h2
  exact spBound h.1 h2
theorem spOK.div {st : spst} (h : spOK st) : ∃ z : Int, (z : Rat) = st.2.2.2.1 ∧ z ≠ 0 ∧ (z.natAbs : Int) < 1000000000 ^ 11 := by
  obtain ⟨M, hg⟩ := h.2.1
  obtain ⟨⟨z, hz⟩, h2⟩ := hg.div (by decide)
  have h0 := hg.2.1
  refine ⟨z, hz.symm, fun w => h0 (by rw [hz, w]; rfl), ?_⟩
  rw [hz, ← Rat.intCast_mul] at h2
  exact spBound h.1 h2
