/-! Sturm's count: it never rises; over a short span it falls by one at most -/
set_option maxRecDepth 100000
set_option linter.unusedVariables false
/-- what holds over all cells that are short enough -/
def fine (Q : Rat → Rat → Prop) : Prop := ∃ h : Rat, 0 < h ∧ ∀ x y, iB x → iB y → x ≤ y → y - x ≤ h → Q x y
theorem fine.mp {Q W : Rat → Rat → Prop} (h : fine Q) (k : ∀ x y, iB x → iB y → x ≤ y → Q x y → W x y) : fine W := by
  obtain ⟨d, h1, h2⟩ := h
  exact ⟨d, h1, fun x y hx hy hxy hd => k x y hx hy hxy (h2 x y hx hy hxy hd)⟩
theorem fine.and {Q W : Rat → Rat → Prop} (h : fine Q) (k : fine W) : fine (fun x y => Q x y ∧ W x y) := by
  obtain ⟨d, h1, h2⟩ := h
  obtain ⟨e, k1, k2⟩ := k
  refine ⟨if d ≤ e then d else e, by split <;> assumption, fun x y hx hy hxy hd => ⟨h2 x y hx hy hxy ?_, k2 x y hx hy hxy ?_⟩⟩
  · split at hd <;> grind
  · split at hd <;> grind
theorem fine.all {Q : Nat → Rat → Rat → Prop} : ∀ (n : Nat), (∀ i, i < n → fine (Q i)) → fine (fun x y => ∀ i, i < n → Q i x y) := by
  intro n
  induction n with
  | zero => intro _; exact ⟨1, by decide, fun x y _ _ _ _ i hi => by omega⟩
  | succ n ih =>
    intro h
    refine ((ih fun i hi => h i (by omega)).and (h n (by omega))).mp fun x y _ _ _ q i hi => ?_
    by_cases e : i = n
    · subst e; exact q.2
    · exact q.1 i (by omega)
/-- from cell to cell -/
theorem fine.mesh {W : Rat → Rat → Prop} (h : fine W) (ht : ∀ x y z, iB x → iB y → iB z → x ≤ y → y ≤ z → W x y → W y z → W x z) {a b : Rat} (ha : iB a) (hb : iB b) (hab : a ≤ b) : W a b := by
  obtain ⟨d, h1, h2⟩ := h
  obtain ⟨N, hN, hx⟩ := archi ((b - a) / d)
  have hN' : (0 : Rat) < (N : Rat) := Rat.natCast_pos.mpr hN
  have hN0 : (N : Rat) ≠ 0 := by intro e; rw [e] at hN'; exact Rat.lt_irrefl hN'
  have hd : b - a < (N : Rat) * d := (Rat.div_lt_iff h1).mp hx
  obtain ⟨e, he⟩ : ∃ e, e = (b - a) / (N : Rat) := ⟨_, rfl⟩
  have hNe : (N : Rat) * e = b - a := by rw [he]; grind
  have he0 : 0 ≤ e := by
    rw [he, Rat.div_def]
    exact Rat.mul_nonneg (by grind) (Rat.le_of_lt (Rat.inv_pos.mpr hN'))
  have hed : e ≤ d := by
    rcases Classical.em (e ≤ d) with q | q
    · exact q
    · exfalso
      have q2 : d < e := by grind
      have := Rat.mul_lt_mul_of_pos_left q2 hN'
      grind
  have step : ∀ k : Nat, k ≤ N → W a (a + (k : Rat) * e) := by
    intro k
    induction k with
    | zero =>
      intro _
      rw [show ((0 : Nat) : Rat) = 0 from rfl, show a + 0 * e = a by grind]
      exact h2 a a ha ha Rat.le_refl (by grind)
    | succ k ih =>
      intro hk
      have hk1 : ((k + 1 : Nat) : Rat) = (k : Rat) + 1 := Rat.natCast_add k 1
      have hkN : ((k + 1 : Nat) : Rat) * e ≤ (N : Rat) * e := Rat.mul_le_mul_of_nonneg_right (Rat.natCast_le_natCast.mpr hk) he0
      have hk0 : 0 ≤ (k : Rat) * e := Rat.mul_nonneg Rat.natCast_nonneg he0
      rw [hk1] at hkN ⊢
      have b1 : iB (a + (k : Rat) * e) := iB.of ha hb (by grind) (by grind)
      have b2 : iB (a + ((k : Rat) + 1) * e) := iB.of ha hb (by grind) (by grind)
      exact ht _ _ _ ha b1 b2 (by grind) (by grind) (ih (by omega)) (h2 _ _ b1 b2 (by grind) (by grind))
  have := step N (Nat.le_refl _)
  rwa [show a + (N : Rat) * e = b by grind] at this
abbrev PP (f : pf) : Prop := ∃ n, PF n f
theorem PP.add {f g : Rat → Rat} (h : PP f) (k : PP g) : PP (fun x => f x + g x) := by
  obtain ⟨n, h⟩ := h; obtain ⟨m, k⟩ := k
  exact ⟨n + m, (h.mono (by omega)).add (k.mono (by omega))⟩
theorem PP.sub {f g : Rat → Rat} (h : PP f) (k : PP g) : PP (fun x => f x - g x) := by
  obtain ⟨n, h⟩ := h; obtain ⟨m, k⟩ := k
  exact ⟨n + m, (h.mono (by omega)).sub (k.mono (by omega))⟩
theorem PP.mul {f g : Rat → Rat} (h : PP f) (k : PP g) : PP (fun x => f x * g x) := by
  obtain ⟨n, h⟩ := h; obtain ⟨m, k⟩ := k
  exact ⟨n + m, h.mul (k.mono (by omega))⟩
theorem PP.smul {f : Rat → Rat} (h : PP f) (p : Rat) : PP (fun x => p * f x) := by
  obtain ⟨n, h⟩ := h
  exact ⟨n, h.smul p⟩
theorem PP.const (p : Rat) : PP (fun _ => p) := ⟨1, PF.const p⟩
theorem PP.neg {f : Rat → Rat} (h : PP f) : PP (fun x => - f x) := by
  have := h.smul (-1)
  rwa [show (fun x => (-1 : Rat) * f x) = fun x => - f x from funext fun x => by grind] at this
/-- two without a common zero -/
def bez (f g : pf) : Prop := ∃ u v : pf, PP u ∧ PP v ∧ ∀ x, u x * f x + v x * g x = 1
theorem bez.comm {f g : Rat → Rat} (h : bez f g) : bez g f := by
  obtain ⟨u, v, h1, h2, h3⟩ := h
  exact ⟨v, u, h2, h1, fun x => by have := h3 x; grind⟩
theorem bez.keep {f g : Rat → Rat} (h : bez f g) (hf : PP f) (hg : PP g) {e : Rat} (he : 0 < e) : ∃ δ : Rat, 0 < δ ∧ fine (fun x y => (∃ s, fxs s f x y) ∨ ((∃ s, fxs s g x y) ∧ (∀ z, x ≤ z → z ≤ y → ¬ ab (g z) δ) ∧ ∀ z, x ≤ z → z ≤ y → ab (f z) (e * δ))) := by
  obtain ⟨u, v, ⟨nu, hu⟩, ⟨nv, hv⟩, hb⟩ := h
  obtain ⟨nf, hf⟩ := hf
  obtain ⟨ng, hg⟩ := hg
  obtain ⟨Ku, u1, u2⟩ := hu.bnd
  obtain ⟨Kv, v1, v2⟩ := hv.bnd
  obtain ⟨Lf, f1, f2⟩ := hf.lip
  obtain ⟨Lg, g1, g2⟩ := hg.lip
  have hk : 0 < 4 * Kv := by grind
  refine ⟨1 / (4 * Kv), by rw [Rat.div_def, Rat.one_mul]; exact Rat.inv_pos.mpr hk, ?_⟩
  have p1 := Rat.mul_pos u1 f1
  have p2 := Rat.mul_pos v1 g1
  have p3 := Rat.mul_pos v1 f1
  have hD : 0 < 4 * (Ku * Lf) + 8 * (Kv * Lg) + 8 * (Kv * Lf) * (1 / e) + 1 := by
    have : 0 < 1 / e := by rw [Rat.div_def, Rat.one_mul]; exact Rat.inv_pos.mpr he
    have := Rat.mul_pos p3 this
    grind
  obtain ⟨D, hDe⟩ : ∃ D, D = 4 * (Ku * Lf) + 8 * (Kv * Lg) + 8 * (Kv * Lf) * (1 / e) + 1 := ⟨_, rfl⟩
  rw [← hDe] at hD
  have hDi : 0 < D⁻¹ := Rat.inv_pos.mpr hD
  have hDD : D * D⁻¹ = 1 := Rat.mul_inv_cancel _ (by intro q; rw [q] at hD; exact Rat.lt_irrefl hD)
  have he1 : 0 < 1 / e := by rw [Rat.div_def, Rat.one_mul]; exact Rat.inv_pos.mpr he
  have hee : (1 / e) * e = 1 := Rat.div_mul_cancel (by intro q; rw [q] at he; exact Rat.lt_irrefl he)
  refine ⟨D⁻¹, hDi, fun x y hx hy hxy hh => ?_⟩
  have q1 : 4 * (Ku * Lf) * D⁻¹ < 1 := by
    have : 4 * (Ku * Lf) < D := by rw [hDe]; have := Rat.mul_pos p3 he1; grind
    have := Rat.mul_lt_mul_of_pos_right this hDi
    grind
  have q2 : 8 * (Kv * Lg) * D⁻¹ < 1 := by
    have : 8 * (Kv * Lg) < D := by rw [hDe]; have := Rat.mul_pos p3 he1; grind
    have := Rat.mul_lt_mul_of_pos_right this hDi
    grind
  have q3 : 8 * (Kv * Lf) * (1 / e) * D⁻¹ < 1 := by
    have : 8 * (Kv * Lf) * (1 / e) < D := by rw [hDe]; grind
    have := Rat.mul_lt_mul_of_pos_right this hDi
    grind
  rcases keep_or f2 f1 hx hy hxy hh with h | h
  · exact Or.inl h
  · right
    have pp1 := Rat.mul_pos p1 hDi
    obtain ⟨k1, k2⟩ := keep_other f2 g2 f1 g1 u2 v2 u1 v1 (fun z _ => hb z) hx hy hxy hh hDi (by grind) (by grind) h
    refine ⟨k1, fun z z1 z2 q => k2 z z1 z2 ?_, fun z z1 z2 => (h z z1 z2).mono ?_⟩
    · have := (ab.self (Rat.le_of_lt v1)).mul q
      exact this.mono (by have e1 : Kv * (1 / (4 * Kv)) = 1 / 4 := by grind
                          rw [e1]; exact Rat.le_refl)
    · have e1 : e * (1 / (4 * Kv)) * (4 * Kv) = e := by grind
      refine Rat.le_of_mul_le_mul_right (c := 4 * Kv) ?_ hk
      rw [e1]
      have e2 : 8 * (Kv * Lf) * (1 / e) * D⁻¹ * e < 1 * e := Rat.mul_lt_mul_of_pos_right q3 he
      have e3 : 8 * (Kv * Lf) * (1 / e) * D⁻¹ * e = 8 * (Kv * Lf) * D⁻¹ := by grind
      rw [e3] at e2
      have := Rat.mul_pos p3 hDi
      grind
/-- a chain: each one but the first two is what is left, turned round -/
def schain (F : Nat → pf) (m : Nat) : Prop := 1 ≤ m ∧ (∀ i, i < m → PP (F i)) ∧ (∀ i, 1 ≤ i → i + 1 < m → ∃ (c : Rat) (q : pf), 0 < c ∧ PP q ∧ ∀ x, c * F (i - 1) x = q x * F i x - F (i + 1) x) ∧ ∃ c : Rat, c ≠ 0 ∧ ∀ x, F (m - 1) x = c
theorem schain.bez {F : Nat → pf} {m : Nat} (h : schain F m) : ∀ (n i : Nat), i + n + 2 = m → bez (F i) (F (i + 1)) := by
  obtain ⟨h1, h2, h3, c, h4, h5⟩ := h
  intro n
  induction n with
  | zero =>
    intro i hi
    refine ⟨fun _ => 0, fun _ => 1 / c, PP.const 0, PP.const _, fun x => ?_⟩
    have := h5 x
    rw [show m - 1 = i + 1 by omega] at this
    rw [this]; grind
  | succ n ih =>
    intro i hi
    obtain ⟨u, v, hu, hv, hb⟩ := ih (i + 1) (by omega)
    obtain ⟨k, q, k1, k2, k3⟩ := h3 (i + 1) (by omega) (by omega)
    rw [Nat.add_sub_cancel] at k3
    refine ⟨fun x => (-k) * v x, fun x => u x + v x * q x, hv.smul _, hu.add (hv.mul k2), fun x => ?_⟩
    have a1 := hb x
    have a2 := k3 x
    grind
theorem schain.fine {F : Nat → pf} {m : Nat} (h : schain F m) : fine (fun x y => cellOK F m x y ∧ ((∃ g, fxs g (F 0) x y) ∨ (2 ≤ m ∧ ∃ g, fxs g (F 1) x y))) := by
  have hB := h.bez
  obtain ⟨h1, h2, h3, c, h4, h5⟩ := h
  have hlast : ∀ x y, ∃ g, fxs g (F (m - 1)) x y := fun x y => by
    rcases Classical.em (0 < c) with q | q
    · exact ⟨1, c, q, Or.inl ⟨rfl, fun z _ _ => by rw [h5]; exact Rat.le_refl⟩⟩
    · exact ⟨-1, -c, by grind, Or.inr ⟨rfl, fun z _ _ => by rw [h5]; grind⟩⟩
  refine Jvm.Pilot.CIdealCourtLaw_law_r5787_380c08.fine.and ?_ ?_
  · have key : ∀ i, i < m → Jvm.Pilot.CIdealCourtLaw_law_r5787_380c08.fine (fun x y => 1 ≤ i → (∃ g, fxs g (F i) x y) ∨ (i + 1 < m ∧ ∃ g, fxs g (F (i - 1)) x y ∧ fxs (-g) (F (i + 1)) x y)) := by
      intro i him
      rcases Nat.eq_zero_or_pos i with e | hi1
      · subst e; exact ⟨1, by decide, fun x y _ _ _ _ q => by omega⟩
      rcases Nat.lt_or_ge (i + 1) m with hi | hi
      · obtain ⟨k, q, k1, k2, k3⟩ := h3 i hi1 hi
        have b1 := hB (m - 2 - i) i (by omega)
        have b2 := hB (m - 1 - i) (i - 1) (by omega)
        rw [show i - 1 + 1 = i by omega] at b2
        obtain ⟨nq, hq⟩ := k2
        obtain ⟨Kq, q1, q2⟩ := hq.bnd
        have he : 0 < 1 / (2 * Kq) := by rw [Rat.div_def, Rat.one_mul]; exact Rat.inv_pos.mpr (by grind)
        obtain ⟨δ, d1, d2⟩ := b1.keep (h2 i him) (h2 (i + 1) hi) he
        obtain ⟨δ', d1', d2'⟩ := b2.comm.keep (h2 i him) (h2 (i - 1) (by omega)) he
        refine (d2.and d2').mp fun x y hx hy hxy hh _ => ?_
        rcases hh.1 with a | ⟨⟨g, a1⟩, a2, a3⟩
        · exact Or.inl a
        rcases hh.2 with a | ⟨⟨g', a1'⟩, a2', a3'⟩
        · exact Or.inl a
        right
        have a0 := a1
        refine ⟨hi, g', a1', ?_⟩
        have e := k3 x
        have f1 := a2 x Rat.le_refl hxy
        have f3 := a3 x Rat.le_refl hxy
        have f4 := (q2 x hx).mul f3
        have e4 : Kq * (1 / (2 * Kq) * δ) = δ / 2 := by grind
        rw [e4] at f4
        have s1 := a1.at Rat.le_refl hxy
        have s2 := a1'.at Rat.le_refl hxy
        rcases a1.w with ⟨rfl, w1⟩ | ⟨rfl, w1⟩ <;> rcases a1'.w with ⟨rfl, w2⟩ | ⟨rfl, w2⟩
        · exfalso
          have p1 := w1 x Rat.le_refl hxy
          have p2 := Rat.mul_pos k1 (w2 x Rat.le_refl hxy)
          have : ab (F (i + 1) x) δ := by unfold ab at f4 ⊢; grind
          exact f1 this
        · exact a0
        · exact a0
        · exfalso
          have p1 := w1 x Rat.le_refl hxy
          have p2 := Rat.mul_pos k1 (show 0 < - F (i - 1) x by have := w2 x Rat.le_refl hxy; grind)
          have : ab (F (i + 1) x) δ := by unfold ab at f4 ⊢; grind
          exact f1 this
      · refine ⟨1, by decide, fun x y _ _ _ _ _ => Or.inl ?_⟩
        rw [show i = m - 1 by omega]; exact hlast x y
    refine (fine.all m key).mp fun x y _ _ _ q i hi1 hi => q i hi hi1
  · rcases Nat.lt_or_ge 1 m with hm | hm
    · have b := hB (m - 2) 0 (by omega)
      obtain ⟨δ, d1, d2⟩ := b.keep (h2 0 (by omega)) (h2 1 hm) (e := 1) (by decide)
      refine d2.mp fun x y _ _ _ q => ?_
      rcases q with q | ⟨q, _⟩
      · exact Or.inl q
      · exact Or.inr ⟨hm, q⟩
    · refine ⟨1, by decide, fun x y _ _ _ _ => Or.inl ?_⟩
      have := hlast x y
      rwa [show m - 1 = 0 by omega] at this
/-- a slope of one sign -/
theorem fxs.mono {f f' : Rat → Rat} {κ : Rat} (hD : DD f (fun x => κ * f' x)) (hκ : 0 < κ) {g : Int} {x y : Rat} (h : fxs g f' x y) {a b : Rat} (ha : iB a) (hb : iB b) (h1 : x ≤ a) (h2 : a ≤ b) (h3 : b ≤ y) : (g = 1 → f a ≤ f b) ∧ (g = -1 → f b ≤ f a) := by
  rcases h.w with ⟨rfl, hw⟩ | ⟨rfl, hw⟩
  · refine ⟨fun _ => hD.mvt ha hb h2 fun z z1 z2 => ?_, fun q => by omega⟩
    have := Rat.mul_pos hκ (hw z (by grind) (by grind))
    grind
  · refine ⟨fun q => by omega, fun _ => ?_⟩
    have hD' := hD.smul (-1)
    have := hD'.mvt ha hb h2 fun z z1 z2 => by
      have := Rat.mul_pos hκ (show 0 < - f' z by have := hw z (by grind) (by grind); grind)
      grind
    grind
/-- the count never rises -/
theorem sturm_mono {F : Nat → pf} {m : Nat} (h : schain F m) {κ : Rat} (hκ : 0 < κ) (hD : 2 ≤ m → DD (F 0) (fun x => κ * F 1 x)) {a b : Rat} (ha : iB a) (hb : iB b) (hab : a ≤ b) : vch (fun i => F i b) m ≤ vch (fun i => F i a) m := by
  refine Jvm.Pilot.CIdealCourtLaw_law_r5787_380c08.fine.mesh (W := fun x y => vch (fun i => F i y) m ≤ vch (fun i => F i x) m) ?_ (fun x y z _ _ _ _ _ p q => Int.le_trans q p) ha hb hab
  refine h.fine.mp fun x y hx hy hxy hh => ?_
  obtain ⟨h1, h2 | ⟨h2, g, h3⟩⟩ := hh
  · obtain ⟨g, h2⟩ := h2
    rw [cell_kept hxy h1 h.1 h2]; exact Int.le_refl _
  · rw [cell_head hxy h1 h2 h3]
    have mm := h3.mono (hD h2) hκ hx hy Rat.le_refl hxy Rat.le_refl
    have gu := h3.unit
    have : sgr (F 0 y) = -g → sgr (F 0 x) = -g := fun q => by
      rcases gu with e | e
      · subst e
        have m1 := mm.1 rfl
        have y1 : F 0 y < 0 := by
          rcases Classical.em (F 0 y < 0) with r | r
          · exact r
          · exfalso; unfold sgr at q; split at q
            · omega
            · first | omega | (rw [if_neg r] at q; omega)
        exact sgr_neg (by grind)
      · subst e
        have m1 := mm.2 rfl
        have y1 : 0 < F 0 y := by
          rcases Classical.em (0 < F 0 y) with r | r
          · exact r
          · exfalso; unfold sgr at q; rw [if_neg r] at q; split at q <;> omega
        exact sgr_pos (by grind)
    split <;> split <;> first | omega | (exfalso; rename_i q1 q2; exact q1 (this q2))
