/-! simple chains: the count over a cell, signs kept where it stays -/
-- pure
-- needs: 71.poly 74.anal 75.cells 76.sturm 77.sep
set_option maxRecDepth 100000
set_option linter.unusedVariables false
/-- 1 where a sign other than 0 is left -/
def chg (x y : Rat) : Int := if sgr x = 0 then 0 else if sgr x = sgr y then 0 else 1
/-- a chain whose second one goes as the first one's slope -/
def stc (F : Nat → pf) (m : Nat) : Prop := schain F m ∧ ∃ κ : Rat, 0 < κ ∧ (2 ≤ m → DD (F 0) (fun x => κ * F 1 x))
theorem sgr_le {x y : Rat} (h : x ≤ y) : sgr x ≤ sgr y := by
  unfold sgr
  rcases Classical.em (0 < x) with a | a
  · rw [if_pos a, if_pos (by grind)]; omega
  · rw [if_neg a]
    rcases Classical.em (x < 0) with b | b
    · rw [if_pos b]
      split
      · omega
      · split <;> omega
    · rw [if_neg b]
      rcases Classical.em (0 < y) with c | c
      · rw [if_pos c]; omega
      · rw [if_neg c, if_neg (by grind)]; omega
theorem sgr_ne {x : Rat} : sgr x ≠ 0 ↔ x ≠ 0 := by
  unfold sgr
  constructor
  · intro h q; rw [q] at h; exact h (by decide)
  · intro h q
    rcases Classical.em (0 < x) with a | a
    · rw [if_pos a] at q; omega
    · rw [if_neg a] at q
      rcases Classical.em (x < 0) with b | b
      · rw [if_pos b] at q; omega
      · exact h (by grind)
theorem stc.fine {F : Nat → pf} {m : Nat} (h : stc F m) : fine (fun x y => vch (fun i => F i x) m = vch (fun i => F i y) m + chg (F 0 x) (F 0 y) ∧ ((∃ g, fxs g (F 0) x y) ∨ ∃ γ : Int, (γ = 1 ∨ γ = -1) ∧ ∀ a b, x ≤ a → a ≤ b → b ≤ y → γ * sgr (F 0 a) ≤ γ * sgr (F 0 b) ∧ (γ = 1 → F 0 a ≤ F 0 b) ∧ (γ = -1 → F 0 b ≤ F 0 a))) := by
  obtain ⟨h, κ, k0, kD⟩ := h
  refine h.fine.mp fun x y hx hy hxy hh => ?_
  obtain ⟨c1, ⟨γ, c2⟩ | ⟨c2, γ, c3⟩⟩ := hh
  · refine ⟨?_, Or.inl ⟨γ, c2⟩⟩
    rw [cell_kept hxy c1 h.1 c2]
    have s1 := c2.at Rat.le_refl hxy
    have s2 := c2.at hxy Rat.le_refl
    unfold chg
    rw [s1, s2]
    split <;> simp
  · have mono : ∀ a b, x ≤ a → a ≤ b → b ≤ y → γ * sgr (F 0 a) ≤ γ * sgr (F 0 b) ∧ (γ = 1 → F 0 a ≤ F 0 b) ∧ (γ = -1 → F 0 b ≤ F 0 a) := fun a b q1 q2 q3 => by
      have mm := c3.mono (kD c2) k0 (iB.of hx hy q1 (by grind)) (iB.of hx hy (by grind) q3) q1 q2 q3
      refine ⟨?_, mm⟩
      rcases c3.unit with e | e
      · have := sgr_le (mm.1 e); rw [e]; omega
      · have := sgr_le (mm.2 e); rw [e]; omega
    refine ⟨?_, Or.inr ⟨γ, c3.unit, mono⟩⟩
    rw [cell_head hxy c1 c2 c3]
    have m1 := (mono x y Rat.le_refl hxy Rat.le_refl).1
    have sx := sgr_cases (F 0 x)
    have sy := sgr_cases (F 0 y)
    have gu := c3.unit
    unfold chg
    generalize sgr (F 0 x) = u at *
    generalize sgr (F 0 y) = v at *
    clear mono c3
    rcases gu with e | e <;> subst e <;> rcases sx with a | a | a <;> rcases sy with b | b | b <;> subst a <;> subst b <;> simp at m1 ⊢
theorem fxs.join {u : Int} {f : Rat → Rat} {x y z : Rat} (h : fxs u f x y) (k : fxs u f y z) : fxs u f x z := by
  obtain ⟨d, d0, h⟩ := h
  obtain ⟨e, e0, k⟩ := k
  refine ⟨if d ≤ e then d else e, by split <;> assumption, ?_⟩
  have hm : (if d ≤ e then d else e) ≤ d ∧ (if d ≤ e then d else e) ≤ e := by split <;> grind
  rcases h with ⟨a, h⟩ | ⟨a, h⟩
  · rcases k with ⟨b, k⟩ | ⟨b, k⟩
    · refine Or.inl ⟨a, fun w w1 w2 => ?_⟩
      rcases (Rat.le_total : w ≤ y ∨ y ≤ w) with q | q
      · have := h w w1 q; grind
      · have := k w q w2; grind
    · omega
  · rcases k with ⟨b, k⟩ | ⟨b, k⟩
    · omega
    · refine Or.inr ⟨a, fun w w1 w2 => ?_⟩
      rcases (Rat.le_total : w ≤ y ∨ y ≤ w) with q | q
      · have := h w w1 q; grind
      · have := k w q w2; grind
theorem stc.mono {F : Nat → pf} {m : Nat} (h : stc F m) {a b : Rat} (ha : iB a) (hb : iB b) (hab : a ≤ b) : vch (fun i => F i b) m ≤ vch (fun i => F i a) m := by
  obtain ⟨h, κ, k0, kD⟩ := h
  exact sturm_mono h k0 kD ha hb hab
theorem fxs.ne {u : Int} {f : Rat → Rat} {x y z : Rat} (h : fxs u f x y) (h1 : x ≤ z) (h2 : z ≤ y) : f z ≠ 0 := fun q => by
  have a := h.at h1 h2
  have b := h.unit
  rw [q, sgr_zero] at a
  omega
/-- where the count stays a sign other than 0 is kept -/
theorem stc.keep {F : Nat → pf} {m : Nat} (h : stc F m) {a b : Rat} (ha : iB a) (hb : iB b) (hab : a ≤ b) (hv : vch (fun i => F i a) m = vch (fun i => F i b) m) (h0 : F 0 a ≠ 0) : fxs (sgr (F 0 a)) (F 0) a b := by
  have W : Jvm.Pilot.CIdealCourtLaw_law_r5787_380c08.fine (fun x y => a ≤ x → y ≤ b → F 0 x ≠ 0 → fxs (sgr (F 0 x)) (F 0) x y) := by
    refine h.fine.mp fun x y hx hy hxy hh h1 h2 h3 => ?_
    obtain ⟨c1, c2⟩ := hh
    have m1 := h.mono ha hx h1
    have m2 := h.mono hx hy hxy
    have m3 := h.mono hy hb h2
    have c0 : chg (F 0 x) (F 0 y) = 0 := by omega
    have e : sgr (F 0 x) = sgr (F 0 y) := by
      unfold chg at c0
      rw [if_neg (sgr_ne.mpr h3)] at c0
      split at c0
      · assumption
      · omega
    rcases c2 with ⟨g, c2⟩ | ⟨γ, g1, c2⟩
    · rwa [c2.at Rat.le_refl hxy]
    · have key : ∀ z, x ≤ z → z ≤ y → (F 0 x ≤ F 0 z ∧ F 0 z ≤ F 0 y) ∨ (F 0 y ≤ F 0 z ∧ F 0 z ≤ F 0 x) := fun z z1 z2 => by
        obtain ⟨-, p1, p2⟩ := c2 x z Rat.le_refl z1 z2
        obtain ⟨-, q1, q2⟩ := c2 z y z1 z2 Rat.le_refl
        rcases g1 with g | g
        · exact Or.inl ⟨p1 g, q1 g⟩
        · exact Or.inr ⟨q2 g, p2 g⟩
      rcases Classical.em (0 < F 0 x) with p | p
      · have ey : 0 < F 0 y := by
          rw [sgr_pos p] at e
          rcases Classical.em (0 < F 0 y) with q | q
          · exact q
          · unfold sgr at e; rw [if_neg q] at e; split at e <;> omega
        rw [sgr_pos p]
        refine ⟨if F 0 x ≤ F 0 y then F 0 x else F 0 y, by split <;> assumption, Or.inl ⟨rfl, fun z z1 z2 => ?_⟩⟩
        have := key z z1 z2
        split <;> grind
      · have p2 : F 0 x < 0 := by grind
        have ey : F 0 y < 0 := by
          rw [sgr_neg p2] at e
          rcases Classical.em (F 0 y < 0) with q | q
          · exact q
          · unfold sgr at e; rw [if_neg q] at e; split at e <;> omega
        rw [sgr_neg p2]
        refine ⟨if F 0 x ≤ F 0 y then - F 0 y else - F 0 x, by split <;> grind, Or.inr ⟨rfl, fun z z1 z2 => ?_⟩⟩
        have := key z z1 z2
        split <;> grind
  refine W.mesh (fun x y z _ _ _ hxy hyz p q x1 z1 x0 => ?_) ha hb hab Rat.le_refl Rat.le_refl h0
  have p1 := p x1 (by grind) x0
  have q1 := q (by grind) z1 (p1.ne hxy Rat.le_refl)
  rw [p1.at hxy Rat.le_refl] at q1
  exact p1.join q1
theorem stc.pp {F : Nat → pf} {m : Nat} (h : stc F m) {i : Nat} (hi : i < m) : PP (F i) := h.1.2.1 i hi
/-- where the count stays there is no nought behind the low end -/
theorem stc.behind {F : Nat → pf} {m : Nat} (h : stc F m) (hn : ¬ ∀ x, F 0 x = 0) {a b : Rat} (ha : iB a) (hb : iB b) (hv : vch (fun i => F i a) m = vch (fun i => F i b) m) {x : Rat} (h1 : a < x) (h2 : x ≤ b) : F 0 x ≠ 0 := by
  intro h0
  obtain ⟨η, n0, hf⟩ := h.fine
  have hx : iB x := iB.of ha hb (by grind) h2
  obtain ⟨y, y1, y2, y3⟩ : ∃ y, a ≤ y ∧ y < x ∧ x - y ≤ η := by
    rcases Classical.em (x - a ≤ η) with q | q
    · exact ⟨a, Rat.le_refl, h1, q⟩
    · exact ⟨x - η, by grind, by grind, by grind⟩
  obtain ⟨n, hp⟩ := h.pp (i := 0) (by have := h.1.1; omega)
  refine hn (hp.span_zero y2 fun z z1 z2 => ?_)
  have hz : iB z := iB.of ha hb (by grind) (by grind)
  obtain ⟨c1, -⟩ := hf z x hz hx z2 (by grind)
  have m1 := h.mono ha hz (by grind)
  have m2 := h.mono hz hx z2
  have m3 := h.mono hx hb h2
  have c0 : chg (F 0 z) (F 0 x) = 0 := by omega
  rcases Classical.em (F 0 z = 0) with q | q
  · exact q
  · exfalso
    unfold chg at c0
    rw [h0, sgr_zero, if_neg (sgr_ne.mpr q), if_neg (sgr_ne.mpr q)] at c0
    omega
