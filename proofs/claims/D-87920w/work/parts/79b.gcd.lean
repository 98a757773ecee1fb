/-! a root in a span, and what two polynomials have in common there -/
-- pure
-- needs: 71.poly 74.anal 75.cells 76.sturm 77.sep 78.keep 79.ode 79a.near
set_option maxRecDepth 100000
set_option linter.unusedVariables false
abbrev cnt (F : Nat → pf) (m : Nat) (x : Rat) : Int := vch (fun i => F i x) m
theorem stc.nz {F : Nat → pf} {m : Nat} (h : stc F m) : PP (F 0) := h.pp (i := 0) (by have := h.1.1; omega)
/-- no noughts of s: no change of what keeps its sign where s does -/
theorem cnt_still {S : Nat → pf} {ms : Nat} (hS : stc S ms) (hs : ¬ ∀ x, S 0 x = 0) {F : Nat → pf} {m : Nat} (hF : stc F m) (hk : ∀ a b u, iB a → iB b → a < b → fxs u (S 0) a b → ∃ w, fxs w (F 0) a b) {a b : Rat} (ha : iB a) (hb : iB b) (hab : a ≤ b) (hv : cnt S ms a = cnt S ms b) : cnt F m a = cnt F m b := by
  rcases Classical.em (a < b) with h | h
  · obtain ⟨η, n0, hη⟩ := hF.right ha
    obtain ⟨c, c1, c2, c3⟩ : ∃ c, a < c ∧ c ≤ b ∧ c ≤ a + η := by
      rcases Classical.em (b ≤ a + η) with q | q
      · exact ⟨b, h, Rat.le_refl, q⟩
      · exact ⟨a + η, by grind, by grind, Rat.le_refl⟩
    have hc : iB c := iB.of ha hb (by grind) c2
    have e1 : cnt F m a = cnt F m c := hη c hc (by grind) c3
    rw [e1]
    rcases Classical.em (c < b) with q | q
    · have m1 := hS.mono ha hc (by grind)
      have m2 := hS.mono hc hb (by grind)
      have e2 : cnt S ms c = cnt S ms b := by
        show vch _ _ = vch _ _
        have hv' : vch (fun i => S i a) ms = vch (fun i => S i b) ms := hv
        omega
      have h0 := hS.behind hs ha hb hv c1 c2
      have k := hS.keep hc hb (by grind) e2 h0
      obtain ⟨w, k2⟩ := hk c b _ hc hb q k
      exact kept_all hF.1 hc hb (by grind) k2
    · have : c = b := by grind
      rw [this]
  · have : a = b := by grind
    rw [this]
/-- what stands between a root of p and what p and q have in common: s, g simple; e = gcd; G = gcd of s and q -/
def com (p q s g e G k q1 : pf) : Prop := shr s p ∧ shr g e ∧ PP q ∧ PP G ∧ PP k ∧ PP q1 ∧ (∃ c1 c2 U V : pf, PP c1 ∧ PP c2 ∧ PP U ∧ PP V ∧ (∀ z, p z = c1 z * e z) ∧ (∀ z, q z = c2 z * e z) ∧ ∀ z, e z = U z * p z + V z * q z) ∧ (∀ z, s z = k z * G z) ∧ (∀ z, q z = q1 z * G z) ∧ (∃ U V : pf, PP U ∧ PP V ∧ ∀ z, G z = U z * s z + V z * q z) ∧ bez k G
/-- a span with one root of s -/
def spn (S : Nat → pf) (ms : Nat) (C : Nat → pf) (mg : Nat) (s g : pf) (lo hi : Rat) : Prop := stc S ms ∧ S 0 = s ∧ stc C mg ∧ C 0 = g ∧ iB lo ∧ iB hi ∧ lo ≤ hi ∧ cnt S ms lo = cnt S ms hi + 1
section COM
variable {p q s g e G k q1 : pf} {S : Nat → pf} {ms : Nat} {C : Nat → pf} {mg : Nat}
theorem com.sg (h : com p q s g e G k q1) {a b : Rat} {u : Int} (ha : iB a) (hb : iB b) (hab : a < b) (hu : fxs u s a b) : ∃ w, fxs w g a b := by
  obtain ⟨h1, h2, h3, h4, h5, h6, ⟨c1, c2, U, V, i1, i2, i3, i4, e1, e2, e3⟩, h8, h9, h10, h11⟩ := h
  obtain ⟨w, k1⟩ := h1.fxs ha hb hab hu
  obtain ⟨w2, k2⟩ := k1.factor i1 h2.2.1 ha hb (Rat.le_of_lt hab) e1
  exact h2.back ha hb (Rat.le_of_lt hab) k2
theorem com.qg (h : com p q s g e G k q1) {a b : Rat} {u : Int} (ha : iB a) (hb : iB b) (hab : a < b) (hu : fxs u q a b) : ∃ w, fxs w g a b := by
  obtain ⟨h1, h2, h3, h4, h5, h6, ⟨c1, c2, U, V, i1, i2, i3, i4, e1, e2, e3⟩, h8, h9, h10, h11⟩ := h
  obtain ⟨w2, k2⟩ := hu.factor i2 h2.2.1 ha hb (Rat.le_of_lt hab) e2
  exact h2.back ha hb (Rat.le_of_lt hab) k2
theorem com.Gg (h : com p q s g e G k q1) {a b : Rat} {u : Int} (ha : iB a) (hb : iB b) (hab : a < b) (hu : fxs u G a b) : ∃ w, fxs w g a b := by
  have h' := h
  obtain ⟨h1, h2, h3, h4, h5, h6, ⟨c1, c2, U, V, i1, i2, i3, i4, e1, e2, e3⟩, h8, h9, ⟨U2, V2, j1, j2, j3⟩, h11⟩ := h
  refine fxs.mesh ha hb hab ((mix h1.1 h3 j1 j2 j3 ha hb hu).mp fun v w hv hw hvw hh a1 a2 a3 => ?_)
  rcases hh a1 a2 with ⟨x, q⟩ | ⟨x, q⟩
  · exact h'.sg hv hw a3 q
  · exact h'.qg hv hw a3 q
theorem com.gG (h : com p q s g e G k q1) {a b : Rat} {u : Int} (ha : iB a) (hb : iB b) (hab : a < b) (hu : fxs u g a b) : ∃ w, fxs w G a b := by
  obtain ⟨h1, h2, h3, h4, h5, h6, ⟨c1, c2, U, V, i1, i2, i3, i4, e1, e2, e3⟩, h8, h9, ⟨U2, V2, j1, j2, j3⟩, h11⟩ := h
  obtain ⟨w, k1⟩ := h2.fxs ha hb hab hu
  obtain ⟨r, t, p', r1, t1, p1, x1, x2, x3⟩ := h1.2.2.2
  refine k1.factor (r := fun z => U z * (r z * k z) + V z * q1 z) ((i3.mul (r1.mul h5)).add (i4.mul h6)) h4 ha hb (Rat.le_of_lt hab) fun z => ?_
  rw [e3, x1, h8, h9]; grind
variable {lo hi : Rat}
theorem com.nz (h : com p q s g e G k q1) : ¬ ∀ x, s x = 0 := fun w => by
  obtain ⟨r, t, p', r1, t1, p1, x1, x2, x3⟩ := h.1.2.2.2
  exact h.1.2.2.1 fun z => by rw [x1, w z]; grind
theorem com.gnz (h : com p q s g e G k q1) : ¬ ∀ x, g x = 0 := fun w => by
  obtain ⟨r, t, p', r1, t1, p1, x1, x2, x3⟩ := h.2.1.2.2.2
  exact h.2.1.2.2.1 fun z => by rw [x1, w z]; grind

theorem com.loose (h : com p q s g e G k q1) (hp : spn S ms C mg s g lo hi) (hg : cnt C mg lo ≠ cnt C mg hi) {a b : Rat} (ha : lo ≤ a) (hab : a < b) (hb : b ≤ hi) (hv : cnt S ms a ≠ cnt S ms b) : ¬ ∃ u, fxs u G a b := by
  rintro ⟨u, hu⟩
  obtain ⟨hS, e0, hC, e1, hlo, hhi, hlh, h1⟩ := hp
  have ia := iB.of hlo hhi ha (by grind)
  have ib := iB.of hlo hhi (by grind) hb
  obtain ⟨w, k1⟩ := h.Gg ia ib hab hu
  rw [← e1] at k1
  have f2 := kept_all hC.1 ia ib (Rat.le_of_lt hab) k1
  have m1 : cnt S ms a ≤ cnt S ms lo := hS.mono hlo ia ha
  have m2 : cnt S ms b ≤ cnt S ms a := hS.mono ia ib (Rat.le_of_lt hab)
  have m3 : cnt S ms hi ≤ cnt S ms b := hS.mono ib hhi hb
  have hn := h.nz
  rw [← e0] at hn
  have hk : ∀ a b u, iB a → iB b → a < b → fxs u (S 0) a b → ∃ w, fxs w (C 0) a b := fun a b u i1 i2 i3 i4 => by
    rw [e0] at i4; rw [e1]; exact h.sg i1 i2 i3 i4
  have f1 := cnt_still hS hn hC hk hlo ia ha (by omega)
  have f3 := cnt_still hS hn hC hk ib hhi hb (by omega)
  exact hg (f1.trans (Eq.trans f2 f3))
/-- the point where the root is -/
theorem com.at0 (h : com p q s g e G k q1) (hp : spn S ms C mg s g lo hi) (hg : cnt C mg lo ≠ cnt C mg hi) {a b : Rat} (ha : lo ≤ a) (hab : a < b) (hb : b ≤ hi) (h0 : s b = 0) : G b = 0 := by
  have hp0 := hp
  obtain ⟨hS, e0, hC, e1, hlo, hhi, hlh, h1⟩ := hp
  have ia := iB.of hlo hhi ha (by grind)
  have ib := iB.of hlo hhi (by grind) hb
  refine Classical.byContradiction fun q => ?_
  obtain ⟨η, n0, hη⟩ := near h.2.2.2.1 ib q
  obtain ⟨c, c1, c2, c3⟩ : ∃ c, a ≤ c ∧ c < b ∧ b - η ≤ c := by
    rcases Classical.em (b - η ≤ a) with q | q
    · exact ⟨a, Rat.le_refl, hab, q⟩
    · exact ⟨b - η, by grind, by grind, Rat.le_refl⟩
  have ic : iB c := iB.of ia ib c1 (by grind)
  have hn := h.nz
  rw [← e0] at hn h0
  refine h.loose hp0 hg (a := c) (b := b) (by grind) c2 hb (fun w => ?_) ⟨_, hη c b ic ib c3 (by grind) (by grind)⟩
  exact hS.behind hn ic ib w c2 Rat.le_refl h0
/-- the other part keeps its sign -/
theorem com.other (h : com p q s g e G k q1) (hp : spn S ms C mg s g lo hi) (hg : cnt C mg lo ≠ cnt C mg hi) {a b : Rat} (ha : lo ≤ a) (hab : a < b) (hb : b ≤ hi) (h0 : s a ≠ 0) : ∃ u, fxs u k a b := by
  have hp0 := hp
  obtain ⟨hS, e0, hC, e1, hlo, hhi, hlh, h1⟩ := hp
  have ia := iB.of hlo hhi ha (by grind)
  have ib := iB.of hlo hhi (by grind) hb
  obtain ⟨x1, x2, x3, x4, x5, x6, -, x8, x9, -, x11⟩ := id h
  obtain ⟨δ, d0, hf⟩ := x11.comm.keep x4 x5 (e := 1) (by decide)
  refine fxs.mesh ia ib hab (hf.mp fun v w hv hw hvw hh a1 a2 a3 => ?_)
  have back : ∀ u, fxs u s v w → ∃ g, fxs g k v w := fun u i => i.factor x4 x5 hv hw (Rat.le_of_lt a3) fun z => by rw [x8]; grind
  rcases hh with q | ⟨q, -⟩
  · obtain ⟨x, q⟩ := q
    have hvw2 : cnt S ms v = cnt S ms w := Classical.byContradiction fun r => h.loose hp0 hg (by grind) a3 (by grind) r ⟨_, q⟩
    rcases Classical.em (s v = 0) with z0 | z0
    · exfalso
      rcases Classical.em (a < v) with z1 | z1
      · have := h.at0 hp0 hg ha z1 (by grind) z0
        exact q.ne Rat.le_refl (Rat.le_of_lt a3) this
      · have : v = a := by grind
        rw [this] at z0; exact h0 z0
    · have hk := hS.keep hv hw hvw hvw2 (by rw [e0]; exact z0)
      rw [e0] at hk
      exact back _ hk
  · exact q
end COM
