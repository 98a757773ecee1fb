/-! the sign at a root: both ways say the same -/
-- pure
-- needs: 79l.srch
set_option maxRecDepth 100000
set_option linter.unusedVariables false
/-- division -/
theorem pdiv {G : pf} {e : Nat} (hG : EX G e) : ∀ (n : Nat) (s : pf), PF n s → ∃ q r : pf, PP q ∧ PF e r ∧ ∀ x, s x = q x * G x + r x := by
  intro n
  induction n with
  | zero => intro s hs; exact ⟨fun _ => 0, s, PP.const 0, hs.mono (Nat.zero_le _), fun x => by grind⟩
  | succ n ih =>
    intro s hs
    rcases Nat.lt_or_ge n e with w | w
    · exact ⟨fun _ => 0, s, PP.const 0, hs.mono w, fun x => by grind⟩
    · obtain ⟨c, hc⟩ := hs
      obtain ⟨b, hb, b0⟩ := hG
      obtain ⟨i1, i2⟩ := nz_inv b0
      have hr : PF n (fun x => s x - c n * (b e)⁻¹ * (x ^ (n - e) * G x)) := by
        refine ⟨fun k => 1 * c k + (-(c n * (b e)⁻¹)) * psh (n - e) b k, fun x => ?_⟩
        have k1 := ps_shift b (n - e) (e + 1) x
        rw [show n - e + (e + 1) = n + 1 by omega] at k1
        have k2 := ps_lin c (psh (n - e) b) 1 (-(c n * (b e)⁻¹)) (n + 1) x
        have k3 : ps (fun k => 1 * c k + (-(c n * (b e)⁻¹)) * psh (n - e) b k) (n + 1) x = ps (fun k => 1 * c k + (-(c n * (b e)⁻¹)) * psh (n - e) b k) n x := by
          refine ps_ext 1 (fun k h1 h2 => ?_) x
          have : k = n := by omega
          subst this
          show 1 * c k + (-(c k * (b e)⁻¹)) * (if k < k - e then 0 else b (k - (k - e))) = 0
          rw [if_neg (by omega), show k - (k - e) = e by omega]
          have : c k * (b e)⁻¹ * b e = c k * ((b e)⁻¹ * b e) := by grind
          grind
        rw [← k3, k2, k1]
        show s x - c n * (b e)⁻¹ * (x ^ (n - e) * G x) = _
        rw [hc, hb]; grind
      obtain ⟨q, r, hq, hr2, e1⟩ := ih _ hr
      refine ⟨fun x => q x + c n * (b e)⁻¹ * x ^ (n - e), r, hq.add (PP.smul ⟨n - e + 1, ((PF.const 1).xpow (n - e)).congr fun x => by grind⟩ _), hr2, fun x => ?_⟩
      have := e1 x
      grind
/-- what two have in common -/
theorem pgcd : ∀ (n : Nat) (s q : pf), PF n q → PP s → (¬ ∀ x, s x = 0) → ∃ G U V a b : pf, PP G ∧ PP U ∧ PP V ∧ PP a ∧ PP b ∧ (∀ x, G x = U x * s x + V x * q x) ∧ (∀ x, s x = a x * G x) ∧ ∀ x, q x = b x * G x := by
  intro n
  induction n using Nat.strongRecOn with
  | ind n ih =>
    intro s q hq hs hn
    rcases hq.cases with w | ⟨d, hd, w⟩
    · exact ⟨s, fun _ => 1, fun _ => 0, fun _ => 1, fun _ => 0, hs, PP.const 1, PP.const 0, PP.const 1, PP.const 0, fun x => by grind, fun x => by grind, fun x => by rw [w]; grind⟩
    · obtain ⟨m, hs⟩ := hs
      obtain ⟨u, r, hu, hr, e1⟩ := pdiv w m s hs
      obtain ⟨G, U, V, a, b, h1, h2, h3, h4, h5, h6, h7, h8⟩ := ih d hd q r hr ⟨_, hq⟩ w.nz
      refine ⟨G, V, fun x => U x - V x * u x, fun x => u x * a x + b x, a, h1, h3, h2.sub (h3.mul hu), (hu.mul h4).add h5, h4, fun x => ?_, fun x => ?_, h7⟩
      · have := e1 x
        rw [h6]; grind
      · rw [e1]
        have a1 := h7 x
        have a2 := h8 x
        rw [a2]
        have : u x * q x = u x * (a x * G x) := by rw [← a1]
        rw [this]; grind
theorem com_of {p q s g e G k q1 s' : pf} (hs : shr s p) (hge : shr g e) (hq : PP q) (hG : PP G) (hk : PP k) (hq1 : PP q1) (he : ∃ c1 c2 U V : pf, PP c1 ∧ PP c2 ∧ PP U ∧ PP V ∧ (∀ z, p z = c1 z * e z) ∧ (∀ z, q z = c2 z * e z) ∧ ∀ z, e z = U z * p z + V z * q z) (e1 : ∀ z, s z = k z * G z) (e2 : ∀ z, q z = q1 z * G z) (e3 : ∃ U V : pf, PP U ∧ PP V ∧ ∀ z, G z = U z * s z + V z * q z) (hs' : PP s') (hD : DD s s') (hb : ∃ U V : pf, PP U ∧ PP V ∧ ∀ z, U z * s z + V z * s' z = 1) : com p q s g e G k q1 := by
  refine ⟨hs, hge, hq, hG, hk, hq1, he, e1, e2, e3, ?_⟩
  obtain ⟨k', pk', Dk⟩ := hk.slope
  obtain ⟨G', pG', DG⟩ := hG.slope
  obtain ⟨U, V, hU, hV, h1⟩ := hb
  have h2 := Dk.prod DG hk hG pk' pG'
  rw [show (fun x => k x * G x) = s from funext fun x => (e1 x).symm] at h2
  have h3 := hD.same h2 hs' ((pk'.mul hG).add (hk.mul pG'))
  refine ⟨fun z => U z * G z + V z * G' z, fun z => V z * k' z, (hU.mul hG).add (hV.mul pG'), hV.mul pk', fun z => ?_⟩
  have a1 := h1 z
  rw [e1, h3] at a1
  grind
theorem fch.divs {F : Nat → pf} {n : Nat → Nat} {m : Nat} (h : fch F n m) {G a b : pf} (ha : PP a) (hb : PP b) (e0 : ∀ z, F 0 z = a z * G z) (e1 : ∀ z, F 1 z = b z * G z) : ∀ i, i < m → ∃ K : pf, PP K ∧ ∀ z, F i z = K z * G z := by
  have key : ∀ i, i + 1 < m → (∃ K : pf, PP K ∧ ∀ z, F i z = K z * G z) ∧ ∃ K : pf, PP K ∧ ∀ z, F (i + 1) z = K z * G z := by
    intro i
    induction i with
    | zero => intro _; exact ⟨⟨a, ha, e0⟩, b, hb, e1⟩
    | succ i ih =>
      intro hi
      obtain ⟨⟨K, hK, k1⟩, K', hK', k2⟩ := ih (by omega)
      refine ⟨⟨K', hK', k2⟩, ?_⟩
      obtain ⟨-, c, c0, q, hq, hx⟩ := h.2 (i + 1) (by omega) hi
      rw [Nat.add_sub_cancel] at hx
      refine ⟨fun z => q z * K' z - c * K z, (hq.mul hK').sub (hK.smul c), fun z => ?_⟩
      have a1 : c * F i z = q z * F (i + 1) z + - F (i + 1 + 1) z := hx z
      rw [k1, k2] at a1
      grind
  intro i hi
  rcases Nat.eq_zero_or_pos i with w | w
  · subst w; exact ⟨a, ha, e0⟩
  · have := (key (i - 1) (by omega)).2
    rwa [show i - 1 + 1 = i by omega] at this
/-- the component's way to a sign -/
def sgC (p q : pf) (lo hi : Rat) (σ : Int) : Prop := ∃ (C : Nat → pf) (mg : Nat) (e : pf), stc C mg ∧ shr (C 0) e ∧ (∃ c1 c2 U V : pf, PP c1 ∧ PP c2 ∧ PP U ∧ PP V ∧ (∀ z, p z = c1 z * e z) ∧ (∀ z, q z = c2 z * e z) ∧ ∀ z, e z = U z * p z + V z * q z) ∧ ((cnt C mg lo ≠ cnt C mg hi ∧ σ = 0) ∨ (cnt C mg lo = cnt C mg hi ∧ ∃ (Q : Nat → pf) (mq : Nat) (x y : Rat), stc Q mq ∧ shr (Q 0) q ∧ lo ≤ x ∧ x < y ∧ y ≤ hi ∧ vP p x = vP p y + 1 ∧ cnt Q mq x = cnt Q mq y ∧ σ = sgr (q y)))
/-- the model's way -/
def sgM (p q : pf) (lo hi : Rat) (σ : Int) : Prop := ∃ (s s' : pf) (S : Nat → pf) (ms : Nat), stc S ms ∧ S 0 = s ∧ shr s p ∧ PP s' ∧ DD s s' ∧ (∀ x, vP p x = cnt S ms x) ∧ ∃ a c : Rat, lo ≤ a ∧ a < c ∧ c ≤ hi ∧ vP p a = vP p c + 1 ∧ ((s c = 0 ∧ σ = sgr (q c)) ∨ (s a ≠ 0 ∧ s c ≠ 0 ∧ ∃ (F : Nat → pf) (n : Nat → Nat) (mt : Nat) (l : Rat) (μ : pf), 1 ≤ mt ∧ fch F n mt ∧ fend F mt ∧ F 0 = s ∧ 0 < l ∧ PP μ ∧ (2 ≤ mt → ∀ z, F 1 z = l * (s' z * q z) - μ z * s z) ∧ (mt = 1 → ∀ z, 0 = l * (s' z * q z) - μ z * s z) ∧ σ = cnt F mt a - cnt F mt c))
theorem sg_uniq {p q : pf} {lo hi : Rat} {σ τ : Int} (hq : PP q) (hlo : iB lo) (hhi : iB hi) (hlh : lo ≤ hi) (h1 : vP p lo = vP p hi + 1) (hC : sgC p q lo hi σ) (hM : sgM p q lo hi τ) : σ = τ := by
  obtain ⟨C, mg, e, c1, c2, c3, c4⟩ := hC
  obtain ⟨s, s', S, ms, m1, m2, m3, m4, m5, m6, a, c, m7, m8, m9, m10, m11⟩ := hM
  have hs1 : cnt S ms lo = cnt S ms hi + 1 := by rw [← m6, ← m6]; exact h1
  have hac : cnt S ms a = cnt S ms c + 1 := by rw [← m6, ← m6]; exact m10
  have ps : PP s := by rw [← m2]; exact m1.nz
  have hn : ¬ ∀ x, s x = 0 := fun w => m3.2.2.1 fun z => by
    obtain ⟨_, _, _, r, t, p', _, _, _, h7, _⟩ := m3
    rw [h7, w]; grind
  -- s and its slope have nothing in common
  have ms2 : 2 ≤ ms := by
    rcases Nat.lt_or_ge ms 2 with w | w
    · exfalso
      have := m1.1.1
      have : ms = 1 := by omega
      subst this
      have v1 : ∀ x, cnt S 1 x = 0 := fun x => by
        show (vst (fun i => S i x) 1).2 = 0
        rcases sgr_cases ((fun i => S i x) 0) with q | q | q
        · rw [vst_step (.inl rfl) q]; rfl
        · rw [vst_step (.inr rfl) q]; rfl
        · rw [vst_skip q]; rfl
      rw [v1, v1] at hs1
      omega
    · exact w
  have hbz : ∃ U V : pf, PP U ∧ PP V ∧ ∀ z, U z * s z + V z * s' z = 1 := by
    obtain ⟨U, V, hU, hV, hb⟩ := m1.1.bez (ms - 2) 0 (by omega)
    obtain ⟨κ, k0, hDk⟩ := m1.2
    have hd := hDk ms2
    rw [m2] at hd
    have he := m5.same hd m4 ((m1.pp (i := 1) (by omega)).smul κ)
    obtain ⟨i1, i2⟩ := pos_inv k0
    refine ⟨U, fun z => κ⁻¹ * V z, hU, hV.smul _, fun z => ?_⟩
    have a1 : U z * S 0 z + V z * S 1 z = 1 := hb z
    rw [m2] at a1
    rw [he]
    have : κ⁻¹ * V z * (κ * S 1 z) = κ⁻¹ * κ * (V z * S 1 z) := by grind
    rw [this, i2]; grind
  rcases m11 with ⟨n1, n2⟩ | ⟨n1, n2, F, n, mt, l, μ, f1, f2, f3, f4, f5, f6, f7, f8, f9⟩
  · -- the upper end is the root
    obtain ⟨nq, hq'⟩ := hq
    obtain ⟨G, U, V, k, q1, pG, pU, pV, pk, pq1, e1, e2, e3⟩ := pgcd nq s q hq' ps hn
    have hcom : com p q s (C 0) e G k q1 := com_of m3 c2 ⟨_, hq'⟩ pG pk pq1 c3 e2 e3 ⟨U, V, pU, pV, e1⟩ m4 m5 hbz
    have hsp : spn S ms C mg s (C 0) lo hi := ⟨m1, m2, c1, rfl, hlo, hhi, hlh, hs1⟩
    rcases c4 with ⟨d1, d2⟩ | ⟨d1, Q, mq, x, y, q2, q3, q4, q5, q6, q7, q8, q9⟩
    · rw [d2, n2, sign_zero1 hcom hsp d1 m7 m8 m9 n1, sgr_zero]
    · rw [q9, n2]
      exact (sign_at3 m1 m2 hn hlo hhi hs1 q2 rfl q3 q4 q5 q6 (by rw [← m6, ← m6]; exact q7) q8 m7 m8 m9 hac n1).symm
  · -- no end is the root: the chain of the slope times q
    obtain ⟨l1, l2⟩ := pos_inv f5
    obtain ⟨U, V, pU, pV, hUV⟩ := hbz
    have build : ∃ (G k q1 : pf) (K : Nat → pf), PP G ∧ PP k ∧ PP q1 ∧ (∀ z, s z = k z * G z) ∧ (∀ z, q z = q1 z * G z) ∧ (∃ U V : pf, PP U ∧ PP V ∧ ∀ z, G z = U z * s z + V z * q z) ∧ schain K mt ∧ K 0 = k ∧ (2 ≤ mt → ∃ (l : Rat) (μ : pf), 0 < l ∧ PP μ ∧ ∀ z, K 1 z * G z = l * (s' z * q z) - μ z * s z) ∧ ∀ i, i < mt → ∀ z, F i z = K i z * G z := by
      rcases Nat.lt_or_ge mt 2 with w | w
      · have hm : mt = 1 := by omega
        subst hm
        have h8 := f8 rfl
        refine ⟨s, fun _ => 1, fun z => U z * q z + V z * (l⁻¹ * μ z), fun _ _ => 1, ps, PP.const 1, (pU.mul hq).add (pV.mul (f6.smul _)), fun z => by grind, fun z => ?_, ⟨fun _ => 1, fun _ => 0, PP.const 1, PP.const 0, fun z => by grind⟩, ⟨Nat.le_refl _, fun _ _ => PP.const 1, fun i a b => by omega, 1, by decide, fun _ => rfl⟩, rfl, fun w => by omega, fun i hi z => ?_⟩
        · have a1 := hUV z
          have a2 := h8 z
          have a3 : s' z * q z = l⁻¹ * (μ z * s z) := by
            have : s' z * q z = l⁻¹ * l * (s' z * q z) := by rw [l2]; grind
            rw [this]
            have : l * (s' z * q z) = μ z * s z := by grind
            have h9 : l⁻¹ * l * (s' z * q z) = l⁻¹ * (l * (s' z * q z)) := by grind
            rw [h9, this]
          have a4 : q z = (U z * s z + V z * s' z) * q z := by rw [a1]; grind
          have a5 : (U z * s z + V z * s' z) * q z = U z * q z * s z + V z * (s' z * q z) := by grind
          rw [a5, a3] at a4
          rw [a4]
          grind
        · have : i = 0 := by omega
          subst this
          rw [f4]; grind
      · obtain ⟨⟨u, v, pu, pv, g1⟩, ⟨x0, px0, g2⟩, x1, px1, g3⟩ := f2.last f3 w
        have pG : PP (F (mt - 1)) := ⟨_, (f2.1 (mt - 1) (by omega)).pf⟩
        have nzG : ¬ ∀ x, F (mt - 1) x = 0 := (f2.1 (mt - 1) (by omega)).nz
        have h7 := f7 w
        rw [f4] at g1 g2
        have hdiv := f2.divs (G := F (mt - 1)) px0 px1 (fun z => by rw [f4]; exact g2 z) g3
        have hK : ∀ i, ∃ K : pf, i < mt → PP K ∧ ∀ z, F i z = K z * F (mt - 1) z := fun i => by
          by_cases q : i < mt
          · obtain ⟨K, k1, k2⟩ := hdiv i q
            exact ⟨K, fun _ => ⟨k1, k2⟩⟩
          · exact ⟨fun _ => 0, fun z => absurd z q⟩
        obtain ⟨K, hK⟩ := Classical.skolem.mp hK
        refine ⟨F (mt - 1), K 0, fun z => U z * q z * x0 z + V z * (l⁻¹ * (x1 z + μ z * x0 z)), K, pG, (hK 0 (by omega)).1, ((pU.mul hq).mul px0).add (pV.mul ((px1.add (f6.mul px0)).smul _)), fun z => ?_, fun z => ?_, ⟨fun z => u z - v z * μ z, fun z => v z * (l * s' z), pu.sub (pv.mul f6), pv.mul (m4.smul l), fun z => ?_⟩, ⟨f1, fun i hi => (hK i hi).1, fun i i1 i2 => ?_, 1, by decide, fun z => ?_⟩, rfl, fun _ => ⟨l, μ, f5, f6, fun z => ?_⟩, fun i hi z => (hK i hi).2 z⟩
        · have := (hK 0 (by omega)).2 z
          rw [f4] at this; exact this
        · have a1 := hUV z
          have a2 := h7 z
          have a3 := g2 z
          have a4 := g3 z
          have a6 : l * (s' z * q z) = (x1 z + μ z * x0 z) * F (mt - 1) z := by
            have : l * (s' z * q z) = F 1 z + μ z * s z := by grind
            rw [this, a4, a3]; grind
          have a7 : s' z * q z = l⁻¹ * ((x1 z + μ z * x0 z) * F (mt - 1) z) := by
            rw [← a6]
            have : l⁻¹ * (l * (s' z * q z)) = l⁻¹ * l * (s' z * q z) := by grind
            rw [this, l2]; grind
          have a8 : q z = (U z * s z + V z * s' z) * q z := by rw [a1]; grind
          have a9 : (U z * s z + V z * s' z) * q z = U z * q z * s z + V z * (s' z * q z) := by grind
          rw [a9, a7, a3] at a8
          generalize F (mt - 1) z = g at *
          generalize l⁻¹ = li at *
          exact a8.trans (by grind)
        · have a1 := g1 z
          have a2 := h7 z
          rw [a2] at a1
          rw [a1]; grind
        · obtain ⟨-, c, c0, qq, hqq, hx⟩ := f2.2 i i1 i2
          refine ⟨c, qq, c0, hqq, fun z => ?_⟩
          have k1 := (hK (i - 1) (by omega)).2
          have k2 := (hK i (by omega)).2
          have k3 := (hK (i + 1) (by omega)).2
          exact pG.cancel (((hK (i - 1) (by omega)).1).smul c) ((hqq.mul (hK i (by omega)).1).sub (hK (i + 1) (by omega)).1) nzG (fun z => by
            have a1 : c * F (i - 1) z = qq z * F i z + - F (i + 1) z := hx z
            rw [k1, k2, k3] at a1
            grind) z
        · exact pG.cancel (hK (mt - 1) (by omega)).1 (PP.const 1) nzG (fun z => by
            have := (hK (mt - 1) (by omega)).2 z
            grind) z
        · rw [← (hK 1 (by omega)).2 z]; exact h7 z
    obtain ⟨G, k, q1, K, pG, pk, pq1, e1, e2, e3, hK, ek, hT, hF⟩ := build
    have hcom : com p q s (C 0) e G k q1 := com_of m3 c2 hq pG pk pq1 c3 e1 e2 e3 m4 m5 ⟨U, V, pU, pV, hUV⟩
    have hsp : spn S ms C mg s (C 0) lo hi := ⟨m1, m2, c1, rfl, hlo, hhi, hlh, hs1⟩
    have ev : ∀ x, cnt (fun i z => K i z * G z) mt x = cnt F mt x := fun x => vch_congr fun i hi => by
      show sgr (K i x * G x) = sgr (F i x)
      rw [hF i hi]
    rcases c4 with ⟨d1, d2⟩ | ⟨d1, Q, mq, x, y, q2, q3, q4, q5, q6, q7, q8, q9⟩
    · have := sign_zero2 hcom hsp d1 hK ek m7 m8 m9 n1 n2
      rw [ev, ev] at this
      omega
    · have := sign_at4 hcom m1 m2 hlo hhi hs1 q2 rfl q3 m4 m5 hK ek hT q4 q5 q6 (by rw [← m6, ← m6]; exact q7) q8 m7 m8 m9 hac n1 n2
      rw [ev, ev] at this
      omega
