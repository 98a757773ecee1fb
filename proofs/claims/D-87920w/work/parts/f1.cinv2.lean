/-! the component's invariant -/
-- needs: f0.cinv
set_option maxRecDepth 100000
set_option linter.unusedVariables false
/-- how many cells a thing made late has: 0..15 the places' polynomials, 16..31 their roots, 32..46 the minimal ones -/
def lsz (i : Nat) : Nat := if 16 ≤ i ∧ i < 32 then 4 else 2
def clz (S : Stat) (C : Nat) (lz : Nat → Option Nat) (own : Nat → Nat) : Prop := C + 28386 ≤ S.2.2 ∧ ∀ i a, lz i = some a → i < 47 ∧ C + 28386 ≤ a ∧ a + lsz i ≤ S.2.2 ∧ (∀ x, a ≤ x → x < a + lsz i → own x = i) ∧ (16 ≤ i ∧ i < 32 → reS S a) ∧ (i < 16 ∨ 32 ≤ i → pS S a)
/-- what stands at a place -/
def thA (C : Nat) (lz : Nat → Option Nat) (p : Nat) : Th → Option Nat
  | none => none
  | some (.inl _) => lz p
  | some (.inr (.inl o)) => some (C + ordA o.1 o.2)
  | some (.inr (.inr (.inl _))) => lz (16 + p)
  | some (.inr (.inr (.inr k))) => some (C + 727 + k)
def cmv (S : Stat) (C : Nat) (lz : Nat → Option Nat) (mn w : Nat) (s : Cst) : Prop := w ≤ 1 ∧ S.2.1 C 23 = some (C + 709 + w) ∧ S.2.1 C 24 = some (C + 710 - w) ∧ S.2.1 C 26 = some (C + 711 + 2 * w) ∧ S.2.1 C 27 = some (C + 713 - 2 * w) ∧
  (∀ p : Nat, p < 16 → S.2.1 (C + 735 + p) 0 = thA C lz p (sTh s p) ∧ S.2.1 (C + 735 + p) 1 = lz p ∧ S.2.1 (C + 735 + p) 2 = lz (16 + p)) ∧ (mn ≤ 15 ∧ ∀ k : Nat, k < 15 → S.2.1 (C + 715) k = lz (32 + k) ∧ (k < mn ↔ lz (32 + k) ≠ none)) ∧
  ∀ c g d m st σ, sSp s = some ((c, g, d), m, st, σ) → S.2.1 (C + 65) 18 = some (C + ordA c g)
def cTh (D : Dat) (lz : Nat → Option Nat) (p : Nat) : Th → Prop
  | some (.inl φ) => ∃ a, lz p = some a ∧ pP D a φ
  | some (.inr (.inr (.inl r))) => ∃ a, lz (16 + p) = some a ∧ reD D a r.1.1 r.1.2 r.2.1 r.2.2.2 r.2.2.1
  | _ => True
def cThs (D : Dat) (lz : Nat → Option Nat) (t : Nat → Th) : Prop := (∀ p : Nat, p < 16 → cTh D lz p (t p)) ∧ ∀ i a, lz i = some a → (i < 16 ∨ 32 ≤ i) → ∃ φ, pP D a φ
def cFx (D : Dat) (C : Nat) : Prop := (∀ k : Nat, 1 ≤ k → k < 8 → D (C + 727 + k) 6 = -(k : Int)) ∧ tD D (C + 3) ∧ D (C + 703) 1 = 1 ∧ D (C + 704) 1 = 2
def cFn (D : Dat) (C : Nat) (f : Nat × (Nat → Nat)) : Prop := D C 2 = -(f.1 : Int) ∧ ∀ k : Nat, k < 8 → D (C + 2) k = f.2 k
def cRw (D : Dat) (C : Nat) (r : Nat × (Nat → Nat → Rat)) : Prop := D C 20 = r.1 ∧ ∀ k : Nat, k < r.1 → pP D (C + 751 + 6 * k) (r.2 k)
def cId (D : Dat) (C : Nat) (r : Nat × (Nat → Nat → Int)) : Prop := D C 22 = r.1 ∧ ∀ k : Nat, k < r.1 → ∀ t : Nat, t < 455 → D (C + 708) (455 * (k : Int) + t) = r.2 k t
def cQt (D : Dat) (C w : Nat) (r : Nat × (Nat → Nat → Rat)) : Prop := D C 25 = r.1 ∧ ∀ k : Nat, k < r.1 → pP D (C + 753 + 2 * w + 6 * k) (r.2 k)
def cRs (D : Dat) (C w : Nat) (r : Option (Nat → Rat)) : Prop := D C 28 = (if r = none then 0 else 1) ∧ ∀ ρ, r = some ρ → pP D (C + 711 + 2 * w) ρ
def cSp (D : Dat) (C : Nat) (x : Option Spn) : Prop := (∃ cl, sqC D (C + 65) cl) ∧ (x = none → D (C + 65) 16 = -7) ∧ ∀ c g d m st σ, x = some ((c, g, d), m, st, σ) → D (C + 65) 16 = (d : Int) ∧ D (C + 65) 17 = (m.1 : Int) ∧ ∃ tc, sqE D (C + 65) c g tc st σ
def cRo (D : Dat) (C : Nat) (x : Option (Rq × List (Nat × Int))) : Prop := (x = none → D C 33 = -7) ∧ ∀ q L, x = some (q, L) → rtL D C q.1 q.2 L
def cTx (D : Dat) (C : Nat) (x : Nat × (Nat → Int)) : Prop := D C 36 = x.1 ∧ ∀ i : Nat, i < x.1 → D (C + 723) i = x.2 i
/-- places to work in that hold polynomials -/
def cSc (D : Dat) (C : Nat) : Prop := (∃ φ, pP D (C + 705) φ) ∧ (∃ φ, pP D (C + 34) φ) ∧ (∃ φ, pP D (C + 711) φ) ∧ (∃ φ, pP D (C + 713) φ) ∧ (∀ k : Nat, k < 6 → ∃ φ, pP D (C + 753 + 6 * k) φ) ∧ ∀ k : Nat, k < 6 → ∃ φ, pP D (C + 755 + 6 * k) φ
def coJ (S : Stat) (D : Dat) (C : Nat) (s : Cst) (lz : Nat → Option Nat) (own : Nat → Nat) (mn w : Nat) : Prop := cfx S C ∧ clz S C lz own ∧ cmv S C lz mn w s ∧ cThs D lz (sTh s) ∧ cFx D C ∧ cFn D C (sFn s) ∧ cRw D C (sRw s) ∧ cId D C (sId s) ∧ cQt D C w (sQt s) ∧ cRs D C w (sRs s) ∧ cSp D C (sSp s) ∧ cRo D C (sRo s) ∧ cTx D C (sTx s) ∧ cSc D C
def coI (S : Stat) (D : Dat) (C : Nat) (s : Cst) (mn : Nat) : Prop := ∃ lz own w, coJ S D C s lz own mn w
section CJ
variable {S : Stat} {D : Dat} {C mn w : Nat} {s : Cst} {lz : Nat → Option Nat} {own : Nat → Nat}
theorem coJ.fx (h : coJ S D C s lz own mn w) : cfx S C := h.1
theorem coJ.lzz (h : coJ S D C s lz own mn w) : clz S C lz own := h.2.1
theorem coJ.mv (h : coJ S D C s lz own mn w) : cmv S C lz mn w s := h.2.2.1
theorem coJ.th (h : coJ S D C s lz own mn w) : cThs D lz (sTh s) := h.2.2.2.1
theorem coJ.cx (h : coJ S D C s lz own mn w) : cFx D C := h.2.2.2.2.1
theorem coJ.fn (h : coJ S D C s lz own mn w) : cFn D C (sFn s) := h.2.2.2.2.2.1
theorem coJ.rw (h : coJ S D C s lz own mn w) : cRw D C (sRw s) := h.2.2.2.2.2.2.1
theorem coJ.id (h : coJ S D C s lz own mn w) : cId D C (sId s) := h.2.2.2.2.2.2.2.1
theorem coJ.qt (h : coJ S D C s lz own mn w) : cQt D C w (sQt s) := h.2.2.2.2.2.2.2.2.1
theorem coJ.rs (h : coJ S D C s lz own mn w) : cRs D C w (sRs s) := h.2.2.2.2.2.2.2.2.2.1
theorem coJ.sp (h : coJ S D C s lz own mn w) : cSp D C (sSp s) := h.2.2.2.2.2.2.2.2.2.2.1
theorem coJ.ro (h : coJ S D C s lz own mn w) : cRo D C (sRo s) := h.2.2.2.2.2.2.2.2.2.2.2.1
theorem coJ.tx (h : coJ S D C s lz own mn w) : cTx D C (sTx s) := h.2.2.2.2.2.2.2.2.2.2.2.2.1
theorem coJ.sc (h : coJ S D C s lz own mn w) : cSc D C := h.2.2.2.2.2.2.2.2.2.2.2.2.2
/-- cells that speak of the court -/
def qTh (C c : Nat) (i : Int) : Prop := C + 28386 ≤ c
def qFx (C c : Nat) (i : Int) : Prop := (C + 3 ≤ c ∧ c ≤ C + 21) ∨ c = C + 703 ∨ c = C + 704 ∨ (C + 728 ≤ c ∧ c ≤ C + 734)
def qFn (C c : Nat) (i : Int) : Prop := (c = C ∧ i = 2) ∨ c = C + 2
def qRw (C c : Nat) (i : Int) : Prop := (c = C ∧ i = 20) ∨ ∃ k : Nat, k < 6 ∧ (c = C + 751 + 6 * k ∨ c = C + 751 + 6 * k + 1)
def qId (C c : Nat) (i : Int) : Prop := (c = C ∧ i = 22) ∨ c = C + 708
def qQt (C w c : Nat) (i : Int) : Prop := (c = C ∧ i = 25) ∨ ∃ k : Nat, k < 6 ∧ (c = C + 753 + 2 * w + 6 * k ∨ c = C + 753 + 2 * w + 6 * k + 1)
def qRs (C w c : Nat) (i : Int) : Prop := (c = C ∧ i = 28) ∨ c = C + 711 + 2 * w ∨ c = C + 712 + 2 * w
def qSp (C c : Nat) (i : Int) : Prop := (c = C + 65 ∧ (i = 15 ∨ i = 16 ∨ i = 17)) ∨ (C + 66 ≤ c ∧ c ≤ C + 68) ∨ (C + 76 ≤ c ∧ c ≤ C + 81)
def qRo (C c : Nat) (i : Int) : Prop := (c = C ∧ i = 33) ∨ (C + 787 ≤ c ∧ c ≤ C + 818)
def qTx (C c : Nat) (i : Int) : Prop := (c = C ∧ i = 36) ∨ c = C + 723
def qSc (C c : Nat) (i : Int) : Prop := c = C + 34 ∨ c = C + 35 ∨ c = C + 705 ∨ c = C + 706 ∨ (C + 711 ≤ c ∧ c ≤ C + 714) ∨ ∃ k : Nat, k < 6 ∧ C + 753 + 6 * k ≤ c ∧ c ≤ C + 756 + 6 * k
theorem pP.cgr {D' : Dat} {p : Nat} {φ : Nat → Rat} (h : pP D p φ) (e : ∀ c i, c = p ∨ c = p + 1 → D' c i = D c i) : pP D' p φ := h.congr (fun i => e p i (.inl rfl)) fun i => e (p + 1) i (.inr rfl)
theorem cTh.cgr {D' : Dat} {p : Nat} {t : Th} (h : cTh D lz p t) (e : ∀ c i a, (lz p = some a → c = a ∨ c = a + 1 → D' c i = D c i) ∧ (lz (16 + p) = some a → a ≤ c → c ≤ a + 3 → D' c i = D c i)) : cTh D' lz p t := by
  rcases t with _ | (φ | (o | (r | k)))
  · trivial
  · obtain ⟨a, h1, h2⟩ := h
    exact ⟨a, h1, h2.cgr fun c i hc => (e c i a).1 h1 hc⟩
  · trivial
  · obtain ⟨a, h1, h2⟩ := h
    exact ⟨a, h1, h2.congr fun c i hc hc2 => (e c i a).2 h1 hc hc2⟩
  · trivial
theorem cThs.cgr {D' : Dat} {t : Nat → Th} (hl : clz S C lz own) (h : cThs D lz t) (e : ∀ c i, qTh C c i → D' c i = D c i) : cThs D' lz t := by
  refine ⟨fun p hp => (h.1 p hp).cgr fun c i a => ⟨fun h1 h2 => e c i ?_, fun h1 h2 h3 => e c i ?_⟩, fun i a h1 h2 => ?_⟩
  · have := (hl.2 p a h1).2.1; unfold qTh; omega
  · have := (hl.2 _ a h1).2.1; unfold qTh; omega
  · obtain ⟨φ, h3⟩ := h.2 i a h1 h2
    have := (hl.2 i a h1).2.1
    exact ⟨φ, h3.cgr fun c j hc => e c j (by unfold qTh; omega)⟩
theorem cFx.cgr {D' : Dat} (h : cFx D C) (e : ∀ c i, qFx C c i → D' c i = D c i) : cFx D' C := ⟨fun k h1 h2 => by rw [e _ _ (by unfold qFx; omega)]; exact h.1 k h1 h2, h.2.1.congr fun c i h1 h2 => e c i (by unfold qFx; omega), by rw [e _ _ (by unfold qFx; omega)]; exact h.2.2.1, by rw [e _ _ (by unfold qFx; omega)]; exact h.2.2.2⟩
theorem cFn.cgr {D' : Dat} {f : Nat × (Nat → Nat)} (h : cFn D C f) (e : ∀ c i, qFn C c i → D' c i = D c i) : cFn D' C f := ⟨by rw [e _ _ (by unfold qFn; omega)]; exact h.1, fun k hk => by rw [e _ _ (by unfold qFn; omega)]; exact h.2 k hk⟩
theorem cRw.cgr {D' : Dat} {r : Nat × (Nat → Nat → Rat)} (hr : r.1 ≤ 6) (h : cRw D C r) (e : ∀ c i, qRw C c i → D' c i = D c i) : cRw D' C r := ⟨by rw [e _ _ (.inl ⟨rfl, rfl⟩)]; exact h.1, fun k hk => (h.2 k hk).cgr fun c i hc => e c i (.inr ⟨k, by omega, hc⟩)⟩
theorem cId.cgr {D' : Dat} {r : Nat × (Nat → Nat → Int)} (h : cId D C r) (e : ∀ c i, qId C c i → D' c i = D c i) : cId D' C r := ⟨by rw [e _ _ (by unfold qId; omega)]; exact h.1, fun k hk t ht => by rw [e _ _ (by unfold qId; omega)]; exact h.2 k hk t ht⟩
theorem cQt.cgr {D' : Dat} {r : Nat × (Nat → Nat → Rat)} (hr : r.1 ≤ 6) (h : cQt D C w r) (e : ∀ c i, qQt C w c i → D' c i = D c i) : cQt D' C w r := ⟨by rw [e _ _ (.inl ⟨rfl, rfl⟩)]; exact h.1, fun k hk => (h.2 k hk).cgr fun c i hc => e c i (.inr ⟨k, by omega, hc⟩)⟩
theorem cRs.cgr {D' : Dat} {r : Option (Nat → Rat)} (h : cRs D C w r) (e : ∀ c i, qRs C w c i → D' c i = D c i) : cRs D' C w r := ⟨by rw [e _ _ (by unfold qRs; omega)]; exact h.1, fun ρ hρ => (h.2 ρ hρ).cgr fun c i hc => e c i (by unfold qRs; omega)⟩
theorem cSp.cgr {D' : Dat} {x : Option Spn} (h : cSp D C x) (e : ∀ c i, qSp C c i → D' c i = D c i) : cSp D' C x := by
  obtain ⟨⟨cl, h1⟩, h2, h3⟩ := h
  refine ⟨⟨cl, h1.congr fun i => e _ i (by unfold qSp; omega)⟩, fun hx => by rw [e _ _ (by unfold qSp; omega)]; exact h2 hx, fun c g d m st σ hx => ?_⟩
  obtain ⟨a1, a2, tc, a3⟩ := h3 c g d m st σ hx
  exact ⟨by rw [e _ _ (by unfold qSp; omega)]; exact a1, by rw [e _ _ (by unfold qSp; omega)]; exact a2, tc, a3.cgr fun a i hc => e a i (by unfold qSp; omega)⟩
theorem cRo.cgr {D' : Dat} {x : Option (Rq × List (Nat × Int))} (h : cRo D C x) (e : ∀ c i, qRo C c i → D' c i = D c i) : cRo D' C x := ⟨fun hx => by rw [e _ _ (by unfold qRo; omega)]; exact h.1 hx, fun q L hx => (h.2 q L hx).congr fun c i hc => e c i (by unfold qRo; omega)⟩
theorem cTx.cgr {D' : Dat} {x : Nat × (Nat → Int)} (h : cTx D C x) (e : ∀ c i, qTx C c i → D' c i = D c i) : cTx D' C x := ⟨by rw [e _ _ (by unfold qTx; omega)]; exact h.1, fun k hk => by rw [e _ _ (by unfold qTx; omega)]; exact h.2 k hk⟩
theorem cSc.cgr {D' : Dat} (h : cSc D C) (e : ∀ c i, qSc C c i → D' c i = D c i) : cSc D' C := by
  obtain ⟨⟨φ, h1⟩, ⟨φ2, h2⟩, ⟨φ3, h3⟩, ⟨φ4, h4⟩, h5, h6⟩ := h
  refine ⟨⟨φ, h1.cgr fun c i hc => e c i (by unfold qSc; omega)⟩, ⟨φ2, h2.cgr fun c i hc => e c i (by unfold qSc; omega)⟩, ⟨φ3, h3.cgr fun c i hc => e c i (by unfold qSc; omega)⟩, ⟨φ4, h4.cgr fun c i hc => e c i (by unfold qSc; omega)⟩, fun k hk => ?_, fun k hk => ?_⟩
  · obtain ⟨χ, h7⟩ := h5 k hk
    exact ⟨χ, h7.cgr fun c i hc => e c i (.inr (.inr (.inr (.inr (.inr ⟨k, hk, by omega, by omega⟩)))))⟩
  · obtain ⟨χ, h7⟩ := h6 k hk
    exact ⟨χ, h7.cgr fun c i hc => e c i (.inr (.inr (.inr (.inr (.inr ⟨k, hk, by omega, by omega⟩)))))⟩
/-- the cells that speak of the court, but for the places to work in -/
def qK (C w c : Nat) (i : Int) : Prop := qTh C c i ∨ qFx C c i ∨ qFn C c i ∨ qRw C c i ∨ qId C c i ∨ qQt C w c i ∨ qRs C w c i ∨ qSp C c i ∨ qRo C c i ∨ qTx C c i
/-- where none of them is -/
theorem qK.bd {c : Nat} {i : Int} (hw : w ≤ 1) (h : qK C w c i) : (c = C ∧ (i = 2 ∨ i = 20 ∨ i = 22 ∨ i = 25 ∨ i = 28 ∨ i = 33 ∨ i = 36)) ∨ (C + 2 ≤ c ∧ c ≤ C + 21) ∨ (c = C + 65 ∧ (i = 15 ∨ i = 16 ∨ i = 17)) ∨ (C + 66 ≤ c ∧ c ≤ C + 68) ∨ (C + 76 ≤ c ∧ c ≤ C + 81) ∨ c = C + 703 ∨ c = C + 704 ∨ c = C + 708 ∨ c = C + 711 + 2 * w ∨ c = C + 712 + 2 * w ∨ c = C + 723 ∨ (C + 728 ≤ c ∧ c ≤ C + 734) ∨ (C + 751 ≤ c ∧ c ≤ C + 818) ∨ C + 28386 ≤ c := by
  rcases h with h | h | h | h | h | h | h | h | h | h
  · unfold qTh at h; omega
  · unfold qFx at h; omega
  · unfold qFn at h; omega
  · rcases h with h | ⟨k, h1, h2⟩ <;> omega
  · unfold qId at h; omega
  · rcases h with h | ⟨k, h1, h2⟩ <;> omega
  · unfold qRs at h; omega
  · unfold qSp at h; omega
  · unfold qRo at h; omega
  · unfold qTx at h; omega
end CJ
