/-! the component's square holds the span's rows -/
set_option maxRecDepth 100000
set_option linter.unusedVariables false
/-- the columns: the terms of degree 4 at most, the greatest first -/
def isCols (c g : Nat) (tc : Nat → Nat) : Prop := (∀ i, i < 35 → tc i < 455 ∧ tdg (tc i) ≤ 4) ∧ (∀ i j, i < j → j < 35 → 0 < rankI c g (tc i) (tc j)) ∧ ∀ t, t < 455 → tdg t ≤ 4 → ∃ i, i < 35 ∧ tc i = t
theorem isCols.inj {c g : Nat} {tc : Nat → Nat} (ho : ordOK c g) (h : isCols c g tc) {i j : Nat} (hi : i < 35) (hj : j < 35) (e : tc i = tc j) : i = j := by
  rcases Nat.lt_trichotomy i j with w | w | w
  · have := h.2.1 i j w hj; rw [e, rank_self ho] at this; omega
  · exact w
  · have := h.2.1 j i w hi; rw [e, rank_self ho] at this; omega
/-- an index in the square to one in the rows -/
def sqx (tc : Nat → Nat) (c : Nat) : Nat := if c < 35 then tc c else 455 + (c - 35)
def sqRel (tc : Nat → Nat) (st : spst) (d : Int) (P : Nat → Nat) (cl : Nat → Nat → Int) : Prop := (d : Rat) = st.2.2.2.1 ∧ (∀ r, r < st.1 → tc (P r) = st.2.2.1 r) ∧ ∀ r, r < st.1 → ∀ c, c < 35 + st.1 → (cl r c : Rat) = st.2.2.2.1 * st.2.1 r (sqx tc c)
section REL
variable {c g : Nat} {tc : Nat → Nat} {st : spst} {d : Int} {P : Nat → Nat} {cl : Nat → Nat → Int} {v : Nat → Int}
theorem red_rat (hO : spOK st) (hc : isCols c g tc) (hR : sqRel tc st d P cl) (hP : ∀ r, r < 35 → P r < 35) {i : Nat} (hi : i < 35 + st.1) : ∀ k, k ≤ st.1 → (redI d (fun c => v (tc c)) P cl k i : Rat) = st.2.2.2.1 * xred st.2.1 st.2.2.1 (spV v st.1) k (sqx tc i) := by
  intro k
  have hk35 := hO.1
  induction k with
  | zero =>
    intro _
    simp only [redI, xred]
    rw [Rat.intCast_mul, hR.1]
    congr 1
    unfold sqx spV
    by_cases w : i < 35
    · rw [if_pos w, if_pos w, if_pos (hc.1 i w).1]
    · rw [if_neg w, if_neg w, if_neg (by omega), if_neg (by omega)]; rfl
  | succ k ih =>
    intro hk
    simp only [redI, xred]
    have e1 := hR.2.2 k (by omega) i hi
    have e2 := hR.2.1 k (by omega)
    have hPk := hP k (by omega)
    rw [Rat.intCast_sub, Rat.intCast_mul, ih (by omega), e1]
    have e3 : spV v st.1 (st.2.2.1 k) = (v (tc (P k)) : Rat) := by
      unfold spV
      rw [← e2, if_pos (hc.1 _ hPk).1]
    rw [e3]; grind
theorem tk_rat (hO : spOK st) (hc : isCols c g tc) (hR : sqRel tc st d P cl) (hP : ∀ r, r < 35 → P r < 35) {i : Nat} (hi : i < 35 + st.1 + 1) : (tkW d (fun c => v (tc c)) P cl st.1 i : Rat) = st.2.2.2.1 * spX st v (sqx tc i) := by
  unfold tkW
  by_cases w : i = 35 + st.1
  · rw [if_pos w, hR.1]
    have e : sqx tc i = 455 + st.1 := by unfold sqx; rw [if_neg (by omega)]; omega
    rw [e, spX_tail hO _ (Nat.le_refl _), if_pos rfl]; grind
  · rw [if_neg w]
    exact red_rat hO hc hR hP (by omega) st.1 (Nat.le_refl _)
theorem spd_ne (hO : spOK st) : st.2.2.2.1 ≠ 0 := by
  obtain ⟨M, g⟩ := hO.2.1; exact g.2.1
theorem tk_zero (hO : spOK st) (hc : isCols c g tc) (hR : sqRel tc st d P cl) (hP : ∀ r, r < 35 → P r < 35) {i : Nat} (hi : i < 35) : tkW d (fun c => v (tc c)) P cl st.1 i = 0 ↔ spX st v (tc i) = 0 := by
  have e := tk_rat (v := v) hO hc hR hP (i := i) (by omega)
  have ex : sqx tc i = tc i := by unfold sqx; rw [if_pos hi]
  rw [ex] at e
  constructor
  · intro h
    rw [h] at e
    have e0 : st.2.2.2.1 * spX st v (tc i) = 0 := e.symm
    rcases Rat.mul_eq_zero.mp e0 with q | q
    · exact absurd q (spd_ne hO)
    · exact q
  · intro h
    rw [h] at e
    have e0 : (tkW d (fun c => v (tc c)) P cl st.1 i : Rat) = ((0 : Int) : Rat) := by rw [e]; grind
    exact Rat.intCast_inj.mp e0
/-- the first column is the greatest term -/
theorem fcl_lead (ho : ordOK c g) (hO : spOK st) (hv : spW v) (hc : isCols c g tc) (hR : sqRel tc st d P cl) (hP : ∀ r, r < 35 → P r < 35) : (fcl (tkW d (fun c => v (tc c)) P cl st.1) = 35 ∧ leadI c g (spX st v) 455 = -7) ∨ (fcl (tkW d (fun c => v (tc c)) P cl st.1) < 35 ∧ isLead c g (spX st v) (tc (fcl (tkW d (fun c => v (tc c)) P cl st.1)))) := by
  have hl := fcol_law (tkW d (fun c => v (tc c)) P cl st.1) 35 0
  have e : fcl (tkW d (fun c => v (tc c)) P cl st.1) = fcol (tkW d (fun c => v (tc c)) P cl st.1) 35 0 := rfl
  rw [← e] at hl
  generalize fcl (tkW d (fun c => v (tc c)) P cl st.1) = L at *
  obtain ⟨h1, h2, h3, h4⟩ := hl
  rcases Nat.lt_or_ge L 35 with w | w
  · right
    refine ⟨w, (hc.1 L w).1, fun q => h4 (by omega) ((tk_zero hO hc hR hP w).mpr q), fun u hu hu0 hne => ?_⟩
    rcases Nat.lt_or_ge 4 (tdg u) with x | x
    · exact absurd (spX_zero hO hv u hu x) hu0
    · obtain ⟨i, hi, rfl⟩ := hc.2.2 u hu x
      rcases Nat.lt_trichotomy i L with y | y | y
      · exact absurd ((tk_zero hO hc hR hP hi).mp (h1 i (by omega) y)) hu0
      · rw [y] at hne; exact absurd rfl hne
      · exact hc.2.1 L i y hi
  · left
    refine ⟨by omega, leadI_none ho fun u hu => ?_⟩
    rcases Nat.lt_or_ge 4 (tdg u) with x | x
    · exact spX_zero hO hv u hu x
    · obtain ⟨i, hi, rfl⟩ := hc.2.2 u hu x
      exact (tk_zero hO hc hR hP hi).mp (h1 i (by omega) (by omega))
/-- a turned cell is a cell of the new rows -/
theorem trn_rat (hO : spOK st) (hc : isCols c g tc) (hR : sqRel tc st d P cl) (hP : ∀ r, r < 35 → P r < 35) {L r i : Nat} (hL : L < 35) (hr : r < st.1) (hi : i < 35 + st.1 + 1) (hL0 : spX st v (tc L) ≠ 0) {z : Int} (hz : (z : Rat) = (st.2.2.2.1 * spX st v (tc L)) * (st.2.1 r (sqx tc i) - st.2.1 r (tc L) * (spX st v (sqx tc i) / spX st v (tc L)))) : trnI d st.1 (tkW d (fun c => v (tc c)) P cl st.1) L cl r i = z := by
  have eW := tk_rat (v := v) hO hc hR hP hi
  have eL := tk_rat (v := v) hO hc hR hP (i := L) (by omega)
  have exL : sqx tc L = tc L := by unfold sqx; rw [if_pos hL]
  rw [exL] at eL
  have e1 : ((if i = 35 + st.1 then 0 else cl r i : Int) : Rat) = st.2.2.2.1 * st.2.1 r (sqx tc i) := by
    by_cases w : i = 35 + st.1
    · rw [if_pos w]
      have e : sqx tc i = 455 + st.1 := by unfold sqx; rw [if_neg (by omega)]; omega
      rw [e, (hO.2.2 r hr).1 _ (Nat.le_refl _)]
      show (0 : Rat) = _; grind
    · rw [if_neg w]; exact hR.2.2 r hr i (by omega)
  have e2 := hR.2.2 r hr L (by omega)
  rw [exL] at e2
  have hd0 : d ≠ 0 := fun w => spd_ne hO (by rw [← hR.1, w]; rfl)
  unfold trnI
  generalize hA : (if i = 35 + st.1 then 0 else cl r i : Int) = A at *
  generalize tkW d (fun c => v (tc c)) P cl st.1 L = WL at *
  generalize tkW d (fun c => v (tc c)) P cl st.1 i = Wi at *
  have key : A * WL - cl r L * Wi = d * z := by
    refine Rat.intCast_inj.mp ?_
    rw [Rat.intCast_sub, Rat.intCast_mul, Rat.intCast_mul, Rat.intCast_mul, hz, e1, eW, eL, e2, hR.1]
    have hcan : spX st v (tc L) * (spX st v (sqx tc i) / spX st v (tc L)) = spX st v (sqx tc i) := by
      rw [Rat.mul_comm, Rat.div_mul_cancel hL0]
    generalize spX st v (sqx tc i) / spX st v (tc L) = Q at *
    grind
  rw [key]
  exact Int.mul_tdiv_cancel_left z hd0
end REL
/-- what holds in the square after a run -/
def sqI (D : Dat) (q : Nat) (tc : Nat → Nat) (st : spst) : Prop := ∃ d P cl, sqD D q st.1 d P cl st.2.2.2.2 ∧ sqRel tc st d P cl
theorem spNew_cell {st : spst} {v : Nat → Int} {u : Nat × Nat} {q : Nat} (h : spOK (spNew st (spX st v) q u)) : (∀ r i, r < st.1 → i < 490 → ∃ z : Int, (z : Rat) = (st.2.2.2.1 * spX st v q) * (st.2.1 r i - st.2.1 r q * (spX st v i / spX st v q)) ∧ (z.natAbs : Int) < 1000000000 ^ 11) ∧ ∀ i, i < 490 → ∃ z : Int, (z : Rat) = (st.2.2.2.1 * spX st v q) * (spX st v i / spX st v q) ∧ (z.natAbs : Int) < 1000000000 ^ 11 := by
  constructor
  · intro r i hr hi
    obtain ⟨z, h1, h2⟩ := h.cell (r := r) (i := i) (by show r < st.1 + 1; omega) hi
    refine ⟨z, ?_, h2⟩
    rw [h1]
    show (st.2.2.2.1 * spX st v q) * gjR st.1 st.2.1 (spX st v) q r i = _
    unfold gjR
    rw [if_pos hr]
  · intro i hi
    obtain ⟨z, h1, h2⟩ := h.cell (r := st.1) (i := i) (by show st.1 < st.1 + 1; omega) hi
    refine ⟨z, ?_, h2⟩
    rw [h1]
    show (st.2.2.2.1 * spX st v q) * gjR st.1 st.2.1 (spX st v) q st.1 i = _
    unfold gjR
    rw [if_neg (Nat.lt_irrefl _)]
set_option maxHeartbeats 2000000 in
theorem take_rel {E : Ex} {B : Nat × Nat} {S : Stat} {D : Dat} {q T o c g of tm : Nat} {tc : Nat → Nat} {st : spst} {v : Nat → Int} (hq : sqS S q T o) (ho : rS S o) (hoq : o + 10 < q) (hor : ordOK c g) (hc : isCols c g tc) (hI : sqI D q tc st) (hO : spOK st) (hv : spW v) (hn : ∀ i : Nat, i < 35 → D (q + 17) i = v (tc i)) (hof : of < 4) (htm : tm < 455)
    (K : ∀ D' : Dat, tkO q o D D' → (∀ i, i ≠ 15 → D' q i = D q i) → sqI D' q tc (spTake c g st v (of, tm)) → E (.inl none) B S D') : Wp P_X7_take E 0 [some (aR q), some (aI of), some (aI tm)] [] B S D := by
  obtain ⟨d, P, cl, hD, hR⟩ := hI
  have hP := hD.2.2.2.2.2.2.1
  have hk := hO.1
  have hvc : ∀ i, i < 35 → ((v (tc i)).natAbs : Int) ≤ 999 := fun i hi => by have := hv.1 (tc i) (hc.1 i hi).1; omega
  have hfl := fcl_lead (v := v) hor hO hv hc hR hP
  have hlt : fcl (tkW d (fun i => v (tc i)) P cl st.1) < 35 → isLead c g (spX st v) (tc (fcl (tkW d (fun i => v (tc i)) P cl st.1))) := fun w => by
    rcases hfl with ⟨h1, _⟩ | ⟨_, h2⟩
    · omega
    · exact h2
  generalize hF : fcl (tkW d (fun i => v (tc i)) P cl st.1) = L at *
  have cells : L < 35 → (∀ i, i < 35 + st.1 + 1 → ((tkW d (fun i => v (tc i)) P cl st.1 i).natAbs : Int) < 1000000000 ^ 11) ∧ ∀ r i, r < st.1 → i < 35 + st.1 + 1 → ((trnI d st.1 (tkW d (fun i => v (tc i)) P cl st.1) L cl r i).natAbs : Int) < 1000000000 ^ 11 ∧ ((trnI d st.1 (tkW d (fun i => v (tc i)) P cl st.1) L cl r i : Int) : Rat) = (st.2.2.2.1 * spX st v (tc L)) * (st.2.1 r (sqx tc i) - st.2.1 r (tc L) * (spX st v (sqx tc i) / spX st v (tc L))) := fun w => by
    have hl := hlt w
    have hN := hO.step hv hl.1 hl.2.1 (of, tm)
    have hk35 : st.1 < 35 := by have : st.1 + 1 ≤ 35 := hN.1; omega
    obtain ⟨n1, n2⟩ := spNew_cell hN
    have hsq : ∀ i, i < 35 + st.1 + 1 → sqx tc i < 490 := fun i hi => by
      unfold sqx; split
      · have := (hc.1 i (by assumption)).1; omega
      · omega
    refine ⟨fun i hi => ?_, fun r i hr hi => ?_⟩
    · obtain ⟨z, h1, h2⟩ := n2 (sqx tc i) (hsq i hi)
      have e := tk_rat (v := v) hO hc hR hP hi
      have hcan : spX st v (tc L) * (spX st v (sqx tc i) / spX st v (tc L)) = spX st v (sqx tc i) := by
        rw [Rat.mul_comm, Rat.div_mul_cancel hl.2.1]
      have : tkW d (fun i => v (tc i)) P cl st.1 i = z := by
        refine Rat.intCast_inj.mp ?_
        rw [e, h1, Rat.mul_assoc, hcan]
      rw [this]; exact h2
    · obtain ⟨z, h1, h2⟩ := n1 r (sqx tc i) hr (hsq i hi)
      have := trn_rat (v := v) hO hc hR hP w hr hi hl.2.1 h1
      rw [this]; exact ⟨h2, h1⟩
  refine sp_X7_take (v := fun i => v (tc i)) hq ho hoq hD hn hvc hof htm (fun h35 => ?_) (fun w => ?_) (fun D' h1 h2 h3 h4 => ?_) (fun D' cl' h1 h2 h3 h4 h5 h6 => ?_)
  · rw [hF]
    rcases hfl with ⟨x, _⟩ | ⟨x, y⟩
    · exact x
    · exact absurd (spX_full hO hv h35 _ y.1) y.2.1
  · rw [hF] at w ⊢
    obtain ⟨a, b⟩ := cells w
    exact ⟨a, fun r i hr hi => (b r i hr hi).1⟩
  · rw [hF] at h1
    have hl : leadI c g (spX st v) 455 = -7 := by
      rcases hfl with ⟨_, x⟩ | ⟨x, _⟩
      · exact x
      · omega
    refine K D' h2 (fun i _ => h3 i) ?_
    unfold spTake
    rw [if_pos hl]
    exact ⟨d, P, cl, h4, hR⟩
  · rw [hF] at h1 h4 h5
    have hl := hlt h1
    have hli := leadI_is hor hl
    refine K D' h2 h3 ?_
    unfold spTake
    rw [if_neg (by rw [hli]; omega), hli, Int.toNat_natCast]
    refine ⟨_, _, cl', h4, ?_, fun r hr => ?_, fun r hr i hi => ?_⟩
    · have e := tk_rat (v := v) hO hc hR hP (i := L) (by omega)
      have ex : sqx tc L = tc L := by unfold sqx; rw [if_pos h1]
      rw [ex] at e
      exact e
    · show tc (nupd P st.1 L r) = pup st.2.2.1 st.1 (tc L) r
      unfold nupd pup
      have hr' : r < st.1 + 1 := hr
      by_cases w : r = st.1
      · rw [if_pos w, if_pos w]
      · rw [if_neg w, if_neg w]; exact hR.2.1 r (by omega)
    · have hr' : r < st.1 + 1 := hr
      have hi' : i < 35 + (st.1 + 1) := hi
      show (cl' r i : Rat) = (st.2.2.2.1 * spX st v (tc L)) * gjR st.1 st.2.1 (spX st v) (tc L) r (sqx tc i)
      unfold gjR
      by_cases w : r < st.1
      · rw [if_pos w, h5 r i w (by omega)]
        exact ((cells h1).2 r i w (by omega)).2
      · have : r = st.1 := by omega
        subst this
        rw [if_neg w, h6 i (by omega), tk_rat (v := v) hO hc hR hP (by omega), Rat.mul_assoc]
        congr 1
        rw [Rat.mul_comm, Rat.div_mul_cancel hl.2.1]
