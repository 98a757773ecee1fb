/-! the pivots are the greatest terms of their rows -/
-- needs: fr.cdiff
set_option maxRecDepth 100000
set_option linter.unusedVariables false
def spLC (c g : Nat) (st : spst) : Prop := (∀ a, a < st.1 → ∀ b, b < st.1 → st.2.1 b (st.2.2.1 a) = if b = a then 1 else 0) ∧ ∀ r, r < st.1 → isLead c g (st.2.1 r) (st.2.2.1 r)
theorem spLC.take {c g : Nat} (ho : ordOK c g) {st : spst} {v : Nat → Int} (h : spLC c g st) (u : Nat × Nat) : spLC c g (spTake c g st v u) := by
  obtain ⟨h1, h2⟩ := h
  unfold spTake
  split
  · exact ⟨h1, h2⟩
  · rename_i hne
    rcases leadI_law ho (φ := spX st v) 455 (Nat.le_refl _) with ⟨w, -⟩ | ⟨q, w1, w2, w3, w4⟩
    · exact absurd w hne
    · rw [w1, show ((q : Nat) : Int).toNat = q by omega]
      have hx : ∀ a, a < st.1 → spX st v (st.2.2.1 a) = 0 := fun a ha => by
        have := xred_piv (v := spV v st.1) h1 ha st.1 (Nat.le_refl _)
        rw [if_pos ha] at this
        exact this
      have hPq : ∀ a, a < st.1 → st.2.2.1 a ≠ q := fun a ha e => w3 (by rw [← e]; exact hx a ha)
      have pP : ∀ a, a < st.1 → pup st.2.2.1 st.1 q a = st.2.2.1 a := fun a ha => if_neg (by omega)
      have pq : pup st.2.2.1 st.1 q st.1 = q := if_pos rfl
      have gR : ∀ j i, j < st.1 → gjR st.1 st.2.1 (spX st v) q j i = st.2.1 j i - st.2.1 j q * (spX st v i / spX st v q) := fun j i hj => by unfold gjR; rw [if_pos hj]
      have gq : ∀ i, gjR st.1 st.2.1 (spX st v) q st.1 i = spX st v i / spX st v q := fun i => by unfold gjR; rw [if_neg (by omega)]
      have one : spX st v q / spX st v q = 1 := by rw [Rat.div_def, Rat.mul_inv_cancel _ w3]
      refine ⟨fun a ha b hb => ?_, fun r hr => ?_⟩
      · have ha : a < st.1 + 1 := ha
        have hb : b < st.1 + 1 := hb
        show gjR st.1 st.2.1 (spX st v) q b (pup st.2.2.1 st.1 q a) = _
        by_cases qa : a = st.1
        · subst qa
          rw [pq]
          by_cases qb : b = st.1
          · subst qb
            rw [gq, one, if_pos rfl]
          · rw [gR b q (by omega), one, if_neg (by omega), Rat.mul_one]; grind
        · rw [pP a (by omega)]
          by_cases qb : b = st.1
          · subst qb
            rw [gq, hx a (by omega), if_neg (by omega), Rat.div_def, Rat.zero_mul]
          · rw [gR b _ (by omega), hx a (by omega), h1 a (by omega) b (by omega), Rat.div_def, Rat.zero_mul, Rat.mul_zero]; grind
      · have hr : r < st.1 + 1 := hr
        show isLead c g (gjR st.1 st.2.1 (spX st v) q r) (pup st.2.2.1 st.1 q r)
        by_cases qr : r = st.1
        · subst qr
          rw [pq]
          refine ⟨w2, by rw [gq, one]; decide, fun t ht h0 hne => w4 t ht (fun z => h0 ?_) hne⟩
          rw [gq, z, Rat.div_def, Rat.zero_mul]
        · have hr' : r < st.1 := by omega
          obtain ⟨l1, l2, l3⟩ := h2 r hr'
          rw [pP r hr']
          by_cases z : st.2.1 r q = 0
          · have e : ∀ i, gjR st.1 st.2.1 (spX st v) q r i = st.2.1 r i := fun i => by rw [gR r i hr', z, Rat.zero_mul]; grind
            exact ⟨l1, by rw [e]; exact l2, fun t ht h0 hne => l3 t ht (by rw [← e]; exact h0) hne⟩
          · have hq := l3 q w2 z (Ne.symm (hPq r hr'))
            refine ⟨l1, ?_, fun t ht h0 hne => ?_⟩
            · rw [gR r _ hr', hx r hr', Rat.div_def, Rat.zero_mul, Rat.mul_zero]
              intro y
              exact l2 (by rw [← y]; grind)
            · by_cases y : st.2.1 r t = 0
              · have hxt : spX st v t ≠ 0 := fun y2 => h0 (by rw [gR r t hr', y, y2, Rat.div_def, Rat.zero_mul, Rat.mul_zero]; grind)
                by_cases tq : t = q
                · rw [tq]; exact hq
                · exact rank_trans ho hq (w4 t ht hxt tq)
              · exact l3 t ht y hne
theorem spLC.fold {c g : Nat} (ho : ordOK c g) {I : Nat → Int} {k : Nat} : ∀ (L : List Nat) (st : spst), spLC c g st → spLC c g (spF c g I k L st)
  | [], _, h => h
  | u :: L, st, h => spLC.fold ho L _ (h.take ho (k, u))
theorem spLC.of {c g : Nat} (ho : ordOK c g) {I : Nat → Nat → Int} {d : Int} : ∀ (k : Nat) (st : spst), spR c g I d k st → spLC c g st
  | 0, st, h => by
    have h : st = spst0 := h
    subst h
    exact ⟨fun a ha => absurd ha (Nat.not_lt_zero _), fun r hr => absurd hr (Nat.not_lt_zero _)⟩
  | k + 1, st, h => by
    obtain ⟨st0, L, h1, h2, h3, h4⟩ := h
    rw [h4]
    exact spLC.fold ho L st0 (spLC.of ho k st0 h1)
theorem spLC.el {c g : Nat} {st : spst} {σ : Nat → Nat} (h : spLC c g st) {k : Nat} (hk : σ k < st.1) : isLead c g (spEl st σ k) (spLd st σ k) := by
  obtain ⟨l1, l2, l3⟩ := h.2 _ hk
  have e : ∀ t, t < 455 → spEl st σ k t = st.2.1 (σ k) t := fun t ht => if_pos ht
  refine ⟨l1, ?_, fun t ht h0 hne => l3 t ht (by rw [← e t ht]; exact h0) hne⟩
  show spEl st σ k (st.2.2.1 (σ k)) ≠ 0
  rw [e _ l1]; exact l2
theorem isCnt.mono {Q : Nat → Prop} {k n : Nat} (h : isCnt Q k n) : ∀ K r, k ≤ K → isCnt Q K r → n ≤ r
  | 0, r, hk, h' => by
    have : k = 0 := by omega
    subst this
    have h : n = 0 := h
    omega
  | K + 1, r, hk, h' => by
    by_cases q : k = K + 1
    · subst q
      have := isCnt.uniq _ _ _ h h'
      omega
    · obtain ⟨r0, h1, h2⟩ := h'
      have := isCnt.mono h K r0 (by omega) h1
      omega
