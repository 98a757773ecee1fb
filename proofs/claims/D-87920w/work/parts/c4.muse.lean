/-! the model's span: one multiple is used -/
set_option maxRecDepth 100000
set_option linter.unusedVariables false
def muS (S : Stat) (M : Nat) : Prop := mS S M ∧ mwS S M ∧ mcS S M ∧ (S.2.1 M 55 = some (M + 5701) ∧ S.1 (M + 5701) = some (115, 36) ∧ ∀ r : Nat, r < 36 → S.2.1 (M + 5701) r = some (M + 5702 + 141 * r) ∧ nmS S (M + 5702 + 141 * r) (M + 5703 + 141 * r) 70 26) ∧ (S.2.1 M 56 = some (M + 10778) ∧ S.1 (M + 10778) = some (100, 36)) ∧ (S.2.1 M 53 = some (M + 5699) ∧ S.1 (M + 5699) = some (100, 35)) ∧ (S.2.1 M 54 = some (M + 5700) ∧ S.1 (M + 5700) = some (100, 35)) ∧ (S.2.1 M 32 = some (M + 4218) ∧ S.1 (M + 4218) = some (100, 4)) ∧ (S.2.1 M 33 = some (M + 4219) ∧ S.1 (M + 4219) = some (100, 48)) ∧ (S.2.1 M 34 = some (M + 4220) ∧ S.1 (M + 4220) = some (100, 48))
/-- one polynomial of the ideal's list -/
def midP (D : Dat) (M i : Nat) (I : Nat → Int) (m : Nat) (e : Nat → Nat) : Prop := m ≤ 12 ∧ D (M + 4218) i = m ∧ (∀ j : Nat, j < m → e j < 455 ∧ D (M + 4219) (12 * (i : Int) + j) = tcode (e j) ∧ D (M + 4220) (12 * (i : Int) + j) = I (e j) ∧ I (e j) ≠ 0) ∧ (∀ j k, j < k → k < m → e j ≠ e k) ∧ ∀ t, t < 455 → (∀ j, j < m → e j ≠ t) → I t = 0
/-- the model's rows hold the span's -/
def msI (D : Dat) (M n d : Nat) (tc : Nat → Nat) (st : spst) (V : Nat → Nat → Int) (pm : Nat → Nat) : Prop := D M 52 = st.1 ∧ D M 57 = st.1 ∧ spD d st ∧ ∀ r : Nat, r < st.1 → zrow D (M + 5703 + 141 * r) (V r) ∧ mrow n tc (st.2.1 r) (V r) ∧ (pm r < n ∧ tc (pm r) = st.2.2.1 r) ∧ D (M + 10778) r = pm r ∧ D (M + 5699) r = (st.2.2.2.2 r).1 ∧ D (M + 5700) r = tcode (st.2.2.2.2 r).2
/-- what a use may write -/
def usW (M : Nat) (D D' : Dat) : Prop := ∀ c i, (c ≤ M ∨ M + 16 < c) → (c ≠ M ∨ i ≠ 52 ∧ i ≠ 57) → (c ≠ M + 5699 ∧ c ≠ M + 5700 ∧ c ≠ M + 10778) → (c < M + 5702 ∨ M + 10777 < c) → (c < M + 10781 ∨ M + 10788 < c) → D' c i = D c i
/-- the numbers put so far -/
def wrow (I : Nat → Int) (e col : Nat → Nat) : Nat → Nat → Int
  | 0 => fun _ => 0
  | m + 1 => fun j => if j = col m then I (e m) else wrow I e col m j
theorem wrow_none {I : Nat → Int} {e col : Nat → Nat} {j : Nat} : ∀ m, (∀ k, k < m → col k ≠ j) → wrow I e col m j = 0 := by
  intro m
  induction m with
  | zero => intro _; rfl
  | succ m ih =>
    intro h
    simp only [wrow]
    rw [if_neg (fun w => h m (by omega) w.symm)]
    exact ih fun k hk => h k (by omega)
theorem wrow_some {I : Nat → Int} {e col : Nat → Nat} {k : Nat} : ∀ m, (∀ a b, a < b → b < m → col a ≠ col b) → k < m → wrow I e col m (col k) = I (e k) := by
  intro m
  induction m with
  | zero => intro _ h; omega
  | succ m ih =>
    intro h hk
    simp only [wrow]
    by_cases w : k = m
    · rw [w, if_pos rfl]
    · rw [if_neg (fun x => h k m (by omega) (by omega) x)]
      exact ih (fun a b x y => h a b x (by omega)) (by omega)
/-- a multiple's row -/
theorem wrow_mul {c g d n m u : Nat} {tc : Nat → Nat} {I : Nat → Int} {e col : Nat → Nat} (ho : ordOK c g) (hT : isColM c g d n tc) (hd : d ≤ 4) (hu : u < 455) (hdeg : ∀ t, t < 455 → I t ≠ 0 → tdg t + tdg u ≤ d) (h1 : ∀ j, j < m → e j < 455 ∧ I (e j) ≠ 0) (h2 : ∀ j k, j < k → k < m → e j ≠ e k) (h3 : ∀ t, t < 455 → (∀ j, j < m → e j ≠ t) → I t = 0) (hc : ∀ j, j < m → col j < n ∧ tc (col j) = tmu (e j) u) {k0 : Nat} (hk0 : k0 < 35) : mrow n tc (spV (mulV I u) k0) (fun j => if j = 35 + k0 then 1 else wrow I e col m j) := by
  have hn := hT.2.2.2
  have ci : ∀ a b, a < b → b < m → col a ≠ col b := fun a b x y w => by
    have p := hc a (by omega)
    have q := hc b y
    rw [w, q.2] at p
    have d1 := hdeg _ (h1 a (by omega)).1 (h1 a (by omega)).2
    have d2 := hdeg _ (h1 b y).1 (h1 b y).2
    exact h2 a b x y (tmu_inj (by omega) (by omega) (h1 a (by omega)).1 (h1 b y).1 p.2.symm)
  refine ⟨⟨1, by decide, fun j hj => ?_⟩, fun q hq => ?_⟩
  · rw [Rat.one_mul]
    show ((if j = 35 + k0 then 1 else wrow I e col m j : Int) : Rat) = _
    unfold mpx sqx spV
    by_cases w : j < 35
    · rw [if_neg (show ¬ j = 35 + k0 by omega)]
      by_cases x : j < n
      · rw [if_neg (by omega), if_pos w, if_pos (hT.1 j x).1]
        congr 1
        by_cases y : ∃ k, k < m ∧ col k = j
        · obtain ⟨k, hk, rfl⟩ := y
          rw [wrow_some m ci hk, (hc k hk).2]
          have d1 := hdeg _ (h1 k hk).1 (h1 k hk).2
          exact (mulV_mu hu (h1 k hk).1 (by omega)).symm
        · rw [wrow_none m fun k hk w => y ⟨k, hk, w⟩]
          refine Classical.byContradiction fun z => ?_
          have z' : mulV I u (tc j) ≠ 0 := fun q => z q.symm
          have hdv : tdv u (tc j) := by
            refine Classical.byContradiction fun q => z' ?_
            unfold mulV
            exact if_neg q
          have ez : mulV I u (tc j) = I (tqu (tc j) u) := by unfold mulV; exact if_pos hdv
          rw [ez] at z'
          obtain ⟨b1, b2, b3, b4⟩ := tqu_tx (hT.1 j x).1 hdv
          have : ∃ k, k < m ∧ e k = tqu (tc j) u := Classical.byContradiction fun q => z' (h3 _ b4 fun k hk w => q ⟨k, hk, w⟩)
          obtain ⟨k, hk, ek⟩ := this
          have d1 := hdeg _ b4 z'
          obtain ⟨a1, a2, a3, a4⟩ := tmu_tx (s := tqu (tc j) u) (b := u) (by omega)
          have hv : tx0 u ≤ tx0 (tc j) ∧ tx1 u ≤ tx1 (tc j) ∧ tx2 u ≤ tx2 (tc j) := hdv
          have et : tmu (tqu (tc j) u) u = tc j := tx_ext a4 (hT.1 j x).1 (by omega) (by omega) (by omega)
          refine y ⟨k, hk, tc_inj ho hT (hc k hk).1 x ?_⟩
          rw [(hc k hk).2, ek, et]
      · rw [if_pos ⟨by omega, w⟩, wrow_none m fun k hk q => by have := (hc k hk).1; omega]; rfl
    · rw [if_neg (show ¬ (n ≤ j ∧ j < 35) by omega), if_neg w, if_neg (show ¬ 455 + (j - 35) < 455 by omega)]
      by_cases x : j = 35 + k0
      · rw [if_pos x, if_pos (show 455 + (j - 35) = 455 + k0 by omega)]; rfl
      · rw [if_neg x, if_neg (show ¬ 455 + (j - 35) = 455 + k0 by omega), wrow_none m fun k hk q => by have := (hc k hk).1; omega]; rfl
  · refine ⟨35 + k0, by omega, ?_⟩
    show ¬ (q : Int) ∣ (if 35 + k0 = 35 + k0 then 1 else wrow I e col m (35 + k0) : Int)
    rw [if_pos rfl]
    intro h
    have := Int.le_of_dvd (by decide) h
    omega
set_option maxHeartbeats 4000000 in
theorem sp_X16_use {E : Ex} {B : Nat × Nat} {S : Stat} {D : Dat} {M c g d n i u m : Nat} {tc e : Nat → Nat} {st : spst} {V : Nat → Nat → Int} {pm : Nat → Nat} {I : Nat → Int} {xi xu : Int} (hM : muS S M) (ho : ordOK c g) (hd : d ≤ 4) (hT : mcD D M c g d n tc) (hI : midP D M i I m e) (hW : idW I) (hi : i < 4) (hu : u < 455) (hdeg : ∀ t, t < 455 → I t ≠ 0 → tdg t + tdg u ≤ d) (hO : spOK st) (hst : msI D M n d tc st V pm) (hxi : xi = i) (hxu : xu = tcode u)
    (K : ∀ (D' : Dat) (V' : Nat → Nat → Int) (pm' : Nat → Nat), usW M D D' → msI D' M n d tc (spTake c g st (mulV I u) (i, u)) V' pm' → E (.inl none) B S D') : Wp P_X16_use E 0 [some (aR M), some (aI xi), some (aI xu)] [] B S D := by
  subst hxi hxu
  obtain ⟨hm, hw, hc, ⟨r1, r2, r3⟩, ⟨p1, p2⟩, ⟨u1, u2⟩, ⟨v1, v2⟩, ⟨i1, i2⟩, ⟨j1, j2⟩, ⟨k1, k2⟩⟩ := hM
  obtain ⟨M1, c1, c2, c3, c4'⟩ := id hc
  obtain ⟨hC, hCn, hCc⟩ := hT
  obtain ⟨q1, q2, q3, q4, q5⟩ := hI
  obtain ⟨s1, s2, s3, s4⟩ := hst
  have hn := hC.2.2.2
  have hpm : ∀ r, r < st.1 → pm r < n ∧ tc (pm r) = st.2.2.1 r := fun r hr => (s4 r hr).2.2.1
  have hkn := spk_le ho hC hO hpm
  have hvd : ∀ t, t < 455 → d < tdg t → mulV I u t = 0 := fun t ht hdt => by
    unfold mulV
    split
    · rename_i x
      obtain ⟨b1, b2, b3, b4⟩ := tqu_tx (u := u) ht x
      refine Classical.byContradiction fun y => ?_
      have := hdeg _ b4 y
      unfold tdg at *
      omega
    · rfl
  have hvw : spW (mulV I u) := mulV_w hW fun t ht h => by have := hdeg t ht h; omega
  have hcol : ∀ j, ∃ x, j < m → x < n ∧ tc x = tmu (e j) u := fun j => by
    by_cases h : j < m
    · obtain ⟨a1, _, _, a2⟩ := q3 j h
      have hdj := hdeg _ a1 a2
      obtain ⟨b1, b2, b3, b4⟩ := tmu_tx (s := e j) (b := u) (by omega)
      obtain ⟨x, x1, x2⟩ := hC.2.2.1 (tmu (e j) u) b4 (by unfold tdg at *; omega)
      exact ⟨x, fun _ => ⟨x1, x2⟩⟩
    · exact ⟨0, fun x => absurd x h⟩
  obtain ⟨col, hcol⟩ := Classical.skolem.mp hcol
  by_cases hfull : st.1 = n
  · have hl : leadI c g (spX st (mulV I u)) 455 = -7 := leadI_none ho (spk_full ho hC hO s3 hvd hpm hfull)
    refine wp_in ?_
    simp only [P_X16_use, i_kil, i_icon, i_lcon, i_null, i_loadI, i_loadL, i_loadR, i_istore, i_lstore, i_astore, i_iinc, i_dup, i_dup2, i_pop, i_iadd, i_isub, i_imul, i_idiv, i_irem, i_ineg, i_iand, i_ior, i_ishl, i_ishr, i_lxor, i_ladd, i_lsub, i_lmul, i_ldiv, i_lrem, i_lneg, i_lshl, i_lcmp, i_i2l, i_l2i, i_i2b, i_i2s, i_ifeq, i_ifne, i_iflt, i_ifge, i_ifgt, i_ifle, i_cmpeq, i_cmpne, i_cmplt, i_cmpge, i_cmpgt, i_cmple, i_acmpeq, i_acmpne, i_ifnull, i_ifnonnull, i_getI, i_getR, i_putI, i_putZ, i_putR, i_ald, i_ldL, i_ldR, i_ast, i_stL, i_stR, i_alen, i_new, i_newa, i_iret, i_zret, i_lret, i_aret, i_vret, i_raise, i_throw, i_recv, i_objinit, i_tsw3, lget, lset, lput1, lput2, lkil, ltrim, largs, isL, takev, dropv, nthv, pushO, catv, gd, true_and, and_true, Option.some.injEq, Prod.mk.injEq, exists_eq_left', if_true, if_false, reduceCtorEq, Bool.false_eq_true, lcmp_ge, lcmp_lt, lcmp_le, lcmp_gt, lcmp_eq, true_or, or_true, not_true_eq_false, not_false_eq_true, false_implies, true_implies, List.length_cons, List.length_nil, M1, s1, hCn]
    repeat (first | refine ⟨in_small (by omega) (by omega), ?_⟩ | (show (_ → _) ∧ (_ → _); first | refine ⟨by omega, fun _ => ?_⟩ | refine ⟨fun _ => ?_, by omega⟩) | refine ⟨by omega, ?_⟩ | refine ⟨⟨_, rfl, by assumption⟩, ?_⟩ | refine ⟨okT_I _, ?_⟩ | refine ⟨okT_S (by omega) (by omega), ?_⟩ | refine ⟨okT_B (by omega) (by omega), ?_⟩ | refine call0 (gd_of rfl) ?_)
    refine K D V pm (fun _ _ _ _ _ _ _ => rfl) ?_
    unfold spTake
    rw [if_pos hl]
    exact ⟨s1, s2, s3, s4⟩
  have hk35 : st.1 < 35 := by omega
  have hδ := spd_ne hO
  obtain ⟨vb, hvb⟩ : ∃ vb, vb = M + 5703 + 141 * st.1 := ⟨_, rfl⟩
  obtain ⟨ra, rn⟩ := r3 st.1 (by omega)
  rw [← hvb] at rn
  have N1 := rn.1
  have hsq : ∀ j, j < 70 → (n ≤ j ∧ j < 35) ∨ sqx tc j < 490 := fun j hj => by
    by_cases q : n ≤ j ∧ j < 35
    · exact .inl q
    · right
      unfold sqx
      split
      · have := (hC.1 j (by omega)).1; omega
      · omega
  have hbB : ∀ r, r ≤ st.1 → ∀ W, mrow n tc (xred st.2.1 st.2.2.1 (spV (mulV I u) st.1) r) W → ∀ j, j < 70 → ((W j).natAbs : Int) < 1000000000 ^ 12 := fun r hr W hWr => by
    refine hWr.le hδ (pw_pos 12) fun j hj => ?_
    rcases hsq j hj with q | q
    · exact .inl q
    · right
      obtain ⟨z, z1, z2⟩ := xred_bd hO hvw r hr (sqx tc j) q
      refine ⟨z, z1, ?_⟩
      have e2 : (1000000000 : Int) ^ 12 = 1000000000 * 1000000000 ^ 11 := pw_succ 11
      have hp := pw_pos 11
      rw [e2]
      generalize (1000000000 : Int) ^ 11 = H at *
      have : 99 * ((r : Int) + 1) * H ≤ 99 * 36 * H := Int.mul_le_mul_of_nonneg_right (by omega) (by omega)
      omega
  have hbR : ∀ r, r < st.1 → ∀ j, j < 70 → ((V r j).natAbs : Int) < 1000000000 ^ 11 := fun r hr => by
    refine (s4 r hr).2.1.le hδ (pw_pos 11) fun j hj => ?_
    rcases hsq j hj with q | q
    · exact .inl q
    · exact .inr (hO.cell hr q)
  -- the rows that stood are turned
  have turn : ∀ (W : Nat → Int) (a : Nat), a < n → mrow n tc (spX st (mulV I u)) W → isLead c g (spX st (mulV I u)) (tc a) → ∀ (L r : Nat) (D1 : Dat) (Vn : Nat → Nat → Int), r + L = st.1 → (∀ x y, (x ≤ M ∨ M + 16 < x) → x ≠ M + 10778 → (x < M + 5702 ∨ M + 10777 < x) → (x < M + 10781 ∨ M + 10788 < x) → D1 x y = D x y) → (∀ y : Nat, y < st.1 → D1 (M + 10778) y = pm y) → D1 (M + 10778) st.1 = a → zrow D1 vb W → (∀ y : Nat, y < r → zrow D1 (M + 5703 + 141 * y) (Vn y) ∧ mrow n tc (gjR st.1 st.2.1 (spX st (mulV I u)) (tc a) y) (Vn y)) → (∀ y : Nat, r ≤ y → y < st.1 → zrow D1 (M + 5703 + 141 * y) (V y)) → Wp P_X16_use E 7 [some (aR M), some (aI i), some (aI (tcode u)), some (aR (M + 5702 + 141 * st.1)), some (aI a), some (aI r)] [] B S D1 := by
    intro W a ha hWm hl L
    have hx0 : spX st (mulV I u) (tc a) ≠ 0 := hl.2.1
    have hWa : W a ≠ 0 := fun w => hx0 ((hWm.zero ha hn).mp w)
    have hN := hO.step hvw hl.1 hx0 (i, u)
    obtain ⟨nc1, nc2⟩ := spNew_cell hN
    have hδ2 : st.2.2.2.1 * spX st (mulV I u) (tc a) ≠ 0 := fun w => by
      rcases Rat.mul_eq_zero.mp w with q | q
      · exact hδ q
      · exact hx0 q
    have hWs := hWm.scale hx0
    have hWb : ∀ j, j < 70 → ((W j).natAbs : Int) < 1000000000 ^ 11 := by
      refine hWs.le hδ2 (pw_pos 11) fun j hj => ?_
      rcases hsq j hj with q | q
      · exact .inl q
      · exact .inr (nc2 _ q)
    have hlI := leadI_is ho hl
    induction L with
    | zero =>
      intro r D1 Vn hr f1 f2 f3 f4 f5 f6
      have : r = st.1 := by omega
      subst this
      have e57 : D1 M 57 = st.1 := by rw [f1 _ _ (by omega) (by omega) (by omega) (by omega)]; exact s2
      have e52 : D1 M 52 = st.1 := by rw [f1 _ _ (by omega) (by omega) (by omega) (by omega)]; exact s1
      have htk : spTake c g st (mulV I u) (i, u) = spNew st (spX st (mulV I u)) (tc a) (i, u) := by
        unfold spTake
        rw [if_neg (by rw [hlI]; omega), hlI, Int.toNat_natCast]
      have fin : ∀ D2 : Dat, (∀ x y, x ≠ M → x ≠ M + 5699 → x ≠ M + 5700 → D2 x y = D1 x y) → (∀ y, y ≠ 52 → y ≠ 57 → D2 M y = D1 M y) → D2 M 52 = (st.1 : Int) + 1 → D2 M 57 = (st.1 : Int) + 1 → (∀ y : Nat, y < st.1 → D2 (M + 5699) y = D1 (M + 5699) y ∧ D2 (M + 5700) y = D1 (M + 5700) y) → D2 (M + 5699) st.1 = i → D2 (M + 5700) st.1 = tcode u → E (.inl none) B S D2 := fun D2 g1 g2 g3 g4 g5 g6 g7 => by
        refine K D2 (fun y => if y = st.1 then W else Vn y) (fun y => if y = st.1 then a else pm y) (fun x y a1 a2 a3 a4 a5 => ?_) ?_
        · by_cases w : x = M
          · subst w
            rw [g2 y (by omega) (by omega)]
            exact f1 x y a1 (by omega) a4 a5
          · rw [g1 x y w a3.1 a3.2.1]
            exact f1 x y a1 a3.2.2 a4 a5
        · have hDt := spD.take (c := c) (g := g) ho s3 hvd (i, u)
          rw [htk] at hDt ⊢
          refine ⟨by rw [g3]; exact (Int.natCast_succ st.1).symm, by rw [g4]; exact (Int.natCast_succ st.1).symm, hDt, fun y hy => ?_⟩
          have hy' : y < st.1 + 1 := hy
          by_cases w : y = st.1
          · subst w
            simp only [if_true]
            refine ⟨?_, ?_, ⟨ha, ?_⟩, ?_, ?_, ?_⟩
            · rw [← hvb]; exact f4.congr fun x z b1 b2 => g1 x z (by omega) (by omega) (by omega)
            · show mrow n tc (gjR st.1 st.2.1 (spX st (mulV I u)) (tc a) st.1) W
              have e : gjR st.1 st.2.1 (spX st (mulV I u)) (tc a) st.1 = fun z => spX st (mulV I u) z / spX st (mulV I u) (tc a) := by
                unfold gjR; rw [if_neg (Nat.lt_irrefl _)]
              rw [e]; exact hWs
            · show tc a = pup st.2.2.1 st.1 (tc a) st.1
              unfold pup; rw [if_pos rfl]
            · rw [g1 _ _ (by omega) (by omega) (by omega)]; exact f3
            · rw [g6]
              show (i : Int) = ((uup st.2.2.2.2 st.1 (i, u) st.1).1 : Nat)
              unfold uup; rw [if_pos rfl]
            · rw [g7]
              show tcode u = tcode (uup st.2.2.2.2 st.1 (i, u) st.1).2
              unfold uup; rw [if_pos rfl]
          · simp only [if_neg w]
            obtain ⟨x1, x2⟩ := f5 y (by omega)
            obtain ⟨-, -, ⟨x3, x4⟩, x5, x6, x7⟩ := s4 y (by omega)
            refine ⟨x1.congr fun x z b1 b2 => g1 x z (by omega) (by omega) (by omega), x2, ⟨x3, ?_⟩, ?_, ?_, ?_⟩
            · show tc (pm y) = pup st.2.2.1 st.1 (tc a) y
              unfold pup; rw [if_neg w]; exact x4
            · rw [g1 _ _ (by omega) (by omega) (by omega)]; exact f2 y (by omega)
            · rw [(g5 y (by omega)).1, f1 _ _ (by omega) (by omega) (by omega) (by omega), x6]
              show (((st.2.2.2.2 y).1 : Nat) : Int) = ((uup st.2.2.2.2 st.1 (i, u) y).1 : Nat)
              unfold uup; rw [if_neg w]
            · rw [(g5 y (by omega)).2, f1 _ _ (by omega) (by omega) (by omega) (by omega), x7]
              show tcode (st.2.2.2.2 y).2 = tcode (uup st.2.2.2.2 st.1 (i, u) y).2
              unfold uup; rw [if_neg w]
      have e52b : ∀ z y : Int, pmu (pmu D1 (M + 5699) (st.1 : Int) z) (M + 5700) (st.1 : Int) y M 52 = st.1 := fun z y => by simp only [pmu]; rw [if_neg (fun w => by omega), if_neg (fun w => by omega)]; exact e52
      refine wp_in ?_
      have e52a : ∀ z : Int, pmu D1 (M + 5699) (st.1 : Int) z M 52 = st.1 := fun z => by simp only [pmu]; rw [if_neg (fun w => by omega)]; exact e52
      have e57b : ∀ z y w : Int, pmu (pmu (pmu D1 (M + 5699) (st.1 : Int) z) (M + 5700) (st.1 : Int) y) M 52 w M 57 = st.1 := fun z y w => by simp only [pmu]; rw [if_neg (fun w => by omega), if_neg (fun w => by omega), if_neg (fun w => by omega)]; exact e57
      simp only [P_X16_use, i_kil, i_icon, i_lcon, i_null, i_loadI, i_loadL, i_loadR, i_istore, i_lstore, i_astore, i_iinc, i_dup, i_dup2, i_pop, i_iadd, i_isub, i_imul, i_idiv, i_irem, i_ineg, i_iand, i_ior, i_ishl, i_ishr, i_lxor, i_ladd, i_lsub, i_lmul, i_ldiv, i_lrem, i_lneg, i_lshl, i_lcmp, i_i2l, i_l2i, i_i2b, i_i2s, i_ifeq, i_ifne, i_iflt, i_ifge, i_ifgt, i_ifle, i_cmpeq, i_cmpne, i_cmplt, i_cmpge, i_cmpgt, i_cmple, i_acmpeq, i_acmpne, i_ifnull, i_ifnonnull, i_getI, i_getR, i_putI, i_putZ, i_putR, i_ald, i_ldL, i_ldR, i_ast, i_stL, i_stR, i_alen, i_new, i_newa, i_iret, i_zret, i_lret, i_aret, i_vret, i_raise, i_throw, i_recv, i_objinit, i_tsw3, lget, lset, lput1, lput2, lkil, ltrim, largs, isL, takev, dropv, nthv, pushO, catv, gd, true_and, and_true, Option.some.injEq, Prod.mk.injEq, exists_eq_left', if_true, if_false, reduceCtorEq, Bool.false_eq_true, lcmp_ge, lcmp_lt, lcmp_le, lcmp_gt, lcmp_eq, true_or, or_true, not_true_eq_false, not_false_eq_true, false_implies, true_implies, List.length_cons, List.length_nil, M1, e57, e52, u1, u2, v1, v2, e52a, e52b, e57b]
      repeat (first | refine ⟨in_small (by omega) (by omega), ?_⟩ | (show (_ → _) ∧ (_ → _); first | refine ⟨by omega, fun _ => ?_⟩ | refine ⟨fun _ => ?_, by omega⟩) | refine ⟨by omega, ?_⟩ | refine ⟨⟨_, rfl, by assumption⟩, ?_⟩ | refine ⟨okT_I _, ?_⟩ | refine ⟨okT_S (by omega) (by omega), ?_⟩ | refine ⟨okT_B (by omega) (by omega), ?_⟩ | refine call0 (gd_of rfl) ?_)
      refine fin _ (fun x y b1 b2 b3 => ?_) (fun y b1 b2 => ?_) ?_ ?_ (fun y hy => ⟨?_, ?_⟩) ?_ ?_
      all_goals simp only [pmu]
      · rw [if_neg (fun w => b1 w.1), if_neg (fun w => b1 w.1), if_neg (fun w => b3 w.1), if_neg (fun w => b2 w.1)]
      · rw [if_neg (fun w => b2 w.2), if_neg (fun w => b1 w.2), if_neg (fun w => by omega), if_neg (fun w => by omega)]
      · simp
      · simp
      · rw [if_neg (fun w => by omega), if_neg (fun w => by omega), if_neg (fun w => by omega), if_neg (fun w => by omega)]
      · rw [if_neg (fun w => by omega), if_neg (fun w => by omega), if_neg (fun w => by omega), if_neg (fun w => by omega)]
      · rw [if_neg (fun w => by omega), if_neg (fun w => by omega), if_neg (fun w => by omega), if_pos ⟨trivial, trivial⟩]
      · rw [if_neg (fun w => by omega), if_neg (fun w => by omega), if_pos ⟨trivial, trivial⟩]
    | succ L ih =>
      intro r D1 Vn hr f1 f2 f3 f4 f5 f6
      obtain ⟨rra, rrn⟩ := r3 r (by omega)
      have rr1 := rrn.1
      have e57 : D1 M 57 = st.1 := by rw [f1 _ _ (by omega) (by omega) (by omega) (by omega)]; exact s2
      have zr := f6 r (Nat.le_refl _) (by omega)
      obtain ⟨ca1, ca2⟩ := rrn.2 a (by omega)
      have ca3 := ca2.1
      have hs := wD_nn (zr a (by omega))
      obtain ⟨-, hm2, ⟨hp1, hp2⟩, -⟩ := s4 r (by omega)
      have next : ∀ (D2 : Dat) (V' : Nat → Int), (∀ x y, (x ≤ M ∨ M + 16 < x) → (x < M + 5703 + 141 * r ∨ M + 5703 + 141 * r + 139 < x) → (x < M + 10781 ∨ M + 10788 < x) → D2 x y = D1 x y) → zrow D2 (M + 5703 + 141 * r) V' → mrow n tc (gjR st.1 st.2.1 (spX st (mulV I u)) (tc a) r) V' → Wp P_X16_use E 8 [some (aR M), some (aI i), some (aI (tcode u)), some (aR (M + 5702 + 141 * st.1)), some (aI a), some (aI r)] [] B S D2 := fun D2 V' g1 g2 g3 => by
        refine wp_in ?_
        simp only [P_X16_use, i_kil, i_icon, i_lcon, i_null, i_loadI, i_loadL, i_loadR, i_istore, i_lstore, i_astore, i_iinc, i_dup, i_dup2, i_pop, i_iadd, i_isub, i_imul, i_idiv, i_irem, i_ineg, i_iand, i_ior, i_ishl, i_ishr, i_lxor, i_ladd, i_lsub, i_lmul, i_ldiv, i_lrem, i_lneg, i_lshl, i_lcmp, i_i2l, i_l2i, i_i2b, i_i2s, i_ifeq, i_ifne, i_iflt, i_ifge, i_ifgt, i_ifle, i_cmpeq, i_cmpne, i_cmplt, i_cmpge, i_cmpgt, i_cmple, i_acmpeq, i_acmpne, i_ifnull, i_ifnonnull, i_getI, i_getR, i_putI, i_putZ, i_putR, i_ald, i_ldL, i_ldR, i_ast, i_stL, i_stR, i_alen, i_new, i_newa, i_iret, i_zret, i_lret, i_aret, i_vret, i_raise, i_throw, i_recv, i_objinit, i_tsw3, lget, lset, lput1, lput2, lkil, ltrim, largs, isL, takev, dropv, nthv, pushO, catv, gd, true_and, and_true, Option.some.injEq, Prod.mk.injEq, exists_eq_left', if_true, if_false, reduceCtorEq, Bool.false_eq_true, lcmp_ge, lcmp_lt, lcmp_le, lcmp_gt, lcmp_eq, true_or, or_true, not_true_eq_false, not_false_eq_true, false_implies, true_implies, List.length_cons, List.length_nil]
        repeat (first | refine ⟨in_small (by omega) (by omega), ?_⟩ | (show (_ → _) ∧ (_ → _); first | refine ⟨by omega, fun _ => ?_⟩ | refine ⟨fun _ => ?_, by omega⟩) | refine ⟨by omega, ?_⟩ | refine ⟨⟨_, rfl, by assumption⟩, ?_⟩ | refine ⟨okT_I _, ?_⟩ | refine ⟨okT_S (by omega) (by omega), ?_⟩ | refine ⟨okT_B (by omega) (by omega), ?_⟩ | refine call0 (gd_of rfl) ?_)
        refine ih (r + 1) D2 (fun y => if y = r then V' else Vn y) (by omega) (fun x y a1 a2 a3 a4 => by rw [g1 x y a1 (by omega) a4]; exact f1 x y a1 a2 a3 a4) (fun y hy => by rw [g1 _ _ (by omega) (by omega) (by omega)]; exact f2 y hy) (by rw [g1 _ _ (by omega) (by omega) (by omega)]; exact f3) (f4.congr fun x y b1 b2 => g1 x y (by omega) (by omega) (by omega)) (fun y hy => ?_) (fun y hy hy2 => (f6 y (by omega) hy2).congr fun x z b1 b2 => g1 x z (by omega) (by omega) (by omega))
        by_cases z : y = r
        · subst z
          simp only [if_true]
          exact ⟨g2, g3⟩
        · simp only [if_neg z]
          obtain ⟨h1, h2⟩ := f5 y (by omega)
          exact ⟨h1.congr fun x z b1 b2 => g1 x z (by omega) (by omega) (by omega), h2⟩
      refine wp_in ?_
      simp only [P_X16_use, i_kil, i_icon, i_lcon, i_null, i_loadI, i_loadL, i_loadR, i_istore, i_lstore, i_astore, i_iinc, i_dup, i_dup2, i_pop, i_iadd, i_isub, i_imul, i_idiv, i_irem, i_ineg, i_iand, i_ior, i_ishl, i_ishr, i_lxor, i_ladd, i_lsub, i_lmul, i_ldiv, i_lrem, i_lneg, i_lshl, i_lcmp, i_i2l, i_l2i, i_i2b, i_i2s, i_ifeq, i_ifne, i_iflt, i_ifge, i_ifgt, i_ifle, i_cmpeq, i_cmpne, i_cmplt, i_cmpge, i_cmpgt, i_cmple, i_acmpeq, i_acmpne, i_ifnull, i_ifnonnull, i_getI, i_getR, i_putI, i_putZ, i_putR, i_ald, i_ldL, i_ldR, i_ast, i_stL, i_stR, i_alen, i_new, i_newa, i_iret, i_zret, i_lret, i_aret, i_vret, i_raise, i_throw, i_recv, i_objinit, i_tsw3, lget, lset, lput1, lput2, lkil, ltrim, largs, isL, takev, dropv, nthv, pushO, catv, gd, true_and, and_true, Option.some.injEq, Prod.mk.injEq, exists_eq_left', if_true, if_false, reduceCtorEq, Bool.false_eq_true, lcmp_ge, lcmp_lt, lcmp_le, lcmp_gt, lcmp_eq, true_or, or_true, not_true_eq_false, not_false_eq_true, false_implies, true_implies, List.length_cons, List.length_nil, M1, e57, r1, r2, rra, rr1, ca1, ca3, hs]
      repeat (first | refine ⟨in_small (by omega) (by omega), ?_⟩ | (show (_ → _) ∧ (_ → _); first | refine ⟨by omega, fun _ => ?_⟩ | refine ⟨fun _ => ?_, by omega⟩) | refine ⟨by omega, ?_⟩ | refine ⟨⟨_, rfl, by assumption⟩, ?_⟩ | refine ⟨okT_I _, ?_⟩ | refine ⟨okT_S (by omega) (by omega), ?_⟩ | refine ⟨okT_B (by omega) (by omega), ?_⟩ | refine call0 (gd_of rfl) ?_)
      refine ⟨fun z => ?_, fun z => ?_⟩
      · have hV0 : V r a = 0 := Int.sign_eq_zero_iff_zero.mp z
        have hR0 := (hm2.zero ha hn).mp hV0
        refine next D1 (V r) (fun _ _ _ _ _ => rfl) zr ?_
        have e : gjR st.1 st.2.1 (spX st (mulV I u)) (tc a) r = st.2.1 r := by
          funext y
          unfold gjR
          rw [if_pos (show r < st.1 by omega), hR0]; grind
        rw [e]; exact hm2
      · have hV0 : V r a ≠ 0 := fun w => by rw [w] at z; exact z rfl
        repeat (first | refine ⟨in_small (by omega) (by omega), ?_⟩ | (show (_ → _) ∧ (_ → _); first | refine ⟨by omega, fun _ => ?_⟩ | refine ⟨fun _ => ?_, by omega⟩) | refine ⟨by omega, ?_⟩ | refine ⟨⟨_, rfl, by assumption⟩, ?_⟩ | refine ⟨okT_I _, ?_⟩ | refine ⟨okT_S (by omega) (by omega), ?_⟩ | refine ⟨okT_B (by omega) (by omega), ?_⟩ | refine call0 (gd_of rfl) ?_)
        refine sp_X16_takeAway (c := a) hm hw rrn rn (by omega) (by omega) (by omega) zr f4 (fun j hj => Int.lt_of_lt_of_le (hbR r (by omega) j hj) (pw_mono (by omega))) hWb (by omega) hV0 hWa rfl fun D2 V' g1 g2 g3 g4 => ?_
        simp only [P_X16_use, i_kil, i_icon, i_lcon, i_null, i_loadI, i_loadL, i_loadR, i_istore, i_lstore, i_astore, i_iinc, i_dup, i_dup2, i_pop, i_iadd, i_isub, i_imul, i_idiv, i_irem, i_ineg, i_iand, i_ior, i_ishl, i_ishr, i_lxor, i_ladd, i_lsub, i_lmul, i_ldiv, i_lrem, i_lneg, i_lshl, i_lcmp, i_i2l, i_l2i, i_i2b, i_i2s, i_ifeq, i_ifne, i_iflt, i_ifge, i_ifgt, i_ifle, i_cmpeq, i_cmpne, i_cmplt, i_cmpge, i_cmpgt, i_cmple, i_acmpeq, i_acmpne, i_ifnull, i_ifnonnull, i_getI, i_getR, i_putI, i_putZ, i_putR, i_ald, i_ldL, i_ldR, i_ast, i_stL, i_stR, i_alen, i_new, i_newa, i_iret, i_zret, i_lret, i_aret, i_vret, i_raise, i_throw, i_recv, i_objinit, i_tsw3, lget, lset, lput1, lput2, lkil, ltrim, largs, isL, takev, dropv, nthv, pushO, catv, gd, true_and, and_true, Option.some.injEq, Prod.mk.injEq, exists_eq_left', if_true, if_false, reduceCtorEq, Bool.false_eq_true, lcmp_ge, lcmp_lt, lcmp_le, lcmp_gt, lcmp_eq, true_or, or_true, not_true_eq_false, not_false_eq_true, false_implies, true_implies, List.length_cons, List.length_nil]
        refine next D2 V' g1 g2 ?_
        have hst := mrow.step hm2 hWm ha hn hWa g4 ⟨pm r, by omega, ?_⟩
        · have e : (fun y => st.2.1 r y - st.2.1 r (tc a) / spX st (mulV I u) (tc a) * spX st (mulV I u) y) = gjR st.1 st.2.1 (spX st (mulV I u)) (tc a) r := by
            funext y
            unfold gjR
            rw [if_pos (show r < st.1 by omega), Rat.div_def, Rat.div_def]; grind
          rw [e] at hst; exact hst
        · rw [mpx_col hp1 hn, mpx_col hp1 hn, hp2, spX_piv hO (by omega)]
          have := (hO.piv (a := r) (by omega)).2.2 r (by omega)
          rw [if_pos rfl] at this
          rw [this, Rat.mul_zero]; decide +kernel
  -- the first column
  have first : ∀ (W : Nat → Int) (D1 : Dat), (∀ x y, (x ≤ M ∨ M + 16 < x) → (x < vb ∨ vb + 139 < x) → (x < M + 10781 ∨ M + 10788 < x) → D1 x y = D x y) → zrow D1 vb W → mrow n tc (spX st (mulV I u)) W → ∀ (L a : Nat), a + L = n → (∀ j, j < a → W j = 0) → Wp P_X16_use E 5 [some (aR M), some (aI i), some (aI (tcode u)), some (aR (M + 5702 + 141 * st.1)), some (aI a)] [] B S D1 := by
    intro W D1 f1 f2 f3 L
    have e49 : D1 M 49 = n := by rw [f1 _ _ (by omega) (by omega) (by omega)]; exact hCn
    have rows : ∀ D2 : Dat, (∀ x y, x ≠ M + 10778 → D2 x y = D1 x y) → ∀ y : Nat, y < st.1 → zrow D2 (M + 5703 + 141 * y) (V y) := fun D2 g y hy => (s4 y hy).1.congr fun x z b1 b2 => by rw [g x z (by omega), f1 x z (by omega) (by omega) (by omega)]
    have six : ∀ a : Nat, a ≤ n → (∀ j, j < a → W j = 0) → (a = n ∨ W a ≠ 0) → Wp P_X16_use E 6 [some (aR M), some (aI i), some (aI (tcode u)), some (aR (M + 5702 + 141 * st.1)), some (aI a)] [] B S D1 := fun a h1 h2 h3 => by
      by_cases w : a = n
      · have hl : leadI c g (spX st (mulV I u)) 455 = -7 := leadI_none ho fun t ht => by
          rcases Nat.lt_or_ge d (tdg t) with x | x
          · exact spX_zd s3 hvd st.1 (Nat.le_refl _) t ht x
          · obtain ⟨q, hq, rfl⟩ := hC.2.2.1 t ht x
            exact (f3.zero hq hn).mp (h2 q (by omega))
        refine wp_in ?_
        simp only [P_X16_use, i_kil, i_icon, i_lcon, i_null, i_loadI, i_loadL, i_loadR, i_istore, i_lstore, i_astore, i_iinc, i_dup, i_dup2, i_pop, i_iadd, i_isub, i_imul, i_idiv, i_irem, i_ineg, i_iand, i_ior, i_ishl, i_ishr, i_lxor, i_ladd, i_lsub, i_lmul, i_ldiv, i_lrem, i_lneg, i_lshl, i_lcmp, i_i2l, i_l2i, i_i2b, i_i2s, i_ifeq, i_ifne, i_iflt, i_ifge, i_ifgt, i_ifle, i_cmpeq, i_cmpne, i_cmplt, i_cmpge, i_cmpgt, i_cmple, i_acmpeq, i_acmpne, i_ifnull, i_ifnonnull, i_getI, i_getR, i_putI, i_putZ, i_putR, i_ald, i_ldL, i_ldR, i_ast, i_stL, i_stR, i_alen, i_new, i_newa, i_iret, i_zret, i_lret, i_aret, i_vret, i_raise, i_throw, i_recv, i_objinit, i_tsw3, lget, lset, lput1, lput2, lkil, ltrim, largs, isL, takev, dropv, nthv, pushO, catv, gd, true_and, and_true, Option.some.injEq, Prod.mk.injEq, exists_eq_left', if_true, if_false, reduceCtorEq, Bool.false_eq_true, lcmp_ge, lcmp_lt, lcmp_le, lcmp_gt, lcmp_eq, true_or, or_true, not_true_eq_false, not_false_eq_true, false_implies, true_implies, List.length_cons, List.length_nil, M1, e49]
        repeat (first | refine ⟨in_small (by omega) (by omega), ?_⟩ | (show (_ → _) ∧ (_ → _); first | refine ⟨by omega, fun _ => ?_⟩ | refine ⟨fun _ => ?_, by omega⟩) | refine ⟨by omega, ?_⟩ | refine ⟨⟨_, rfl, by assumption⟩, ?_⟩ | refine ⟨okT_I _, ?_⟩ | refine ⟨okT_S (by omega) (by omega), ?_⟩ | refine ⟨okT_B (by omega) (by omega), ?_⟩ | refine call0 (gd_of rfl) ?_)
        refine K D1 V pm (fun x y a1 a2 a3 a4 a5 => f1 x y a1 (by omega) a5) ?_
        unfold spTake
        rw [if_pos hl]
        refine ⟨by rw [f1 _ _ (by omega) (by omega) (by omega)]; exact s1, by rw [f1 _ _ (by omega) (by omega) (by omega)]; exact s2, s3, fun y hy => ?_⟩
        obtain ⟨-, x2, x3, x5, x6, x7⟩ := s4 y hy
        exact ⟨rows D1 (fun _ _ _ => rfl) y hy, x2, x3, by rw [f1 _ _ (by omega) (by omega) (by omega)]; exact x5, by rw [f1 _ _ (by omega) (by omega) (by omega)]; exact x6, by rw [f1 _ _ (by omega) (by omega) (by omega)]; exact x7⟩
      · have han : a < n := by omega
        have hl : isLead c g (spX st (mulV I u)) (tc a) := by
          refine ⟨(hC.1 a han).1, fun q => ?_, fun t ht ht0 hne => ?_⟩
          · rcases h3 with x | x
            · exact w x
            · exact x ((f3.zero han hn).mpr q)
          · rcases Nat.lt_or_ge d (tdg t) with x | x
            · exact absurd (spX_zd s3 hvd st.1 (Nat.le_refl _) t ht x) ht0
            · obtain ⟨q, hq, rfl⟩ := hC.2.2.1 t ht x
              rcases Nat.lt_trichotomy q a with y | y | y
              · exact absurd ((f3.zero hq hn).mp (h2 q y)) ht0
              · rw [y] at hne; exact absurd rfl hne
              · exact hC.2.1 a q y hq
        have e57 : D1 M 57 = st.1 := by rw [f1 _ _ (by omega) (by omega) (by omega)]; exact s2
        refine wp_in ?_
        simp only [P_X16_use, i_kil, i_icon, i_lcon, i_null, i_loadI, i_loadL, i_loadR, i_istore, i_lstore, i_astore, i_iinc, i_dup, i_dup2, i_pop, i_iadd, i_isub, i_imul, i_idiv, i_irem, i_ineg, i_iand, i_ior, i_ishl, i_ishr, i_lxor, i_ladd, i_lsub, i_lmul, i_ldiv, i_lrem, i_lneg, i_lshl, i_lcmp, i_i2l, i_l2i, i_i2b, i_i2s, i_ifeq, i_ifne, i_iflt, i_ifge, i_ifgt, i_ifle, i_cmpeq, i_cmpne, i_cmplt, i_cmpge, i_cmpgt, i_cmple, i_acmpeq, i_acmpne, i_ifnull, i_ifnonnull, i_getI, i_getR, i_putI, i_putZ, i_putR, i_ald, i_ldL, i_ldR, i_ast, i_stL, i_stR, i_alen, i_new, i_newa, i_iret, i_zret, i_lret, i_aret, i_vret, i_raise, i_throw, i_recv, i_objinit, i_tsw3, lget, lset, lput1, lput2, lkil, ltrim, largs, isL, takev, dropv, nthv, pushO, catv, gd, true_and, and_true, Option.some.injEq, Prod.mk.injEq, exists_eq_left', if_true, if_false, reduceCtorEq, Bool.false_eq_true, lcmp_ge, lcmp_lt, lcmp_le, lcmp_gt, lcmp_eq, true_or, or_true, not_true_eq_false, not_false_eq_true, false_implies, true_implies, List.length_cons, List.length_nil, M1, e49, p1, p2, e57]
        repeat (first | refine ⟨in_small (by omega) (by omega), ?_⟩ | (show (_ → _) ∧ (_ → _); first | refine ⟨by omega, fun _ => ?_⟩ | refine ⟨fun _ => ?_, by omega⟩) | refine ⟨by omega, ?_⟩ | refine ⟨⟨_, rfl, by assumption⟩, ?_⟩ | refine ⟨okT_I _, ?_⟩ | refine ⟨okT_S (by omega) (by omega), ?_⟩ | refine ⟨okT_B (by omega) (by omega), ?_⟩ | refine call0 (gd_of rfl) ?_)
        have fr : ∀ x y, x ≠ M + 10778 → pmu D1 (M + 10778) (st.1 : Int) (a : Int) x y = D1 x y := fun x y h => by simp only [pmu]; rw [if_neg (fun w => h w.1)]
        refine turn W a han f3 hl st.1 0 _ V (by omega) (fun x y a1 a2 a3 a4 => by rw [fr x y a2]; exact f1 x y a1 (by omega) a4) (fun y hy => ?_) (by simp [pmu]) (f2.congr fun x y b1 b2 => fr x y (by omega)) (fun y hy => by omega) fun y _ hy => rows _ fr y hy
        simp only [pmu]
        rw [if_neg (fun w => by omega), f1 _ _ (by omega) (by omega) (by omega)]
        exact (s4 y hy).2.2.2.1
    induction L with
    | zero =>
      intro a ha h0
      have : a = n := by omega
      refine wp_in ?_
      simp only [P_X16_use, i_kil, i_icon, i_lcon, i_null, i_loadI, i_loadL, i_loadR, i_istore, i_lstore, i_astore, i_iinc, i_dup, i_dup2, i_pop, i_iadd, i_isub, i_imul, i_idiv, i_irem, i_ineg, i_iand, i_ior, i_ishl, i_ishr, i_lxor, i_ladd, i_lsub, i_lmul, i_ldiv, i_lrem, i_lneg, i_lshl, i_lcmp, i_i2l, i_l2i, i_i2b, i_i2s, i_ifeq, i_ifne, i_iflt, i_ifge, i_ifgt, i_ifle, i_cmpeq, i_cmpne, i_cmplt, i_cmpge, i_cmpgt, i_cmple, i_acmpeq, i_acmpne, i_ifnull, i_ifnonnull, i_getI, i_getR, i_putI, i_putZ, i_putR, i_ald, i_ldL, i_ldR, i_ast, i_stL, i_stR, i_alen, i_new, i_newa, i_iret, i_zret, i_lret, i_aret, i_vret, i_raise, i_throw, i_recv, i_objinit, i_tsw3, lget, lset, lput1, lput2, lkil, ltrim, largs, isL, takev, dropv, nthv, pushO, catv, gd, true_and, and_true, Option.some.injEq, Prod.mk.injEq, exists_eq_left', if_true, if_false, reduceCtorEq, Bool.false_eq_true, lcmp_ge, lcmp_lt, lcmp_le, lcmp_gt, lcmp_eq, true_or, or_true, not_true_eq_false, not_false_eq_true, false_implies, true_implies, List.length_cons, List.length_nil, M1, e49]
      repeat (first | refine ⟨in_small (by omega) (by omega), ?_⟩ | (show (_ → _) ∧ (_ → _); first | refine ⟨by omega, fun _ => ?_⟩ | refine ⟨fun _ => ?_, by omega⟩) | refine ⟨by omega, ?_⟩ | refine ⟨⟨_, rfl, by assumption⟩, ?_⟩ | refine ⟨okT_I _, ?_⟩ | refine ⟨okT_S (by omega) (by omega), ?_⟩ | refine ⟨okT_B (by omega) (by omega), ?_⟩ | refine call0 (gd_of rfl) ?_)
      exact six a (by omega) h0 (.inl this)
    | succ L ih =>
      intro a ha h0
      obtain ⟨ca1, ca2⟩ := rn.2 a (by omega)
      have ca3 := ca2.1
      have hs := wD_nn (f2 a (by omega))
      refine wp_in ?_
      simp only [P_X16_use, i_kil, i_icon, i_lcon, i_null, i_loadI, i_loadL, i_loadR, i_istore, i_lstore, i_astore, i_iinc, i_dup, i_dup2, i_pop, i_iadd, i_isub, i_imul, i_idiv, i_irem, i_ineg, i_iand, i_ior, i_ishl, i_ishr, i_lxor, i_ladd, i_lsub, i_lmul, i_ldiv, i_lrem, i_lneg, i_lshl, i_lcmp, i_i2l, i_l2i, i_i2b, i_i2s, i_ifeq, i_ifne, i_iflt, i_ifge, i_ifgt, i_ifle, i_cmpeq, i_cmpne, i_cmplt, i_cmpge, i_cmpgt, i_cmple, i_acmpeq, i_acmpne, i_ifnull, i_ifnonnull, i_getI, i_getR, i_putI, i_putZ, i_putR, i_ald, i_ldL, i_ldR, i_ast, i_stL, i_stR, i_alen, i_new, i_newa, i_iret, i_zret, i_lret, i_aret, i_vret, i_raise, i_throw, i_recv, i_objinit, i_tsw3, lget, lset, lput1, lput2, lkil, ltrim, largs, isL, takev, dropv, nthv, pushO, catv, gd, true_and, and_true, Option.some.injEq, Prod.mk.injEq, exists_eq_left', if_true, if_false, reduceCtorEq, Bool.false_eq_true, lcmp_ge, lcmp_lt, lcmp_le, lcmp_gt, lcmp_eq, true_or, or_true, not_true_eq_false, not_false_eq_true, false_implies, true_implies, List.length_cons, List.length_nil, M1, e49, N1, ca1, ca3, hs]
      repeat (first | refine ⟨in_small (by omega) (by omega), ?_⟩ | (show (_ → _) ∧ (_ → _); first | refine ⟨by omega, fun _ => ?_⟩ | refine ⟨fun _ => ?_, by omega⟩) | refine ⟨by omega, ?_⟩ | refine ⟨⟨_, rfl, by assumption⟩, ?_⟩ | refine ⟨okT_I _, ?_⟩ | refine ⟨okT_S (by omega) (by omega), ?_⟩ | refine ⟨okT_B (by omega) (by omega), ?_⟩ | refine call0 (gd_of rfl) ?_)
      refine ⟨fun z => ?_, fun z => ?_⟩
      · have hW0 : W a ≠ 0 := fun w => by rw [w] at z; exact z rfl
        exact six a (by omega) h0 (.inr hW0)
      · have hW0 : W a = 0 := Int.sign_eq_zero_iff_zero.mp z
        repeat (first | refine ⟨in_small (by omega) (by omega), ?_⟩ | (show (_ → _) ∧ (_ → _); first | refine ⟨by omega, fun _ => ?_⟩ | refine ⟨fun _ => ?_, by omega⟩) | refine ⟨by omega, ?_⟩ | refine ⟨⟨_, rfl, by assumption⟩, ?_⟩ | refine ⟨okT_I _, ?_⟩ | refine ⟨okT_S (by omega) (by omega), ?_⟩ | refine ⟨okT_B (by omega) (by omega), ?_⟩ | refine call0 (gd_of rfl) ?_)
        refine ih (a + 1) (by omega) fun j hj => ?_
        by_cases y : j = a
        · rw [y]; exact hW0
        · exact h0 j (by omega)
  -- what stood is taken off
  have less : ∀ (L r : Nat) (W : Nat → Int) (D1 : Dat), r + L = st.1 → (∀ x y, (x ≤ M ∨ M + 16 < x) → (x < vb ∨ vb + 139 < x) → (x < M + 10781 ∨ M + 10788 < x) → D1 x y = D x y) → zrow D1 vb W → mrow n tc (xred st.2.1 st.2.2.1 (spV (mulV I u) st.1) r) W → Wp P_X16_use E 3 [some (aR M), some (aI i), some (aI (tcode u)), some (aR (M + 5702 + 141 * st.1)), some (aI r)] [] B S D1 := by
    intro L
    induction L with
    | zero =>
      intro r W D1 hr f1 f2 f3
      have : r = st.1 := by omega
      subst this
      have e57 : D1 M 57 = st.1 := by rw [f1 _ _ (by omega) (by omega) (by omega)]; exact s2
      refine wp_in ?_
      simp only [P_X16_use, i_kil, i_icon, i_lcon, i_null, i_loadI, i_loadL, i_loadR, i_istore, i_lstore, i_astore, i_iinc, i_dup, i_dup2, i_pop, i_iadd, i_isub, i_imul, i_idiv, i_irem, i_ineg, i_iand, i_ior, i_ishl, i_ishr, i_lxor, i_ladd, i_lsub, i_lmul, i_ldiv, i_lrem, i_lneg, i_lshl, i_lcmp, i_i2l, i_l2i, i_i2b, i_i2s, i_ifeq, i_ifne, i_iflt, i_ifge, i_ifgt, i_ifle, i_cmpeq, i_cmpne, i_cmplt, i_cmpge, i_cmpgt, i_cmple, i_acmpeq, i_acmpne, i_ifnull, i_ifnonnull, i_getI, i_getR, i_putI, i_putZ, i_putR, i_ald, i_ldL, i_ldR, i_ast, i_stL, i_stR, i_alen, i_new, i_newa, i_iret, i_zret, i_lret, i_aret, i_vret, i_raise, i_throw, i_recv, i_objinit, i_tsw3, lget, lset, lput1, lput2, lkil, ltrim, largs, isL, takev, dropv, nthv, pushO, catv, gd, true_and, and_true, Option.some.injEq, Prod.mk.injEq, exists_eq_left', if_true, if_false, reduceCtorEq, Bool.false_eq_true, lcmp_ge, lcmp_lt, lcmp_le, lcmp_gt, lcmp_eq, true_or, or_true, not_true_eq_false, not_false_eq_true, false_implies, true_implies, List.length_cons, List.length_nil, M1, e57]
      repeat (first | refine ⟨in_small (by omega) (by omega), ?_⟩ | (show (_ → _) ∧ (_ → _); first | refine ⟨by omega, fun _ => ?_⟩ | refine ⟨fun _ => ?_, by omega⟩) | refine ⟨by omega, ?_⟩ | refine ⟨⟨_, rfl, by assumption⟩, ?_⟩ | refine ⟨okT_I _, ?_⟩ | refine ⟨okT_S (by omega) (by omega), ?_⟩ | refine ⟨okT_B (by omega) (by omega), ?_⟩ | refine call0 (gd_of rfl) ?_)
      exact first W D1 f1 f2 f3 n 0 (by omega) fun j hj => by omega
    | succ L ih =>
      intro r W D1 hr f1 f2 f3
      obtain ⟨x1, x2, ⟨x3, x4⟩, x5, x6, x7⟩ := s4 r (by omega)
      obtain ⟨rra, rrn⟩ := r3 r (by omega)
      have rr1 := rrn.1
      have e57 : D1 M 57 = st.1 := by rw [f1 _ _ (by omega) (by omega) (by omega)]; exact s2
      have ep : D1 (M + 10778) r = pm r := by rw [f1 _ _ (by omega) (by omega) (by omega)]; exact x5
      obtain ⟨ca1, ca2⟩ := rn.2 (pm r) (by omega)
      have ca3 := ca2.1
      have hs := wD_nn (f2 (pm r) (by omega))
      have next : ∀ (D2 : Dat) (W' : Nat → Int), (∀ x y, (x ≤ M ∨ M + 16 < x) → (x < vb ∨ vb + 139 < x) → (x < M + 10781 ∨ M + 10788 < x) → D2 x y = D1 x y) → zrow D2 vb W' → mrow n tc (xred st.2.1 st.2.2.1 (spV (mulV I u) st.1) (r + 1)) W' → Wp P_X16_use E 4 [some (aR M), some (aI i), some (aI (tcode u)), some (aR (M + 5702 + 141 * st.1)), some (aI r)] [] B S D2 := fun D2 W' g1 g2 g3 => by
        refine wp_in ?_
        simp only [P_X16_use, i_kil, i_icon, i_lcon, i_null, i_loadI, i_loadL, i_loadR, i_istore, i_lstore, i_astore, i_iinc, i_dup, i_dup2, i_pop, i_iadd, i_isub, i_imul, i_idiv, i_irem, i_ineg, i_iand, i_ior, i_ishl, i_ishr, i_lxor, i_ladd, i_lsub, i_lmul, i_ldiv, i_lrem, i_lneg, i_lshl, i_lcmp, i_i2l, i_l2i, i_i2b, i_i2s, i_ifeq, i_ifne, i_iflt, i_ifge, i_ifgt, i_ifle, i_cmpeq, i_cmpne, i_cmplt, i_cmpge, i_cmpgt, i_cmple, i_acmpeq, i_acmpne, i_ifnull, i_ifnonnull, i_getI, i_getR, i_putI, i_putZ, i_putR, i_ald, i_ldL, i_ldR, i_ast, i_stL, i_stR, i_alen, i_new, i_newa, i_iret, i_zret, i_lret, i_aret, i_vret, i_raise, i_throw, i_recv, i_objinit, i_tsw3, lget, lset, lput1, lput2, lkil, ltrim, largs, isL, takev, dropv, nthv, pushO, catv, gd, true_and, and_true, Option.some.injEq, Prod.mk.injEq, exists_eq_left', if_true, if_false, reduceCtorEq, Bool.false_eq_true, lcmp_ge, lcmp_lt, lcmp_le, lcmp_gt, lcmp_eq, true_or, or_true, not_true_eq_false, not_false_eq_true, false_implies, true_implies, List.length_cons, List.length_nil]
        repeat (first | refine ⟨in_small (by omega) (by omega), ?_⟩ | (show (_ → _) ∧ (_ → _); first | refine ⟨by omega, fun _ => ?_⟩ | refine ⟨fun _ => ?_, by omega⟩) | refine ⟨by omega, ?_⟩ | refine ⟨⟨_, rfl, by assumption⟩, ?_⟩ | refine ⟨okT_I _, ?_⟩ | refine ⟨okT_S (by omega) (by omega), ?_⟩ | refine ⟨okT_B (by omega) (by omega), ?_⟩ | refine call0 (gd_of rfl) ?_)
        exact ih (r + 1) W' D2 (by omega) (fun x y a1 a2 a3 => by rw [g1 x y a1 a2 a3]; exact f1 x y a1 a2 a3) g2 g3
      refine wp_in ?_
      simp only [P_X16_use, i_kil, i_icon, i_lcon, i_null, i_loadI, i_loadL, i_loadR, i_istore, i_lstore, i_astore, i_iinc, i_dup, i_dup2, i_pop, i_iadd, i_isub, i_imul, i_idiv, i_irem, i_ineg, i_iand, i_ior, i_ishl, i_ishr, i_lxor, i_ladd, i_lsub, i_lmul, i_ldiv, i_lrem, i_lneg, i_lshl, i_lcmp, i_i2l, i_l2i, i_i2b, i_i2s, i_ifeq, i_ifne, i_iflt, i_ifge, i_ifgt, i_ifle, i_cmpeq, i_cmpne, i_cmplt, i_cmpge, i_cmpgt, i_cmple, i_acmpeq, i_acmpne, i_ifnull, i_ifnonnull, i_getI, i_getR, i_putI, i_putZ, i_putR, i_ald, i_ldL, i_ldR, i_ast, i_stL, i_stR, i_alen, i_new, i_newa, i_iret, i_zret, i_lret, i_aret, i_vret, i_raise, i_throw, i_recv, i_objinit, i_tsw3, lget, lset, lput1, lput2, lkil, ltrim, largs, isL, takev, dropv, nthv, pushO, catv, gd, true_and, and_true, Option.some.injEq, Prod.mk.injEq, exists_eq_left', if_true, if_false, reduceCtorEq, Bool.false_eq_true, lcmp_ge, lcmp_lt, lcmp_le, lcmp_gt, lcmp_eq, true_or, or_true, not_true_eq_false, not_false_eq_true, false_implies, true_implies, List.length_cons, List.length_nil, M1, e57, p1, p2, ep, N1, ca1, ca3, hs, r1, r2, rra]
      repeat (first | refine ⟨in_small (by omega) (by omega), ?_⟩ | (show (_ → _) ∧ (_ → _); first | refine ⟨by omega, fun _ => ?_⟩ | refine ⟨fun _ => ?_, by omega⟩) | refine ⟨by omega, ?_⟩ | refine ⟨⟨_, rfl, by assumption⟩, ?_⟩ | refine ⟨okT_I _, ?_⟩ | refine ⟨okT_S (by omega) (by omega), ?_⟩ | refine ⟨okT_B (by omega) (by omega), ?_⟩ | refine call0 (gd_of rfl) ?_)
      refine ⟨fun z => ?_, fun z => ?_⟩
      · have hW0 : W (pm r) = 0 := Int.sign_eq_zero_iff_zero.mp z
        have hX0 := (f3.zero x3 hn).mp hW0
        refine next D1 W (fun _ _ _ _ _ => rfl) f2 ?_
        have hx := xred_piv (R := st.2.1) (P := st.2.2.1) (v := spV (mulV I u) st.1) (m := st.1) (a := r) (fun a ha b hb => (hO.piv ha).2.2 b hb) (by omega) r (by omega)
        rw [if_neg (Nat.lt_irrefl _), ← x4, hX0] at hx
        have e : xred st.2.1 st.2.2.1 (spV (mulV I u) st.1) (r + 1) = xred st.2.1 st.2.2.1 (spV (mulV I u) st.1) r := by
          funext y
          simp only [xred]
          rw [← x4, ← hx]; grind
        rw [e]; exact f3
      · have hW0 : W (pm r) ≠ 0 := fun w => by rw [w] at z; exact z rfl
        have hY0 : V r (pm r) ≠ 0 := fun w => by
          have h1 := (x2.zero x3 hn).mp w
          have h2 := (hO.piv (a := r) (by omega)).2.2 r (by omega)
          rw [if_pos rfl, ← x4, h1] at h2
          exact absurd h2 (by decide)
        repeat (first | refine ⟨in_small (by omega) (by omega), ?_⟩ | (show (_ → _) ∧ (_ → _); first | refine ⟨by omega, fun _ => ?_⟩ | refine ⟨fun _ => ?_, by omega⟩) | refine ⟨by omega, ?_⟩ | refine ⟨⟨_, rfl, by assumption⟩, ?_⟩ | refine ⟨okT_I _, ?_⟩ | refine ⟨okT_S (by omega) (by omega), ?_⟩ | refine ⟨okT_B (by omega) (by omega), ?_⟩ | refine call0 (gd_of rfl) ?_)
        refine sp_X16_takeAway (c := pm r) hm hw rn rrn (by omega) (by omega) (by omega) f2 (x1.congr fun x y b1 b2 => f1 x y (by omega) (by omega) (by omega)) (hbB r (by omega) W f3) (hbR r (by omega)) (by omega) hW0 hY0 rfl fun D2 W' g1 g2 g3 g4 => ?_
        simp only [P_X16_use, i_kil, i_icon, i_lcon, i_null, i_loadI, i_loadL, i_loadR, i_istore, i_lstore, i_astore, i_iinc, i_dup, i_dup2, i_pop, i_iadd, i_isub, i_imul, i_idiv, i_irem, i_ineg, i_iand, i_ior, i_ishl, i_ishr, i_lxor, i_ladd, i_lsub, i_lmul, i_ldiv, i_lrem, i_lneg, i_lshl, i_lcmp, i_i2l, i_l2i, i_i2b, i_i2s, i_ifeq, i_ifne, i_iflt, i_ifge, i_ifgt, i_ifle, i_cmpeq, i_cmpne, i_cmplt, i_cmpge, i_cmpgt, i_cmple, i_acmpeq, i_acmpne, i_ifnull, i_ifnonnull, i_getI, i_getR, i_putI, i_putZ, i_putR, i_ald, i_ldL, i_ldR, i_ast, i_stL, i_stR, i_alen, i_new, i_newa, i_iret, i_zret, i_lret, i_aret, i_vret, i_raise, i_throw, i_recv, i_objinit, i_tsw3, lget, lset, lput1, lput2, lkil, ltrim, largs, isL, takev, dropv, nthv, pushO, catv, gd, true_and, and_true, Option.some.injEq, Prod.mk.injEq, exists_eq_left', if_true, if_false, reduceCtorEq, Bool.false_eq_true, lcmp_ge, lcmp_lt, lcmp_le, lcmp_gt, lcmp_eq, true_or, or_true, not_true_eq_false, not_false_eq_true, false_implies, true_implies, List.length_cons, List.length_nil]
        exact next D2 W' g1 g2 (mrow_red ho hC hO hk35 (by omega) x3 x4 f3 x2 g4)
  -- the multiple's numbers
  have puts : ∀ (L a : Nat) (D1 : Dat), a + L = m → (∀ x y, (x < vb ∨ vb + 139 < x) → D1 x y = D x y) → zrow D1 vb (wrow I e col a) → Wp P_X16_use E 2 [some (aR M), some (aI i), some (aI (tcode u)), some (aR (M + 5702 + 141 * st.1)), some (aI (12 * (i : Int) + a))] [] B S D1 := by
    intro L
    induction L with
    | zero =>
      intro a D1 ha f1 f2
      have : a = m := by omega
      subst this
      have em : D1 (M + 4218) i = (a : Int) := by rw [f1 _ _ (by omega)]; exact q2
      have e52 : D1 M 52 = st.1 := by rw [f1 _ _ (by omega)]; exact s1
      obtain ⟨ca1, ca2⟩ := rn.2 (35 + st.1) (by omega)
      rw [show ((35 + st.1 : Nat) : Int) = 35 + (st.1 : Int) by omega] at ca1
      have ca3 := ca2.1
      refine wp_in ?_
      simp only [P_X16_use, i_kil, i_icon, i_lcon, i_null, i_loadI, i_loadL, i_loadR, i_istore, i_lstore, i_astore, i_iinc, i_dup, i_dup2, i_pop, i_iadd, i_isub, i_imul, i_idiv, i_irem, i_ineg, i_iand, i_ior, i_ishl, i_ishr, i_lxor, i_ladd, i_lsub, i_lmul, i_ldiv, i_lrem, i_lneg, i_lshl, i_lcmp, i_i2l, i_l2i, i_i2b, i_i2s, i_ifeq, i_ifne, i_iflt, i_ifge, i_ifgt, i_ifle, i_cmpeq, i_cmpne, i_cmplt, i_cmpge, i_cmpgt, i_cmple, i_acmpeq, i_acmpne, i_ifnull, i_ifnonnull, i_getI, i_getR, i_putI, i_putZ, i_putR, i_ald, i_ldL, i_ldR, i_ast, i_stL, i_stR, i_alen, i_new, i_newa, i_iret, i_zret, i_lret, i_aret, i_vret, i_raise, i_throw, i_recv, i_objinit, i_tsw3, lget, lset, lput1, lput2, lkil, ltrim, largs, isL, takev, dropv, nthv, pushO, catv, gd, true_and, and_true, Option.some.injEq, Prod.mk.injEq, exists_eq_left', if_true, if_false, reduceCtorEq, Bool.false_eq_true, lcmp_ge, lcmp_lt, lcmp_le, lcmp_gt, lcmp_eq, true_or, or_true, not_true_eq_false, not_false_eq_true, false_implies, true_implies, List.length_cons, List.length_nil, M1, i1, i2, em, e52, N1, ca1]
      repeat (first | refine ⟨in_small (by omega) (by omega), ?_⟩ | (show (_ → _) ∧ (_ → _); first | refine ⟨by omega, fun _ => ?_⟩ | refine ⟨fun _ => ?_, by omega⟩) | refine ⟨by omega, ?_⟩ | refine ⟨⟨_, rfl, by assumption⟩, ?_⟩ | refine ⟨okT_I _, ?_⟩ | refine ⟨okT_S (by omega) (by omega), ?_⟩ | refine ⟨okT_B (by omega) (by omega), ?_⟩ | refine call0 (gd_of rfl) ?_)
      refine sp_X17_set (v := 1) ca2 (by omega) (by omega) (by omega) fun D2 g1 g2 => ?_
      simp only [P_X16_use, i_kil, i_icon, i_lcon, i_null, i_loadI, i_loadL, i_loadR, i_istore, i_lstore, i_astore, i_iinc, i_dup, i_dup2, i_pop, i_iadd, i_isub, i_imul, i_idiv, i_irem, i_ineg, i_iand, i_ior, i_ishl, i_ishr, i_lxor, i_ladd, i_lsub, i_lmul, i_ldiv, i_lrem, i_lneg, i_lshl, i_lcmp, i_i2l, i_l2i, i_i2b, i_i2s, i_ifeq, i_ifne, i_iflt, i_ifge, i_ifgt, i_ifle, i_cmpeq, i_cmpne, i_cmplt, i_cmpge, i_cmpgt, i_cmple, i_acmpeq, i_acmpne, i_ifnull, i_ifnonnull, i_getI, i_getR, i_putI, i_putZ, i_putR, i_ald, i_ldL, i_ldR, i_ast, i_stL, i_stR, i_alen, i_new, i_newa, i_iret, i_zret, i_lret, i_aret, i_vret, i_raise, i_throw, i_recv, i_objinit, i_tsw3, lget, lset, lput1, lput2, lkil, ltrim, largs, isL, takev, dropv, nthv, pushO, catv, gd, true_and, and_true, Option.some.injEq, Prod.mk.injEq, exists_eq_left', if_true, if_false, reduceCtorEq, Bool.false_eq_true, lcmp_ge, lcmp_lt, lcmp_le, lcmp_gt, lcmp_eq, true_or, or_true, not_true_eq_false, not_false_eq_true, false_implies, true_implies, List.length_cons, List.length_nil]
      refine less st.1 0 (fun j => if j = 35 + st.1 then 1 else wrow I e col a j) D2 (by omega) (fun x y a1 a2 a3 => by rw [g1 x y (by omega) (by omega)]; exact f1 x y a2) (fun j hj => ?_) ?_
      · by_cases w : j = 35 + st.1
        · show wD 2 1 D2 (vb + 2 * j) (if j = 35 + st.1 then 1 else wrow I e col a j)
          rw [if_pos w, w]; exact g2
        · show wD 2 1 D2 (vb + 2 * j) (if j = 35 + st.1 then 1 else wrow I e col a j)
          rw [if_neg w]
          exact (f2 j hj).congr (fun y => g1 _ _ (by omega) (by omega)) (fun y => g1 _ _ (by omega) (by omega))
      · exact wrow_mul ho hC hd hu hdeg (fun j hj => ⟨(q3 j hj).1, (q3 j hj).2.2.2⟩) q4 q5 (fun j hj => hcol j hj) hk35
    | succ L ih =>
      intro a D1 ha f1 f2
      obtain ⟨t1, t2, t3, t4⟩ := q3 a (by omega)
      obtain ⟨y1, y2⟩ := hcol a (by omega)
      have em : D1 (M + 4218) i = (m : Int) := by rw [f1 _ _ (by omega)]; exact q2
      have e19 : D1 (M + 4219) (12 * (i : Int) + a) = tcode (e a) := by rw [f1 _ _ (by omega)]; exact t2
      have e20 : D1 (M + 4220) (12 * (i : Int) + a) = I (e a) := by rw [f1 _ _ (by omega)]; exact t3
      have hda := hdeg _ t1 t4
      obtain ⟨_, _, _, b4⟩ := tmu_tx (s := e a) (b := u) (by omega)
      have etc : tcode (e a) + tcode u = tcode (tc (col a)) := by rw [y2, tcode_mu (by omega)]
      have l1 := tcode_lim t1
      have l2 := tcode_lim hu
      have l3 := tcode_lim (hC.1 (col a) y1).1
      have eco : D1 (M + 5698) (tcode (tc (col a))) = col a := by rw [f1 _ _ (by omega)]; exact (hCc _ y1).2
      have hv := hW.1 _ t1
      obtain ⟨ca1, ca2⟩ := rn.2 (col a) (by omega)
      have ca3 := ca2.1
      refine wp_in ?_
      simp only [P_X16_use, i_kil, i_icon, i_lcon, i_null, i_loadI, i_loadL, i_loadR, i_istore, i_lstore, i_astore, i_iinc, i_dup, i_dup2, i_pop, i_iadd, i_isub, i_imul, i_idiv, i_irem, i_ineg, i_iand, i_ior, i_ishl, i_ishr, i_lxor, i_ladd, i_lsub, i_lmul, i_ldiv, i_lrem, i_lneg, i_lshl, i_lcmp, i_i2l, i_l2i, i_i2b, i_i2s, i_ifeq, i_ifne, i_iflt, i_ifge, i_ifgt, i_ifle, i_cmpeq, i_cmpne, i_cmplt, i_cmpge, i_cmpgt, i_cmple, i_acmpeq, i_acmpne, i_ifnull, i_ifnonnull, i_getI, i_getR, i_putI, i_putZ, i_putR, i_ald, i_ldL, i_ldR, i_ast, i_stL, i_stR, i_alen, i_new, i_newa, i_iret, i_zret, i_lret, i_aret, i_vret, i_raise, i_throw, i_recv, i_objinit, i_tsw3, lget, lset, lput1, lput2, lkil, ltrim, largs, isL, takev, dropv, nthv, pushO, catv, gd, true_and, and_true, Option.some.injEq, Prod.mk.injEq, exists_eq_left', if_true, if_false, reduceCtorEq, Bool.false_eq_true, lcmp_ge, lcmp_lt, lcmp_le, lcmp_gt, lcmp_eq, true_or, or_true, not_true_eq_false, not_false_eq_true, false_implies, true_implies, List.length_cons, List.length_nil, M1, i1, i2, em, j1, j2, k1, k2, e19, e20, etc, c3, c4', eco, N1, ca1]
      repeat (first | refine ⟨in_small (by omega) (by omega), ?_⟩ | (show (_ → _) ∧ (_ → _); first | refine ⟨by omega, fun _ => ?_⟩ | refine ⟨fun _ => ?_, by omega⟩) | refine ⟨by omega, ?_⟩ | refine ⟨⟨_, rfl, by assumption⟩, ?_⟩ | refine ⟨okT_I _, ?_⟩ | refine ⟨okT_S (by omega) (by omega), ?_⟩ | refine ⟨okT_B (by omega) (by omega), ?_⟩ | refine call0 (gd_of rfl) ?_)
      refine sp_X17_set (v := I (e a)) ca2 (by omega) (by omega) (by omega) fun D2 g1 g2 => ?_
      simp only [P_X16_use, i_kil, i_icon, i_lcon, i_null, i_loadI, i_loadL, i_loadR, i_istore, i_lstore, i_astore, i_iinc, i_dup, i_dup2, i_pop, i_iadd, i_isub, i_imul, i_idiv, i_irem, i_ineg, i_iand, i_ior, i_ishl, i_ishr, i_lxor, i_ladd, i_lsub, i_lmul, i_ldiv, i_lrem, i_lneg, i_lshl, i_lcmp, i_i2l, i_l2i, i_i2b, i_i2s, i_ifeq, i_ifne, i_iflt, i_ifge, i_ifgt, i_ifle, i_cmpeq, i_cmpne, i_cmplt, i_cmpge, i_cmpgt, i_cmple, i_acmpeq, i_acmpne, i_ifnull, i_ifnonnull, i_getI, i_getR, i_putI, i_putZ, i_putR, i_ald, i_ldL, i_ldR, i_ast, i_stL, i_stR, i_alen, i_new, i_newa, i_iret, i_zret, i_lret, i_aret, i_vret, i_raise, i_throw, i_recv, i_objinit, i_tsw3, lget, lset, lput1, lput2, lkil, ltrim, largs, isL, takev, dropv, nthv, pushO, catv, gd, true_and, and_true, Option.some.injEq, Prod.mk.injEq, exists_eq_left', if_true, if_false, reduceCtorEq, Bool.false_eq_true, lcmp_ge, lcmp_lt, lcmp_le, lcmp_gt, lcmp_eq, true_or, or_true, not_true_eq_false, not_false_eq_true, false_implies, true_implies, List.length_cons, List.length_nil]
      repeat (first | refine ⟨in_small (by omega) (by omega), ?_⟩ | (show (_ → _) ∧ (_ → _); first | refine ⟨by omega, fun _ => ?_⟩ | refine ⟨fun _ => ?_, by omega⟩) | refine ⟨by omega, ?_⟩ | refine ⟨⟨_, rfl, by assumption⟩, ?_⟩ | refine ⟨okT_I _, ?_⟩ | refine ⟨okT_S (by omega) (by omega), ?_⟩ | refine ⟨okT_B (by omega) (by omega), ?_⟩ | refine call0 (gd_of rfl) ?_)
      rw [show 12 * (i : Int) + (a : Int) + 1 = 12 * (i : Int) + ((a + 1 : Nat) : Int) by omega]
      refine ih (a + 1) D2 (by omega) (fun x y a1 => by rw [g1 x y (by omega) (by omega)]; exact f1 x y a1) fun j hj => ?_
      simp only [wrow]
      by_cases w : j = col a
      · rw [if_pos w, w]; exact g2
      · rw [if_neg w]
        exact (f2 j hj).congr (fun y => g1 _ _ (by omega) (by omega)) (fun y => g1 _ _ (by omega) (by omega))
  have zeros : ∀ (L a : Nat) (D1 : Dat), a + L = 70 → (∀ x y, (x < vb ∨ vb + 139 < x) → D1 x y = D x y) → (∀ j : Nat, j < a → wD 2 1 D1 (vb + 2 * j) 0) → Wp P_X16_use E 1 [some (aR M), some (aI i), some (aI (tcode u)), some (aR (M + 5702 + 141 * st.1)), some (aI a)] [] B S D1 := by
    intro L
    induction L with
    | zero =>
      intro a D1 ha f1 f2
      have : a = 70 := by omega
      subst this
      refine wp_in ?_
      simp only [P_X16_use, i_kil, i_icon, i_lcon, i_null, i_loadI, i_loadL, i_loadR, i_istore, i_lstore, i_astore, i_iinc, i_dup, i_dup2, i_pop, i_iadd, i_isub, i_imul, i_idiv, i_irem, i_ineg, i_iand, i_ior, i_ishl, i_ishr, i_lxor, i_ladd, i_lsub, i_lmul, i_ldiv, i_lrem, i_lneg, i_lshl, i_lcmp, i_i2l, i_l2i, i_i2b, i_i2s, i_ifeq, i_ifne, i_iflt, i_ifge, i_ifgt, i_ifle, i_cmpeq, i_cmpne, i_cmplt, i_cmpge, i_cmpgt, i_cmple, i_acmpeq, i_acmpne, i_ifnull, i_ifnonnull, i_getI, i_getR, i_putI, i_putZ, i_putR, i_ald, i_ldL, i_ldR, i_ast, i_stL, i_stR, i_alen, i_new, i_newa, i_iret, i_zret, i_lret, i_aret, i_vret, i_raise, i_throw, i_recv, i_objinit, i_tsw3, lget, lset, lput1, lput2, lkil, ltrim, largs, isL, takev, dropv, nthv, pushO, catv, gd, true_and, and_true, Option.some.injEq, Prod.mk.injEq, exists_eq_left', if_true, if_false, reduceCtorEq, Bool.false_eq_true, lcmp_ge, lcmp_lt, lcmp_le, lcmp_gt, lcmp_eq, true_or, or_true, not_true_eq_false, not_false_eq_true, false_implies, true_implies, List.length_cons, List.length_nil]
      repeat (first | refine ⟨in_small (by omega) (by omega), ?_⟩ | (show (_ → _) ∧ (_ → _); first | refine ⟨by omega, fun _ => ?_⟩ | refine ⟨fun _ => ?_, by omega⟩) | refine ⟨by omega, ?_⟩ | refine ⟨⟨_, rfl, by assumption⟩, ?_⟩ | refine ⟨okT_I _, ?_⟩ | refine ⟨okT_S (by omega) (by omega), ?_⟩ | refine ⟨okT_B (by omega) (by omega), ?_⟩ | refine call0 (gd_of rfl) ?_)
      have := puts m 0 D1 (by omega) f1 f2
      rw [show 12 * (i : Int) + ((0 : Nat) : Int) = 12 * (i : Int) by omega] at this
      exact this
    | succ L ih =>
      intro a D1 ha f1 f2
      obtain ⟨ca1, ca2⟩ := rn.2 a (by omega)
      have ca3 := ca2.1
      refine wp_in ?_
      simp only [P_X16_use, i_kil, i_icon, i_lcon, i_null, i_loadI, i_loadL, i_loadR, i_istore, i_lstore, i_astore, i_iinc, i_dup, i_dup2, i_pop, i_iadd, i_isub, i_imul, i_idiv, i_irem, i_ineg, i_iand, i_ior, i_ishl, i_ishr, i_lxor, i_ladd, i_lsub, i_lmul, i_ldiv, i_lrem, i_lneg, i_lshl, i_lcmp, i_i2l, i_l2i, i_i2b, i_i2s, i_ifeq, i_ifne, i_iflt, i_ifge, i_ifgt, i_ifle, i_cmpeq, i_cmpne, i_cmplt, i_cmpge, i_cmpgt, i_cmple, i_acmpeq, i_acmpne, i_ifnull, i_ifnonnull, i_getI, i_getR, i_putI, i_putZ, i_putR, i_ald, i_ldL, i_ldR, i_ast, i_stL, i_stR, i_alen, i_new, i_newa, i_iret, i_zret, i_lret, i_aret, i_vret, i_raise, i_throw, i_recv, i_objinit, i_tsw3, lget, lset, lput1, lput2, lkil, ltrim, largs, isL, takev, dropv, nthv, pushO, catv, gd, true_and, and_true, Option.some.injEq, Prod.mk.injEq, exists_eq_left', if_true, if_false, reduceCtorEq, Bool.false_eq_true, lcmp_ge, lcmp_lt, lcmp_le, lcmp_gt, lcmp_eq, true_or, or_true, not_true_eq_false, not_false_eq_true, false_implies, true_implies, List.length_cons, List.length_nil, N1, ca1]
      repeat (first | refine ⟨in_small (by omega) (by omega), ?_⟩ | (show (_ → _) ∧ (_ → _); first | refine ⟨by omega, fun _ => ?_⟩ | refine ⟨fun _ => ?_, by omega⟩) | refine ⟨by omega, ?_⟩ | refine ⟨⟨_, rfl, by assumption⟩, ?_⟩ | refine ⟨okT_I _, ?_⟩ | refine ⟨okT_S (by omega) (by omega), ?_⟩ | refine ⟨okT_B (by omega) (by omega), ?_⟩ | refine call0 (gd_of rfl) ?_)
      refine sp_X17_set (v := 0) ca2 (by omega) (by omega) (by omega) fun D2 g1 g2 => ?_
      simp only [P_X16_use, i_kil, i_icon, i_lcon, i_null, i_loadI, i_loadL, i_loadR, i_istore, i_lstore, i_astore, i_iinc, i_dup, i_dup2, i_pop, i_iadd, i_isub, i_imul, i_idiv, i_irem, i_ineg, i_iand, i_ior, i_ishl, i_ishr, i_lxor, i_ladd, i_lsub, i_lmul, i_ldiv, i_lrem, i_lneg, i_lshl, i_lcmp, i_i2l, i_l2i, i_i2b, i_i2s, i_ifeq, i_ifne, i_iflt, i_ifge, i_ifgt, i_ifle, i_cmpeq, i_cmpne, i_cmplt, i_cmpge, i_cmpgt, i_cmple, i_acmpeq, i_acmpne, i_ifnull, i_ifnonnull, i_getI, i_getR, i_putI, i_putZ, i_putR, i_ald, i_ldL, i_ldR, i_ast, i_stL, i_stR, i_alen, i_new, i_newa, i_iret, i_zret, i_lret, i_aret, i_vret, i_raise, i_throw, i_recv, i_objinit, i_tsw3, lget, lset, lput1, lput2, lkil, ltrim, largs, isL, takev, dropv, nthv, pushO, catv, gd, true_and, and_true, Option.some.injEq, Prod.mk.injEq, exists_eq_left', if_true, if_false, reduceCtorEq, Bool.false_eq_true, lcmp_ge, lcmp_lt, lcmp_le, lcmp_gt, lcmp_eq, true_or, or_true, not_true_eq_false, not_false_eq_true, false_implies, true_implies, List.length_cons, List.length_nil]
      repeat (first | refine ⟨in_small (by omega) (by omega), ?_⟩ | (show (_ → _) ∧ (_ → _); first | refine ⟨by omega, fun _ => ?_⟩ | refine ⟨fun _ => ?_, by omega⟩) | refine ⟨by omega, ?_⟩ | refine ⟨⟨_, rfl, by assumption⟩, ?_⟩ | refine ⟨okT_I _, ?_⟩ | refine ⟨okT_S (by omega) (by omega), ?_⟩ | refine ⟨okT_B (by omega) (by omega), ?_⟩ | refine call0 (gd_of rfl) ?_)
      refine ih (a + 1) D2 (by omega) (fun x y a1 => by rw [g1 x y (by omega) (by omega)]; exact f1 x y a1) fun j hj => ?_
      by_cases w : j = a
      · rw [w]; exact g2
      · exact (f2 j (by omega)).congr (fun y => g1 _ _ (by omega) (by omega)) (fun y => g1 _ _ (by omega) (by omega))
  refine wp_in ?_
  simp only [P_X16_use, i_kil, i_icon, i_lcon, i_null, i_loadI, i_loadL, i_loadR, i_istore, i_lstore, i_astore, i_iinc, i_dup, i_dup2, i_pop, i_iadd, i_isub, i_imul, i_idiv, i_irem, i_ineg, i_iand, i_ior, i_ishl, i_ishr, i_lxor, i_ladd, i_lsub, i_lmul, i_ldiv, i_lrem, i_lneg, i_lshl, i_lcmp, i_i2l, i_l2i, i_i2b, i_i2s, i_ifeq, i_ifne, i_iflt, i_ifge, i_ifgt, i_ifle, i_cmpeq, i_cmpne, i_cmplt, i_cmpge, i_cmpgt, i_cmple, i_acmpeq, i_acmpne, i_ifnull, i_ifnonnull, i_getI, i_getR, i_putI, i_putZ, i_putR, i_ald, i_ldL, i_ldR, i_ast, i_stL, i_stR, i_alen, i_new, i_newa, i_iret, i_zret, i_lret, i_aret, i_vret, i_raise, i_throw, i_recv, i_objinit, i_tsw3, lget, lset, lput1, lput2, lkil, ltrim, largs, isL, takev, dropv, nthv, pushO, catv, gd, true_and, and_true, Option.some.injEq, Prod.mk.injEq, exists_eq_left', if_true, if_false, reduceCtorEq, Bool.false_eq_true, lcmp_ge, lcmp_lt, lcmp_le, lcmp_gt, lcmp_eq, true_or, or_true, not_true_eq_false, not_false_eq_true, false_implies, true_implies, List.length_cons, List.length_nil, M1, s1, s2, hCn, r1, r2, ra]
  repeat (first | refine ⟨in_small (by omega) (by omega), ?_⟩ | (show (_ → _) ∧ (_ → _); first | refine ⟨by omega, fun _ => ?_⟩ | refine ⟨fun _ => ?_, by omega⟩) | refine ⟨by omega, ?_⟩ | refine ⟨⟨_, rfl, by assumption⟩, ?_⟩ | refine ⟨okT_I _, ?_⟩ | refine ⟨okT_S (by omega) (by omega), ?_⟩ | refine ⟨okT_B (by omega) (by omega), ?_⟩ | refine call0 (gd_of rfl) ?_)
  exact zeros 70 0 D rfl (fun _ _ _ => rfl) fun j hj => by omega
