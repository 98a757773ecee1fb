/-! the model's chains: goOn -/
-- needs: de.mtakem
set_option maxRecDepth 100000
set_option linter.unusedVariables false
def mhS (S : Stat) (M : Nat) : Prop := mS S M ∧ mwS S M ∧ wkS S M ∧ S.2.1 M 68 = some (M + 10795) ∧ S.1 (M + 10795) = some (115, 12) ∧ (∀ r : Nat, r < 12 → S.2.1 (M + 10795) r = some (M + 10796 + 37 * r) ∧ nmS S (M + 10796 + 37 * r) (M + 10796 + 37 * r + 1) 18 130) ∧ S.2.1 M 69 = some (M + 11240) ∧ S.1 (M + 11240) = some (100, 12)
/-- where a row's number lies -/
def mcw (M r k : Nat) : Nat := M + 10796 + 37 * r + 1 + 2 * k
def mhD (D : Dat) (M : Nat) (F : Nat → Nat → Int) (n : Nat → Nat) (m : Nat) : Prop := D M 70 = m ∧ ∀ r : Nat, r < m → D (M + 11240) r = n r ∧ n r < 9 ∧ F r (n r) ≠ 0 ∧ ∀ k, k ≤ n r → wD 2 1 D (mcw M r k) (F r k)
/-- what a chain changes: its rows, the working row, the reckoning places -/
def mhO (M : Nat) (D D' : Dat) : Prop := ∀ c i, (c < M ∨ M + 16 < c) → (c < M + 10781 ∨ M + 10788 < c) → (c < M + 10796 ∨ M + 11277 < c) → D' c i = D c i
/-- .. and of the object itself the chain's length alone -/
def mhO2 (M : Nat) (D D' : Dat) : Prop := mhO M D D' ∧ ∀ i, i ≠ 70 → D' M i = D M i
/-- the numbers stay small -/
def mhZ (F : Nat → Nat → Int) (n : Nat → Nat) (m : Nat) : Prop := (∃ p q H G : Nat, p + q ≤ 260 ∧ q ≤ 130 ∧ (∀ k, k ≤ n (m - 2) → (F (m - 2) k).natAbs ≤ H) ∧ (∀ k, k ≤ n (m - 1) → (F (m - 1) k).natAbs ≤ G) ∧ (G : Int) < 1000000000 ^ q ∧ ((H * (2 * G) ^ (n (m - 2) + 1 - n (m - 1)) : Nat) : Int) < 1000000000 ^ p) ∧ ∀ i, i < m → ∀ k, k ≤ n i → ((F i k).natAbs : Int) < 1000000000 ^ 130
def mhW (f0 f1 : Nat → Int) (n0 n1 : Nat) : Prop := ∀ (F : Nat → Nat → Int) (n : Nat → Nat) (m : Nat), 2 ≤ m → (∀ i, i < m → n i < 9 ∧ F i (n i) ≠ 0) → F 0 = f0 → F 1 = f1 → n 0 = n0 → n 1 = n1 → fch (zF F n) n m → (∀ i, 2 ≤ i → i < m → zprim (F i) (n i + 1)) → mhZ F n m
theorem mcw_ne {M r r' k k' : Nat} (hk : k < 18) (hk' : k' < 18) (h : ¬ (r = r' ∧ k = k')) : mcw M r k + 1 < mcw M r' k' ∨ mcw M r' k' + 1 < mcw M r k := by
  unfold mcw
  rcases Nat.lt_trichotomy r r' with w | w | w
  · left; omega
  · subst w; omega
  · right; omega
section MGO
variable {M : Nat}
theorem mhD.congr {D D' : Dat} {m : Nat} {F : Nat → Nat → Int} {n : Nat → Nat} (h : mhD D M F n m) (hm : m ≤ 12) (e : ∀ c i, (c = M ∧ i = 70) ∨ (M + 10796 ≤ c ∧ c ≤ M + 11240) → D' c i = D c i) : mhD D' M F n m := by
  refine ⟨by rw [e _ _ (by omega)]; exact h.1, fun r hr => ?_⟩
  obtain ⟨h1, h2, h3, h4⟩ := h.2 r hr
  refine ⟨by rw [e _ _ (by omega)]; exact h1, h2, h3, fun k hk => (h4 k hk).congr (fun i => e _ i (by unfold mcw; omega)) fun i => e _ i (by unfold mcw; omega)⟩
set_option maxHeartbeats 4000000 in
theorem mgo_loop {E : Ex} {B : Nat × Nat} {S : Stat} {D : Dat} {f0 f1 : Nat → Int} {n0 n1 : Nat} (hS : mhS S M) (hn1 : n1 < 9) (h01 : n1 ≤ n0) (hW : mhW f0 f1 n0 n1)
    (K : ∀ (D' : Dat) (F : Nat → Nat → Int) (n : Nat → Nat) (m : Nat), mhO2 M D D' → mhD D' M F n m → mhZ F n m → chG f0 f1 n0 n1 F n m → E (.inl none) B S D') :
    ∀ (N : Nat) (F : Nat → Nat → Int) (n : Nat → Nat) (m : Nat) (D1 : Dat), n (m - 1) < N → mhO2 M D D1 → mhD D1 M F n m → 2 ≤ m → n (m - 1) + m ≤ n1 + 2 → F 0 = f0 → F 1 = f1 → n 0 = n0 → n 1 = n1 → fch (zF F n) n m → (∀ i, 2 ≤ i → i < m → zprim (F i) (n i + 1)) → Wp P_X16_goOn E 1 [some (aR M)] [] B S D1 := by
  have hS0 := hS
  obtain ⟨hM, hWw, hK, s1, s2, s3, s4, s5⟩ := hS
  obtain ⟨k1, k2, k3⟩ := id hK
  have M1 := hM.1
  intro N
  induction N with
  | zero => intro F n m D1 hN; omega
  | succ N ih =>
    intro F n m D1 hN hfr hD hm hmn e0 e1 en0 en1 hc hp
    have d8 := hD.1
    have hall : ∀ i, i < m → n i < 9 ∧ F i (n i) ≠ 0 := fun i hi => ⟨(hD.2 i hi).2.1, (hD.2 i hi).2.2.1⟩
    have hZ := hW F n m hm hall e0 e1 en0 en1 hc hp
    obtain ⟨⟨p, q, H, G, hpq, hq130, hH, hG, hGq, hsz⟩, hrows⟩ := id hZ
    obtain ⟨a1, a2, a3, a4⟩ := hD.2 (m - 1) (by omega)
    obtain ⟨b1, b2, b3, b4⟩ := hD.2 (m - 2) (by omega)
    have em1 : (m : Int) - 1 = ((m - 1 : Nat) : Int) := by omega
    have em2 : (m : Int) - 2 = ((m - 2 : Nat) : Int) := by omega
    obtain ⟨r1, r2⟩ := s3 (m - 1) (by omega)
    obtain ⟨r3, r4⟩ := s3 (m - 2) (by omega)
    obtain ⟨r5, r6⟩ := s3 m (by omega)
    have hm10 : m ≤ 10 := by omega
    obtain ⟨q1, q2⟩ := id r4
    obtain ⟨q3, q4⟩ := id r6
    have p130 : (1000000000 : Int) ^ 130 ≤ 1000000000 ^ 260 := pw_mono (by decide)
    -- the row comes to work
    have copy : ∀ (L j : Nat) (D2 : Dat), j + L = n (m - 2) + 1 → (∀ c i, (c < M + 11242 ∨ M + 11277 < c) → D2 c i = D1 c i) → (∀ k, k < j → wD 2 1 D2 (M + 11242 + 2 * k) (F (m - 2) k)) → Wp P_X16_goOn E 2 [some (aR M), some (aR (M + 10796 + 37 * (m - 2))), some (aI (n (m - 2))), some (aI j)] [] B S D2 := by
      intro L
      induction L with
      | succ L ihL =>
        intro j D2 hj hfr2 hdone
        obtain ⟨t1, t2⟩ := k3 j (by omega)
        obtain ⟨u1, u2⟩ := q2 j (by omega)
        have t4 := t2.1
        have hx : wD 2 1 D2 (M + 10796 + 37 * (m - 2) + 1 + 2 * j) (F (m - 2) j) := (b4 j (by omega)).congr (fun i => hfr2 _ i (by unfold mcw; omega)) fun i => hfr2 _ i (by unfold mcw; omega)
        have lx := hrows (m - 2) (by omega) j (by omega)
        refine wp_in ?_
        simp only [P_X16_goOn, i_kil, i_icon, i_lcon, i_null, i_loadI, i_loadL, i_loadR, i_istore, i_lstore, i_astore, i_iinc, i_dup, i_dup2, i_pop, i_iadd, i_isub, i_imul, i_idiv, i_irem, i_ineg, i_iand, i_ior, i_ishl, i_ishr, i_lxor, i_ladd, i_lsub, i_lmul, i_ldiv, i_lrem, i_lneg, i_lshl, i_lcmp, i_i2l, i_l2i, i_i2b, i_i2s, i_ifeq, i_ifne, i_iflt, i_ifge, i_ifgt, i_ifle, i_cmpeq, i_cmpne, i_cmplt, i_cmpge, i_cmpgt, i_cmple, i_acmpeq, i_acmpne, i_ifnull, i_ifnonnull, i_getI, i_getR, i_putI, i_putZ, i_putR, i_ald, i_ldL, i_ldR, i_ast, i_stL, i_stR, i_alen, i_new, i_newa, i_iret, i_zret, i_lret, i_aret, i_vret, i_raise, i_throw, i_recv, i_objinit, i_tsw3, lget, lset, lput1, lput2, lkil, ltrim, largs, isL, takev, dropv, nthv, pushO, catv, gd, true_and, and_true, Option.some.injEq, Prod.mk.injEq, exists_eq_left', if_true, if_false, reduceCtorEq, Bool.false_eq_true, lcmp_ge, lcmp_lt, lcmp_le, lcmp_gt, lcmp_eq, true_or, or_true, not_true_eq_false, not_false_eq_true, false_implies, true_implies, List.length_cons, List.length_nil, M1, k1, k2, q1, t1, u1]
        repeat (first | refine ⟨in_small (by omega) (by omega), ?_⟩ | (show (_ → _) ∧ (_ → _); first | refine ⟨by omega, fun _ => ?_⟩ | refine ⟨fun _ => ?_, by omega⟩) | refine ⟨by omega, ?_⟩ | refine ⟨⟨_, rfl, by assumption⟩, ?_⟩ | refine ⟨okT_I _, ?_⟩ | refine ⟨okT_S (by omega) (by omega), ?_⟩ | refine ⟨okT_B (by omega) (by omega), ?_⟩ | refine call0 (gd_of rfl) ?_)
        refine sp_X17_copy t2 u2 hx (by omega) lx (by omega) fun D3 g1 g2 => ?_
        simp only [P_X16_goOn, i_kil, i_icon, i_lcon, i_null, i_loadI, i_loadL, i_loadR, i_istore, i_lstore, i_astore, i_iinc, i_dup, i_dup2, i_pop, i_iadd, i_isub, i_imul, i_idiv, i_irem, i_ineg, i_iand, i_ior, i_ishl, i_ishr, i_lxor, i_ladd, i_lsub, i_lmul, i_ldiv, i_lrem, i_lneg, i_lshl, i_lcmp, i_i2l, i_l2i, i_i2b, i_i2s, i_ifeq, i_ifne, i_iflt, i_ifge, i_ifgt, i_ifle, i_cmpeq, i_cmpne, i_cmplt, i_cmpge, i_cmpgt, i_cmple, i_acmpeq, i_acmpne, i_ifnull, i_ifnonnull, i_getI, i_getR, i_putI, i_putZ, i_putR, i_ald, i_ldL, i_ldR, i_ast, i_stL, i_stR, i_alen, i_new, i_newa, i_iret, i_zret, i_lret, i_aret, i_vret, i_raise, i_throw, i_recv, i_objinit, i_tsw3, lget, lset, lput1, lput2, lkil, ltrim, largs, isL, takev, dropv, nthv, pushO, catv, gd, true_and, and_true, Option.some.injEq, Prod.mk.injEq, exists_eq_left', if_true, if_false, reduceCtorEq, Bool.false_eq_true, lcmp_ge, lcmp_lt, lcmp_le, lcmp_gt, lcmp_eq, true_or, or_true, not_true_eq_false, not_false_eq_true, false_implies, true_implies, List.length_cons, List.length_nil]
        repeat (first | refine ⟨in_small (by omega) (by omega), ?_⟩ | (show (_ → _) ∧ (_ → _); first | refine ⟨by omega, fun _ => ?_⟩ | refine ⟨fun _ => ?_, by omega⟩) | refine ⟨by omega, ?_⟩ | refine ⟨⟨_, rfl, by assumption⟩, ?_⟩ | refine ⟨okT_I _, ?_⟩ | refine ⟨okT_S (by omega) (by omega), ?_⟩ | refine ⟨okT_B (by omega) (by omega), ?_⟩ | refine call0 (gd_of rfl) ?_)
        refine ihL (j + 1) D3 (by omega) (fun c i c1 => by rw [g1 c i (by omega) (by omega)]; exact hfr2 c i c1) fun k hk => ?_
        by_cases w : k = j
        · rw [w]; exact g2
        · exact (hdone k (by omega)).congr (fun i => g1 _ i (by omega) (by omega)) fun i => g1 _ i (by omega) (by omega)
      | zero =>
        intro j D2 hj hfr2 hdone
        have d8' : D2 M 70 = m := by rw [hfr2 _ _ (by omega)]; exact d8
        have a1' : D2 (M + 11240) ((m - 1 : Nat) : Int) = n (m - 1) := by rw [hfr2 _ _ (by omega)]; exact a1
        refine wp_in ?_
        simp only [P_X16_goOn, i_kil, i_icon, i_lcon, i_null, i_loadI, i_loadL, i_loadR, i_istore, i_lstore, i_astore, i_iinc, i_dup, i_dup2, i_pop, i_iadd, i_isub, i_imul, i_idiv, i_irem, i_ineg, i_iand, i_ior, i_ishl, i_ishr, i_lxor, i_ladd, i_lsub, i_lmul, i_ldiv, i_lrem, i_lneg, i_lshl, i_lcmp, i_i2l, i_l2i, i_i2b, i_i2s, i_ifeq, i_ifne, i_iflt, i_ifge, i_ifgt, i_ifle, i_cmpeq, i_cmpne, i_cmplt, i_cmpge, i_cmpgt, i_cmple, i_acmpeq, i_acmpne, i_ifnull, i_ifnonnull, i_getI, i_getR, i_putI, i_putZ, i_putR, i_ald, i_ldL, i_ldR, i_ast, i_stL, i_stR, i_alen, i_new, i_newa, i_iret, i_zret, i_lret, i_aret, i_vret, i_raise, i_throw, i_recv, i_objinit, i_tsw3, lget, lset, lput1, lput2, lkil, ltrim, largs, isL, takev, dropv, nthv, pushO, catv, gd, true_and, and_true, Option.some.injEq, Prod.mk.injEq, exists_eq_left', if_true, if_false, reduceCtorEq, Bool.false_eq_true, lcmp_ge, lcmp_lt, lcmp_le, lcmp_gt, lcmp_eq, true_or, or_true, not_true_eq_false, not_false_eq_true, false_implies, true_implies, List.length_cons, List.length_nil, M1, s1, s2, s4, s5, d8', em1, r1, a1']
        repeat (first | refine ⟨in_small (by omega) (by omega), ?_⟩ | (show (_ → _) ∧ (_ → _); first | refine ⟨by omega, fun _ => ?_⟩ | refine ⟨fun _ => ?_, by omega⟩) | refine ⟨by omega, ?_⟩ | refine ⟨⟨_, rfl, by assumption⟩, ?_⟩ | refine ⟨okT_I _, ?_⟩ | refine ⟨okT_S (by omega) (by omega), ?_⟩ | refine ⟨okT_B (by omega) (by omega), ?_⟩ | refine call0 (gd_of rfl) ?_)
        refine sp_X16_takeMultiples (Rb := 130) (da := n (m - 2)) (e := n (m - 1)) (p := p) (q := q) (H := H) (G := G) (f := F (m - 2)) (g := F (m - 1)) hM hWw hK r2 (by omega) (by omega) (by omega) (by omega) rfl (fun k hk => hdone k (by omega)) (fun k hk => (a4 k hk).congr (fun i => hfr2 _ i (by unfold mcw; omega)) fun i => hfr2 _ i (by unfold mcw; omega)) b3 a3 hH hG hGq hq130 (by omega) hsz hpq fun D3 nn R g1 g2 g3 g4 g5 g6 g7 => ?_
        have keep3 : ∀ c i, (c ≤ M ∨ M + 16 < c) → (c < M + 10781 ∨ M + 10788 < c) → (c < M + 11242 ∨ M + 11277 < c) → D3 c i = D1 c i := fun c i c1 c2 c3 => by rw [g1 c i c1 c2 c3]; exact hfr2 c i c3
        have hD3 : mhD D3 M F n m := hD.congr (by omega) fun c i c1 => keep3 c i (by omega) (by omega) (by omega)
        have fr3 : mhO2 M D D3 := ⟨fun c i c1 c2 c3 => by rw [keep3 c i (by omega) c2 (by omega)]; exact hfr.1 c i c1 c2 c3, fun i hi => by rw [keep3 _ _ (by omega) (by omega) (by omega)]; exact hfr.2 i hi⟩
        have hle : n (m - 1) ≤ n (m - 2) := by
          rcases Nat.lt_or_ge 2 m with w | w
          · have := (hc.2 (m - 2) (by omega) (by omega)).1
            rw [show m - 2 + 1 = m - 1 by omega] at this; omega
          · have : m = 2 := by omega
            subst this
            show n 1 ≤ n 0
            rw [en0, en1]; exact h01
        simp only [P_X16_goOn, i_kil, i_icon, i_lcon, i_null, i_loadI, i_loadL, i_loadR, i_istore, i_lstore, i_astore, i_iinc, i_dup, i_dup2, i_pop, i_iadd, i_isub, i_imul, i_idiv, i_irem, i_ineg, i_iand, i_ior, i_ishl, i_ishr, i_lxor, i_ladd, i_lsub, i_lmul, i_ldiv, i_lrem, i_lneg, i_lshl, i_lcmp, i_i2l, i_l2i, i_i2b, i_i2s, i_ifeq, i_ifne, i_iflt, i_ifge, i_ifgt, i_ifle, i_cmpeq, i_cmpne, i_cmplt, i_cmpge, i_cmpgt, i_cmple, i_acmpeq, i_acmpne, i_ifnull, i_ifnonnull, i_getI, i_getR, i_putI, i_putZ, i_putR, i_ald, i_ldL, i_ldR, i_ast, i_stL, i_stR, i_alen, i_new, i_newa, i_iret, i_zret, i_lret, i_aret, i_vret, i_raise, i_throw, i_recv, i_objinit, i_tsw3, lget, lset, lput1, lput2, lkil, ltrim, largs, isL, takev, dropv, nthv, pushO, catv, gd, true_and, and_true, Option.some.injEq, Prod.mk.injEq, exists_eq_left', if_true, if_false, reduceCtorEq, Bool.false_eq_true, lcmp_ge, lcmp_lt, lcmp_le, lcmp_gt, lcmp_eq, true_or, or_true, not_true_eq_false, not_false_eq_true, false_implies, true_implies, List.length_cons, List.length_nil]
        rcases Nat.eq_zero_or_pos nn with hnn | hnn
        · -- nothing is left
          subst hnn
          have neg : Wp P_X16_goOn E 3 [some (aR M), none, none, some (aI (((0 : Nat) : Int) - 1)), some (aI 0)] [] B S D3 := by
            have d83 := hD3.1
            have e01 : ((0 : Nat) : Int) - 1 = -1 := by decide
            rw [e01]
            refine wp_in ?_
            simp only [P_X16_goOn, i_kil, i_icon, i_lcon, i_null, i_loadI, i_loadL, i_loadR, i_istore, i_lstore, i_astore, i_iinc, i_dup, i_dup2, i_pop, i_iadd, i_isub, i_imul, i_idiv, i_irem, i_ineg, i_iand, i_ior, i_ishl, i_ishr, i_lxor, i_ladd, i_lsub, i_lmul, i_ldiv, i_lrem, i_lneg, i_lshl, i_lcmp, i_i2l, i_l2i, i_i2b, i_i2s, i_ifeq, i_ifne, i_iflt, i_ifge, i_ifgt, i_ifle, i_cmpeq, i_cmpne, i_cmplt, i_cmpge, i_cmpgt, i_cmple, i_acmpeq, i_acmpne, i_ifnull, i_ifnonnull, i_getI, i_getR, i_putI, i_putZ, i_putR, i_ald, i_ldL, i_ldR, i_ast, i_stL, i_stR, i_alen, i_new, i_newa, i_iret, i_zret, i_lret, i_aret, i_vret, i_raise, i_throw, i_recv, i_objinit, i_tsw3, lget, lset, lput1, lput2, lkil, ltrim, largs, isL, takev, dropv, nthv, pushO, catv, gd, true_and, and_true, Option.some.injEq, Prod.mk.injEq, exists_eq_left', if_true, if_false, reduceCtorEq, Bool.false_eq_true, lcmp_ge, lcmp_lt, lcmp_le, lcmp_gt, lcmp_eq, true_or, or_true, not_true_eq_false, not_false_eq_true, false_implies, true_implies, List.length_cons, List.length_nil, M1, s4, s5, d83]
            refine ⟨fun _ => ?_, fun w => absurd w (by decide)⟩
            repeat (first | refine ⟨in_small (by omega) (by omega), ?_⟩ | (show (_ → _) ∧ (_ → _); first | refine ⟨by omega, fun _ => ?_⟩ | refine ⟨fun _ => ?_, by omega⟩) | refine ⟨by omega, ?_⟩ | refine ⟨⟨_, rfl, by assumption⟩, ?_⟩ | refine ⟨okT_I _, ?_⟩ | refine ⟨okT_S (by omega) (by omega), ?_⟩ | refine ⟨okT_B (by omega) (by omega), ?_⟩ | refine call0 (gd_of rfl) ?_)
            have d84 : pmu D3 (M + 11240) m (-1) M 70 = m := by simp only [pmu]; rw [if_neg (by omega)]; exact d83
            rw [d84]
            repeat (first | refine ⟨in_small (by omega) (by omega), ?_⟩ | (show (_ → _) ∧ (_ → _); first | refine ⟨by omega, fun _ => ?_⟩ | refine ⟨fun _ => ?_, by omega⟩) | refine ⟨by omega, ?_⟩ | refine ⟨⟨_, rfl, by assumption⟩, ?_⟩ | refine ⟨okT_I _, ?_⟩ | refine ⟨okT_S (by omega) (by omega), ?_⟩ | refine ⟨okT_B (by omega) (by omega), ?_⟩ | refine call0 (gd_of rfl) ?_)
            have ez : (m : Int) + 1 - 1 = m := by omega
            have dz : pmu (pmu D3 (M + 11240) m (-1)) M 70 ((m : Int) + 1) (M + 11240) m = -1 := by simp only [pmu]; rw [if_neg (by omega), if_pos (by simp)]
            have dy : pmu (pmu D3 (M + 11240) m (-1)) M 70 ((m : Int) + 1) M 70 = (m : Int) + 1 := by simp only [pmu, and_self, if_true]
            refine wp_in ?_
            simp only [P_X16_goOn, i_kil, i_icon, i_lcon, i_null, i_loadI, i_loadL, i_loadR, i_istore, i_lstore, i_astore, i_iinc, i_dup, i_dup2, i_pop, i_iadd, i_isub, i_imul, i_idiv, i_irem, i_ineg, i_iand, i_ior, i_ishl, i_ishr, i_lxor, i_ladd, i_lsub, i_lmul, i_ldiv, i_lrem, i_lneg, i_lshl, i_lcmp, i_i2l, i_l2i, i_i2b, i_i2s, i_ifeq, i_ifne, i_iflt, i_ifge, i_ifgt, i_ifle, i_cmpeq, i_cmpne, i_cmplt, i_cmpge, i_cmpgt, i_cmple, i_acmpeq, i_acmpne, i_ifnull, i_ifnonnull, i_getI, i_getR, i_putI, i_putZ, i_putR, i_ald, i_ldL, i_ldR, i_ast, i_stL, i_stR, i_alen, i_new, i_newa, i_iret, i_zret, i_lret, i_aret, i_vret, i_raise, i_throw, i_recv, i_objinit, i_tsw3, lget, lset, lput1, lput2, lkil, ltrim, largs, isL, takev, dropv, nthv, pushO, catv, gd, true_and, and_true, Option.some.injEq, Prod.mk.injEq, exists_eq_left', if_true, if_false, reduceCtorEq, Bool.false_eq_true, lcmp_ge, lcmp_lt, lcmp_le, lcmp_gt, lcmp_eq, true_or, or_true, not_true_eq_false, not_false_eq_true, false_implies, true_implies, List.length_cons, List.length_nil, M1, s4, s5, dy, ez, dz]
            repeat (first | refine ⟨in_small (by omega) (by omega), ?_⟩ | (show (_ → _) ∧ (_ → _); first | refine ⟨by omega, fun _ => ?_⟩ | refine ⟨fun _ => ?_, by omega⟩) | refine ⟨by omega, ?_⟩ | refine ⟨⟨_, rfl, by assumption⟩, ?_⟩ | refine ⟨okT_I _, ?_⟩ | refine ⟨okT_S (by omega) (by omega), ?_⟩ | refine ⟨okT_B (by omega) (by omega), ?_⟩ | refine call0 (gd_of rfl) ?_)
            refine K _ F n m ⟨fun c i c1 c2 c3 => ?_, fun i hi => ?_⟩ ?_ hZ ⟨hm, hm10, e0, e1, en0, en1, hc, fun _ => g6.congr fun x => rfl, hp⟩
            · simp only [pmu]; rw [if_neg (by omega), if_neg (by omega), if_neg (by omega)]; exact fr3.1 c i c1 c2 c3
            · simp only [pmu]; rw [if_neg (by omega), if_neg (by omega), if_neg (by omega)]; exact fr3.2 i hi
            · refine ⟨by simp only [pmu, and_self, if_true], fun r hr => ?_⟩
              obtain ⟨x1, x2, x3, x4⟩ := hD3.2 r hr
              refine ⟨by simp only [pmu]; rw [if_neg (by omega), if_neg (by omega), if_neg (by omega)]; exact x1, x2, x3, fun k hk => (x4 k hk).congr (fun i => ?_) fun i => ?_⟩
              · simp only [pmu]; rw [if_neg (by unfold mcw; omega), if_neg (by unfold mcw; omega), if_neg (by unfold mcw; omega)]
              · simp only [pmu]; rw [if_neg (by unfold mcw; omega), if_neg (by unfold mcw; omega), if_neg (by unfold mcw; omega)]
          exact neg
        · -- one more row
          have en : (nn : Int) - 1 = ((nn - 1 : Nat) : Int) := by omega
          let F' := rup F m (fun k => - R k)
          let n' := rup n m (nn - 1)
          have zr : ∀ i, i < m → zF F' n' i = zF F n i := fun i hi => by show zp (rup F m _ i) (rup n m _ i + 1) = _; unfold zF rup; rw [if_neg (by omega), if_neg (by omega)]
          have nr : ∀ i, i < m → n' i = n i := fun i hi => by show rup n m _ i = _; unfold rup; rw [if_neg (by omega)]
          have nm : n' m = nn - 1 := by show rup n m _ m = _; unfold rup; rw [if_pos rfl]
          have Fr : ∀ i, i < m → F' i = F i := fun i hi => by show rup F m _ i = _; unfold rup; rw [if_neg (by omega)]
          have Fm : F' m = fun k => - R k := by show rup F m _ m = _; unfold rup; rw [if_pos rfl]
          have zm : ∀ x, zF F' n' m x = - zp R nn x := fun x => by
            unfold zF; rw [nm, Fm, show nn - 1 + 1 = nn by omega]; exact zp_neg R nn x
          have hR0 : - R (nn - 1) ≠ 0 := by have := g4 hnn; omega
          have hc' : fch (zF F' n') n' (m + 1) := by
            refine ⟨fun i hi => ?_, fun i h1 h2 => ?_⟩
            · rcases Nat.lt_or_ge i m with w | w
              · rw [zr i w, nr i w]; exact hc.1 i w
              · have : i = m := by omega
                subst this
                rw [nm]
                unfold zF
                rw [nm, Fm]
                exact zp_ex hR0
            · rcases Nat.lt_or_ge (i + 1) m with w | w
              · rw [zr (i + 1) w, zr i (by omega), zr (i - 1) (by omega), nr (i + 1) w, nr i (by omega)]
                exact hc.2 i h1 w
              · have e : i + 1 = m := by omega
                rw [show i = m - 1 by omega, show m - 1 + 1 = m by omega, nm, nr (m - 1) (by omega), zr (m - 1) (by omega), show m - 1 - 1 = m - 2 by omega, zr (m - 2) (by omega)]
                refine ⟨by omega, g6.congr fun x => ?_⟩
                rw [zm]; grind
          have hp' : ∀ i, 2 ≤ i → i < m + 1 → zprim (F' i) (n' i + 1) := fun i h1 h2 => by
            rcases Nat.lt_or_ge i m with w | w
            · rw [nr i w, Fr i w]; exact hp i h1 w
            · have : i = m := by omega
              subst this
              rw [nm, Fm, show nn - 1 + 1 = nn by omega]
              intro r hr
              obtain ⟨i, hi, hni⟩ := g5 hle hnn r hr
              exact ⟨i, hi, fun q => hni (Int.dvd_neg.mp q)⟩
          have hall' : ∀ i, i < m + 1 → n' i < 9 ∧ F' i (n' i) ≠ 0 := fun i hi => by
            rcases Nat.lt_or_ge i m with w | w
            · rw [nr i w, Fr i w]; exact hall i w
            · have : i = m := by omega
              subst this
              rw [nm, Fm]
              exact ⟨by omega, hR0⟩
          have hZ' := hW F' n' (m + 1) (by omega) hall' (by rw [Fr 0 (by omega)]; exact e0) (by rw [Fr 1 (by omega)]; exact e1) (by rw [nr 0 (by omega)]; exact en0) (by rw [nr 1 (by omega)]; exact en1) hc' hp'
          have lR : ∀ k, k < nn → ((R k).natAbs : Int) < 1000000000 ^ 130 := fun k hk => by
            have := hZ'.2 m (by omega) k (by rw [nm]; omega)
            rw [Fm] at this
            rwa [Int.natAbs_neg] at this
          have put : ∀ (L j : Nat) (D4 : Dat), j + L = nn → (∀ c i, (c < mcw M m 0 ∨ mcw M m 17 + 1 < c) → D4 c i = D3 c i) → (∀ k, k < j → wD 2 1 D4 (mcw M m k) (- R k)) → Wp P_X16_goOn E 3 [some (aR M), none, none, some (aI ((nn : Int) - 1)), some (aI j)] [] B S D4 := by
            intro L
            induction L with
            | succ L ihL =>
              intro j D4 hj hfr4 hdone
              obtain ⟨t1, t2⟩ := k3 j (by omega)
              obtain ⟨u1, u2⟩ := q4 j (by omega)
              have u3 := u2.1
              have d84 : D4 M 70 = m := by rw [hfr4 _ _ (by unfold mcw; omega)]; exact hD3.1
              have hx : wD 2 1 D4 (M + 11242 + 2 * j) (R j) := (g3 j (by omega)).congr (fun i => hfr4 _ i (by unfold mcw; omega)) fun i => hfr4 _ i (by unfold mcw; omega)
              refine wp_in ?_
              simp only [P_X16_goOn, i_kil, i_icon, i_lcon, i_null, i_loadI, i_loadL, i_loadR, i_istore, i_lstore, i_astore, i_iinc, i_dup, i_dup2, i_pop, i_iadd, i_isub, i_imul, i_idiv, i_irem, i_ineg, i_iand, i_ior, i_ishl, i_ishr, i_lxor, i_ladd, i_lsub, i_lmul, i_ldiv, i_lrem, i_lneg, i_lshl, i_lcmp, i_i2l, i_l2i, i_i2b, i_i2s, i_ifeq, i_ifne, i_iflt, i_ifge, i_ifgt, i_ifle, i_cmpeq, i_cmpne, i_cmplt, i_cmpge, i_cmpgt, i_cmple, i_acmpeq, i_acmpne, i_ifnull, i_ifnonnull, i_getI, i_getR, i_putI, i_putZ, i_putR, i_ald, i_ldL, i_ldR, i_ast, i_stL, i_stR, i_alen, i_new, i_newa, i_iret, i_zret, i_lret, i_aret, i_vret, i_raise, i_throw, i_recv, i_objinit, i_tsw3, lget, lset, lput1, lput2, lkil, ltrim, largs, isL, takev, dropv, nthv, pushO, catv, gd, true_and, and_true, Option.some.injEq, Prod.mk.injEq, exists_eq_left', if_true, if_false, reduceCtorEq, Bool.false_eq_true, lcmp_ge, lcmp_lt, lcmp_le, lcmp_gt, lcmp_eq, true_or, or_true, not_true_eq_false, not_false_eq_true, false_implies, true_implies, List.length_cons, List.length_nil, M1, s1, s2, k1, k2, d84, r5, q3, t1, u1]
              refine ⟨fun w => by omega, fun _ => ?_⟩
              repeat (first | refine ⟨in_small (by omega) (by omega), ?_⟩ | (show (_ → _) ∧ (_ → _); first | refine ⟨by omega, fun _ => ?_⟩ | refine ⟨fun _ => ?_, by omega⟩) | refine ⟨by omega, ?_⟩ | refine ⟨⟨_, rfl, by assumption⟩, ?_⟩ | refine ⟨okT_I _, ?_⟩ | refine ⟨okT_S (by omega) (by omega), ?_⟩ | refine ⟨okT_B (by omega) (by omega), ?_⟩ | refine call0 (gd_of rfl) ?_)
              refine sp_X17_copy u2 t2 hx (lR j (by omega)) (Int.lt_of_lt_of_le (lR j (by omega)) p130) (by omega) fun D5 i1 i2 => ?_
              have d85 : D5 M 70 = m := by rw [i1 _ _ (by omega) (by omega)]; exact d84
              have hsj := i2.sg
              have hsg : ∀ z : Int, Int.sign z = 1 ∨ Int.sign z = 0 ∨ Int.sign z = -1 := fun z => by rcases sgn_cases z with h | h | h <;> omega
              have hin : inI (-Int.sign (R j)) := by rcases hsg (R j) with h | h | h <;> rw [h] <;> exact in_small (by decide) (by decide)
              simp only [P_X16_goOn, i_kil, i_icon, i_lcon, i_null, i_loadI, i_loadL, i_loadR, i_istore, i_lstore, i_astore, i_iinc, i_dup, i_dup2, i_pop, i_iadd, i_isub, i_imul, i_idiv, i_irem, i_ineg, i_iand, i_ior, i_ishl, i_ishr, i_lxor, i_ladd, i_lsub, i_lmul, i_ldiv, i_lrem, i_lneg, i_lshl, i_lcmp, i_i2l, i_l2i, i_i2b, i_i2s, i_ifeq, i_ifne, i_iflt, i_ifge, i_ifgt, i_ifle, i_cmpeq, i_cmpne, i_cmplt, i_cmpge, i_cmpgt, i_cmple, i_acmpeq, i_acmpne, i_ifnull, i_ifnonnull, i_getI, i_getR, i_putI, i_putZ, i_putR, i_ald, i_ldL, i_ldR, i_ast, i_stL, i_stR, i_alen, i_new, i_newa, i_iret, i_zret, i_lret, i_aret, i_vret, i_raise, i_throw, i_recv, i_objinit, i_tsw3, lget, lset, lput1, lput2, lkil, ltrim, largs, isL, takev, dropv, nthv, pushO, catv, gd, true_and, and_true, Option.some.injEq, Prod.mk.injEq, exists_eq_left', if_true, if_false, reduceCtorEq, Bool.false_eq_true, lcmp_ge, lcmp_lt, lcmp_le, lcmp_gt, lcmp_eq, true_or, or_true, not_true_eq_false, not_false_eq_true, false_implies, true_implies, List.length_cons, List.length_nil, M1, s1, s2, d85, r5, q3, u1, u3, hsj]
              repeat (first | refine ⟨in_small (by omega) (by omega), ?_⟩ | (show (_ → _) ∧ (_ → _); first | refine ⟨by omega, fun _ => ?_⟩ | refine ⟨fun _ => ?_, by omega⟩) | refine ⟨by omega, ?_⟩ | refine ⟨⟨_, rfl, by assumption⟩, ?_⟩ | refine ⟨okT_I _, ?_⟩ | refine ⟨okT_S (by omega) (by omega), ?_⟩ | refine ⟨okT_B (by omega) (by omega), ?_⟩ | refine call0 (gd_of rfl) ?_)
              refine ihL (j + 1) _ (by omega) (fun c i c1 => ?_) fun k hk => ?_
              · simp only [pmu]; rw [if_neg (by unfold mcw at *; omega), i1 c i (by unfold mcw at *; omega) (by unfold mcw at *; omega)]; exact hfr4 c i c1
              · by_cases w : k = j
                · rw [w]; exact i2.turn2 (z' := - R j) (by omega) (by rw [Int.sign_neg])
                · have nb := mcw_ne (M := M) (r := m) (r' := m) (k := k) (k' := j) (by omega) (by omega) (fun w2 => w w2.2)
                  have eq : mcw M m j = M + 10796 + 37 * m + 1 + 2 * j := rfl
                  exact (hdone k (by omega)).congr (fun i => by simp only [pmu]; rw [if_neg (by omega), i1 _ i (by omega) (by omega)]) fun i => by simp only [pmu]; rw [if_neg (by omega), i1 _ i (by omega) (by omega)]
            | zero =>
              intro j D4 hj hfr4 hdone
              have d84 : D4 M 70 = m := by rw [hfr4 _ _ (by unfold mcw; omega)]; exact hD3.1
              refine wp_in ?_
              simp only [P_X16_goOn, i_kil, i_icon, i_lcon, i_null, i_loadI, i_loadL, i_loadR, i_istore, i_lstore, i_astore, i_iinc, i_dup, i_dup2, i_pop, i_iadd, i_isub, i_imul, i_idiv, i_irem, i_ineg, i_iand, i_ior, i_ishl, i_ishr, i_lxor, i_ladd, i_lsub, i_lmul, i_ldiv, i_lrem, i_lneg, i_lshl, i_lcmp, i_i2l, i_l2i, i_i2b, i_i2s, i_ifeq, i_ifne, i_iflt, i_ifge, i_ifgt, i_ifle, i_cmpeq, i_cmpne, i_cmplt, i_cmpge, i_cmpgt, i_cmple, i_acmpeq, i_acmpne, i_ifnull, i_ifnonnull, i_getI, i_getR, i_putI, i_putZ, i_putR, i_ald, i_ldL, i_ldR, i_ast, i_stL, i_stR, i_alen, i_new, i_newa, i_iret, i_zret, i_lret, i_aret, i_vret, i_raise, i_throw, i_recv, i_objinit, i_tsw3, lget, lset, lput1, lput2, lkil, ltrim, largs, isL, takev, dropv, nthv, pushO, catv, gd, true_and, and_true, Option.some.injEq, Prod.mk.injEq, exists_eq_left', if_true, if_false, reduceCtorEq, Bool.false_eq_true, lcmp_ge, lcmp_lt, lcmp_le, lcmp_gt, lcmp_eq, true_or, or_true, not_true_eq_false, not_false_eq_true, false_implies, true_implies, List.length_cons, List.length_nil, M1, s4, s5, d84]
              refine ⟨fun _ => ?_, fun w => by omega⟩
              repeat (first | refine ⟨in_small (by omega) (by omega), ?_⟩ | (show (_ → _) ∧ (_ → _); first | refine ⟨by omega, fun _ => ?_⟩ | refine ⟨fun _ => ?_, by omega⟩) | refine ⟨by omega, ?_⟩ | refine ⟨⟨_, rfl, by assumption⟩, ?_⟩ | refine ⟨okT_I _, ?_⟩ | refine ⟨okT_S (by omega) (by omega), ?_⟩ | refine ⟨okT_B (by omega) (by omega), ?_⟩ | refine call0 (gd_of rfl) ?_)
              have d85 : pmu D4 (M + 11240) m ((nn : Int) - 1) M 70 = m := by simp only [pmu]; rw [if_neg (by omega)]; exact d84
              rw [d85]
              repeat (first | refine ⟨in_small (by omega) (by omega), ?_⟩ | (show (_ → _) ∧ (_ → _); first | refine ⟨by omega, fun _ => ?_⟩ | refine ⟨fun _ => ?_, by omega⟩) | refine ⟨by omega, ?_⟩ | refine ⟨⟨_, rfl, by assumption⟩, ?_⟩ | refine ⟨okT_I _, ?_⟩ | refine ⟨okT_S (by omega) (by omega), ?_⟩ | refine ⟨okT_B (by omega) (by omega), ?_⟩ | refine call0 (gd_of rfl) ?_)
              have base : ∀ (c : Nat) (i : Int), (c < mcw M m 0 ∨ mcw M m 17 + 1 < c) → (c ≠ M + 11240 ∨ i ≠ (m : Int)) → (c ≠ M ∨ i ≠ 70) → pmu (pmu D4 (M + 11240) m ((nn : Int) - 1)) M 70 ((m : Int) + 1) c i = D3 c i := fun c i c1 c2 c3 => by
                simp only [pmu]; rw [if_neg (by omega), if_neg (by omega)]; exact hfr4 c i c1
              refine ih F' n' (m + 1) _ (by rw [Nat.add_sub_cancel, nm]; omega) ⟨fun c i c1 c2 c3 => ?_, fun i hi => ?_⟩ ⟨?_, fun r hr => ?_⟩ (by omega) (by rw [Nat.add_sub_cancel, nm]; omega) (by rw [Fr 0 (by omega)]; exact e0) (by rw [Fr 1 (by omega)]; exact e1) (by rw [nr 0 (by omega)]; exact en0) (by rw [nr 1 (by omega)]; exact en1) hc' hp'
              · rw [base c i (by unfold mcw; omega) (by omega) (by omega)]; exact fr3.1 c i c1 c2 c3
              · rw [base _ i (by unfold mcw; omega) (by omega) (by omega)]; exact fr3.2 i hi
              · simp only [pmu, and_self, if_true]; omega
              · rcases Nat.lt_or_ge r m with w | w
                · rw [nr r w, Fr r w]
                  obtain ⟨x1, x2, x3, x4⟩ := hD3.2 r w
                  refine ⟨by rw [base _ _ (by unfold mcw; omega) (by omega) (by omega)]; exact x1, x2, x3, fun k hk => (x4 k hk).congr (fun i => base _ i ?_ (by unfold mcw; omega) (by unfold mcw; omega)) fun i => base _ i ?_ (by unfold mcw; omega) (by unfold mcw; omega)⟩
                  · unfold mcw; omega
                  · unfold mcw; omega
                · have : r = m := by omega
                  subst this
                  rw [nm, Fm]
                  refine ⟨?_, by omega, hR0, fun k hk => (hdone k (by omega)).congr (fun i => ?_) fun i => ?_⟩
                  · simp only [pmu]; rw [if_neg (by omega), if_pos (by simp)]; omega
                  · simp only [pmu]; rw [if_neg (by unfold mcw; omega), if_neg (by unfold mcw; omega)]
                  · simp only [pmu]; rw [if_neg (by unfold mcw; omega), if_neg (by unfold mcw; omega)]
          exact put nn 0 D3 (by omega) (fun _ _ _ => rfl) fun k hk => by omega
    refine wp_in ?_
    simp only [P_X16_goOn, i_kil, i_icon, i_lcon, i_null, i_loadI, i_loadL, i_loadR, i_istore, i_lstore, i_astore, i_iinc, i_dup, i_dup2, i_pop, i_iadd, i_isub, i_imul, i_idiv, i_irem, i_ineg, i_iand, i_ior, i_ishl, i_ishr, i_lxor, i_ladd, i_lsub, i_lmul, i_ldiv, i_lrem, i_lneg, i_lshl, i_lcmp, i_i2l, i_l2i, i_i2b, i_i2s, i_ifeq, i_ifne, i_iflt, i_ifge, i_ifgt, i_ifle, i_cmpeq, i_cmpne, i_cmplt, i_cmpge, i_cmpgt, i_cmple, i_acmpeq, i_acmpne, i_ifnull, i_ifnonnull, i_getI, i_getR, i_putI, i_putZ, i_putR, i_ald, i_ldL, i_ldR, i_ast, i_stL, i_stR, i_alen, i_new, i_newa, i_iret, i_zret, i_lret, i_aret, i_vret, i_raise, i_throw, i_recv, i_objinit, i_tsw3, lget, lset, lput1, lput2, lkil, ltrim, largs, isL, takev, dropv, nthv, pushO, catv, gd, true_and, and_true, Option.some.injEq, Prod.mk.injEq, exists_eq_left', if_true, if_false, reduceCtorEq, Bool.false_eq_true, lcmp_ge, lcmp_lt, lcmp_le, lcmp_gt, lcmp_eq, true_or, or_true, not_true_eq_false, not_false_eq_true, false_implies, true_implies, List.length_cons, List.length_nil, M1, s1, s2, s4, s5, d8, em1, em2, a1, b1, r3]
    repeat (first | refine ⟨in_small (by omega) (by omega), ?_⟩ | (show (_ → _) ∧ (_ → _); first | refine ⟨by omega, fun _ => ?_⟩ | refine ⟨fun _ => ?_, by omega⟩) | refine ⟨by omega, ?_⟩ | refine ⟨⟨_, rfl, by assumption⟩, ?_⟩ | refine ⟨okT_I _, ?_⟩ | refine ⟨okT_S (by omega) (by omega), ?_⟩ | refine ⟨okT_B (by omega) (by omega), ?_⟩ | refine call0 (gd_of rfl) ?_)
    exact copy (n (m - 2) + 1) 0 D1 (by omega) (fun _ _ _ => rfl) fun k hk => by omega
end MGO
