/-! the model's divide, joined -/
set_option maxRecDepth 100000
set_option linter.unusedVariables false
set_option maxHeartbeats 2000000 in
theorem sp_X16_divF {E : Ex} {B : Nat × Nat} {S : Stat} {D : Dat} {M u v wh a b ra rb d m : Nat} {f t : Int} {x y : Int} {l1 l2 l5 l6 : PV} (hM : mR S M u v) (hW : mW S M u v wh) (ha : wS 17 S a ra) (hb : wS 17 S b rb) (hra : ra < 266) (hrb : rb < 266) (h1 : d + 1 + m ≤ ra) (h2 : d + 1 ≤ rb)
    (ha2 : D a 2 = (d + 1 + m : Nat)) (hxd : dok (D (a + 1)) (d + 1 + m)) (hxv : (x.natAbs : Int) = dv (D (a + 1)) (d + 1 + m)) (hyd : dok (D (b + 1)) (d + 1)) (hyv : (y.natAbs : Int) = dv (D (b + 1)) (d + 1)) (ht : t = D (b + 1) d) (ht1 : 1 ≤ t ∧ t < 1000000000) (hf : f = 1000000000 / (t + 1))
    (K : ∀ D' : Dat, (∀ c i, c ≠ u → c ≠ v → c ≠ wh → D' c i = D c i) → dok (D' u) (d + 1 + m + 1) → dok (D' wh) (m + 1) → dv (D' u) (d + 1) < f * y.natAbs → f * x.natAbs = dv (D' wh) (m + 1) * (f * y.natAbs) + dv (D' u) (d + 1) →
      Wp P_X16_divide E 5 [some (aR M), some l1, some l2, none, none, some l5, some l6, some (aI ((d + 1 : Nat) : Int)), some (aI m), some (aL f), none, none, none, some (aI (-1))] [] B S D') :
    Wp P_X16_divide E 3 [some (aR M), some l1, some l2, some (aR a), some (aR b), some l5, some l6, some (aI ((d + 1 : Nat) : Int)), some (aI m), some (aL f), none, some (aL 0), none, some (aI ((0 : Nat) : Int))] [] B S D := by
  have hM0 := hM
  have ha0 := ha
  have hb0 := hb
  have hW0 := hW
  obtain ⟨m1, m2, m3, m4, m5, m6⟩ := hM
  obtain ⟨w1, w2, w3, w4⟩ := hW
  obtain ⟨a1, a2, a3⟩ := ha
  obtain ⟨b1, b2, b3⟩ := hb
  have nau : u ≠ a + 1 := fun h => by rw [h, a3] at m3; simp at m3; omega
  have nav : v ≠ a + 1 := fun h => by rw [h, a3] at m5; simp at m5; omega
  have nbu : u ≠ b + 1 := fun h => by rw [h, b3] at m3; simp at m3; omega
  have nbv : v ≠ b + 1 := fun h => by rw [h, b3] at m5; simp at m5; omega
  have nau' : a ≠ u := fun h => by rw [h, m3] at a1; simp at a1
  have nbu' : b ≠ u := fun h => by rw [h, m3] at b1; simp at b1
  obtain ⟨f1, f2, f3, f4⟩ := kn_norm ht1 hf
  refine sp_X16_div3 hM0 ha0 nau ha2 hxd h1 (by omega) ⟨f1, f2⟩ (fun D1 ca hca g1 g2 g3 => ?_) (d + 1 + m) 0 0 D (by omega) ⟨by omega, by omega⟩ (fun _ _ _ => rfl) (fun i q1 q2 => by omega) (by simp [dv])
  have e1 : D1 a 2 = (d + 1 + m : Nat) := by rw [g1 a 2 nau', ha2]
  refine wp_in ?_
  simp only [P_X16_divide, i_kil, i_icon, i_lcon, i_null, i_loadI, i_loadL, i_loadR, i_istore, i_lstore, i_astore, i_iinc, i_dup, i_dup2, i_pop, i_iadd, i_isub, i_imul, i_idiv, i_irem, i_ineg, i_iand, i_ior, i_ishl, i_ishr, i_lxor, i_ladd, i_lsub, i_lmul, i_ldiv, i_lrem, i_lneg, i_lshl, i_lcmp, i_i2l, i_l2i, i_i2b, i_i2s, i_ifeq, i_ifne, i_iflt, i_ifge, i_ifgt, i_ifle, i_cmpeq, i_cmpne, i_cmplt, i_cmpge, i_cmpgt, i_cmple, i_acmpeq, i_acmpne, i_ifnull, i_ifnonnull, i_getI, i_getR, i_putI, i_putZ, i_putR, i_ald, i_ldL, i_ldR, i_ast, i_stL, i_stR, i_alen, i_new, i_newa, i_iret, i_zret, i_lret, i_aret, i_vret, i_raise, i_throw, i_recv, i_objinit, i_tsw3, lget, lset, lput1, lput2, lkil, ltrim, largs, isL, takev, dropv, nthv, pushO, catv, gd, true_and, and_true, Option.some.injEq, Prod.mk.injEq, exists_eq_left', if_true, if_false, reduceCtorEq, Bool.false_eq_true, lcmp_ge, lcmp_lt, lcmp_le, lcmp_gt, lcmp_eq, true_or, or_true, not_true_eq_false, not_false_eq_true, false_implies, true_implies, List.length_cons, List.length_nil, m1, m2, m3, m4, m5, a1, a2, a3, e1]
  refine ⟨fun _ => ⟨by unfold inI; omega, by omega, by omega, by simp [okT], ?_⟩, fun h => absurd h (Int.lt_irrefl _)⟩
  obtain ⟨D2, hD2⟩ : ∃ D2, D2 = pmu D1 u ((d + 1 + m : Nat) : Int) ca := ⟨_, rfl⟩
  rw [← hD2]
  have ez : ∀ l, D2 u l = if l = ((d + 1 + m : Nat) : Int) then ca else D1 u l := fun l => by rw [hD2]; simp [pmu]
  have eo : ∀ c l, c ≠ u → D2 c l = D c l := fun c l h => by rw [hD2]; simp only [pmu]; rw [if_neg (fun g => h g.1)]; exact g1 c l h
  have hu2 : dok (D2 u) (d + 1 + m + 1) := fun i q1 q2 => by
    rw [ez]; split
    · omega
    · exact g2 i q1 (by omega)
  have hv2 : dv (D2 u) (d + 1 + m + 1) = f * x.natAbs := by
    have e3 : dv (D2 u) (d + 1 + m) = dv (D1 u) (d + 1 + m) := dv_congr fun l q1 q2 => by rw [ez, if_neg (by omega)]
    rw [hxv, ← g3]
    show dv (D2 u) (d + 1 + m) + D2 u ((d + 1 + m : Nat) : Int) * 1000000000 ^ (d + 1 + m) = _
    rw [e3, ez, if_pos rfl]
  have eb : D2 (b + 1) = D (b + 1) := funext fun i => eo _ i (Ne.symm nbu)
  refine sp_X16_div4 (D := D2) hM0 hb0 nbv (na := d + 1) (by rw [eb]; exact hyd) h2 (by omega) ⟨f1, f2⟩ (fun D3 cb hcb k1 k2 k3 => ?_) (d + 1) 0 0 D2 (by omega) ⟨by omega, by omega⟩ (fun _ _ _ => rfl) (fun i q1 q2 => by omega) (by simp [dv])
  rw [eb, ← hyv] at k3
  refine wp_in ?_
  simp only [P_X16_divide, i_kil, i_icon, i_lcon, i_null, i_loadI, i_loadL, i_loadR, i_istore, i_lstore, i_astore, i_iinc, i_dup, i_dup2, i_pop, i_iadd, i_isub, i_imul, i_idiv, i_irem, i_ineg, i_iand, i_ior, i_ishl, i_ishr, i_lxor, i_ladd, i_lsub, i_lmul, i_ldiv, i_lrem, i_lneg, i_lshl, i_lcmp, i_i2l, i_l2i, i_i2b, i_i2s, i_ifeq, i_ifne, i_iflt, i_ifge, i_ifgt, i_ifle, i_cmpeq, i_cmpne, i_cmplt, i_cmpge, i_cmpgt, i_cmple, i_acmpeq, i_acmpne, i_ifnull, i_ifnonnull, i_getI, i_getR, i_putI, i_putZ, i_putR, i_ald, i_ldL, i_ldR, i_ast, i_stL, i_stR, i_alen, i_new, i_newa, i_iret, i_zret, i_lret, i_aret, i_vret, i_raise, i_throw, i_recv, i_objinit, i_tsw3, lget, lset, lput1, lput2, lkil, ltrim, largs, isL, takev, dropv, nthv, pushO, catv, gd, true_and, and_true, Option.some.injEq, Prod.mk.injEq, exists_eq_left', if_true, if_false, reduceCtorEq, Bool.false_eq_true, lcmp_ge, lcmp_lt, lcmp_le, lcmp_gt, lcmp_eq, true_or, or_true, not_true_eq_false, not_false_eq_true, false_implies, true_implies, List.length_cons, List.length_nil, m1, m2, m3, m4, m5]
  refine ⟨fun _ => ?_, fun h => absurd h (Int.lt_irrefl _)⟩
  have hby : (y.natAbs : Int) < (t + 1) * 1000000000 ^ d := by
    rw [hyv]; simp only [dv]; rw [← ht, Int.add_mul]
    have := dv_nn (hyd.mono (Nat.le_succ d)); omega
  have hby2 : t * 1000000000 ^ d ≤ y.natAbs := by
    rw [hyv]; simp only [dv]; rw [← ht]
    have := dv_nn (hyd.mono (Nat.le_succ d)); omega
  have hpd := pw_pos d
  obtain ⟨V, hV⟩ : ∃ V, V = f * y.natAbs := ⟨_, rfl⟩
  have hVlt : V < 1000000000 ^ (d + 1) := by
    have e1 : f * y.natAbs < f * ((t + 1) * 1000000000 ^ d) := Int.mul_lt_mul_of_pos_left hby (by omega)
    have e2 : f * (t + 1) * 1000000000 ^ d ≤ 1000000000 * 1000000000 ^ d := Int.mul_le_mul_of_nonneg_right f3 (by omega)
    rw [← Int.mul_assoc] at e1
    rw [pw_succ]; omega
  have hVge : f * t * 1000000000 ^ d ≤ V := by
    have e1 : f * (t * 1000000000 ^ d) ≤ f * y.natAbs := Int.mul_le_mul_of_nonneg_left hby2 (by omega)
    rw [← Int.mul_assoc] at e1
    omega
  rw [← hV] at k3
  have hdv := dv_nn k2
  have hz : cb = 0 := by
    rcases Int.lt_or_le 0 cb with h | h
    · exfalso
      have e1 : 1 * 1000000000 ^ (d + 1) ≤ cb * 1000000000 ^ (d + 1) := Int.mul_le_mul_of_nonneg_right (by omega) (by have := pw_pos (d + 1); omega)
      omega
    · omega
  have hVd : dv (D3 v) (d + 1) = V := by rw [hz, Int.zero_mul] at k3; omega
  have e3 : 500000000 * 1000000000 ^ d ≤ f * t * 1000000000 ^ d := Int.mul_le_mul_of_nonneg_right f4 (by omega)
  have hv1 : 500000000 ≤ D3 v d := by
    have e1 : dv (D3 v) (d + 1) = dv (D3 v) d + D3 v (d : Int) * 1000000000 ^ d := rfl
    have e2 := dv_nn (k2.mono (show d ≤ d + 1 by omega))
    have e4 : 500000000 * 1000000000 ^ d < (D3 v (d : Int) + 1) * 1000000000 ^ d := by rw [Int.add_mul]; omega
    have := Int.lt_of_mul_lt_mul_right e4 (by omega)
    omega
  have hVpos : 0 < V := by omega
  have eu3 : D3 u = D2 u := funext fun i => k1 _ i m6
  have R := sp_X16_div5 (E := E) (B := B) (f := f) (X := f * x.natAbs) (l1 := l1) (l2 := l2) (l5 := l5) (l6 := l6) (m := m) (D2 := D3) hM0 hW0 (by omega) k2 (by omega) hVd.symm (fun D' n1 n2 n3 n4 n5 => K D' (fun c i c1 c2 c3 => by rw [n1 c i c1 c3, k1 c i c2, eo c i c1]) n2 n3 (by rw [← hV]; exact n4) (by rw [← hV]; exact n5)) (m + 1) D3 (Nat.le_refl _) (fun _ _ _ _ => rfl) (by rw [eu3]; exact hu2) (fun i h0 h1 => by omega) ?_ ?_
  · rw [show ((m + 1 : Nat) : Int) - 1 = m by omega] at R
    exact R
  · rw [eu3]
    have e1 := dv_sh (f := D2 u) (j := m + 1) (n := d + 1)
    rw [show m + 1 + (d + 1) = d + 1 + m + 1 by omega, hv2] at e1
    have e2 := dv_nn (hu2.mono (show m + 1 ≤ d + 1 + m + 1 by omega))
    have e3 : (x.natAbs : Int) < 1000000000 ^ (d + (m + 1)) := by
      rw [hxv, show d + (m + 1) = d + 1 + m by omega]; exact (dv_nn hxd).2
    have e4 : f * x.natAbs < f * (1000000000 ^ d * 1000000000 ^ (m + 1)) := by rw [← pw_add]; exact Int.mul_lt_mul_of_pos_left e3 (by omega)
    have e5 : f * 1 * 1000000000 ^ d ≤ f * t * 1000000000 ^ d := Int.mul_le_mul_of_nonneg_right (Int.mul_le_mul_of_nonneg_left ht1.1 (by omega)) (by omega)
    have e6 : dv (sh (D2 u) ((m + 1 : Nat) : Int)) (d + 1) * 1000000000 ^ (m + 1) < f * 1000000000 ^ d * 1000000000 ^ (m + 1) := by rw [Int.mul_assoc]; omega
    have := Int.lt_of_mul_lt_mul_right e6 (by have := pw_pos (m + 1); omega)
    rw [Int.mul_one] at e5
    omega
  · rw [eu3]
    have e1 := dv_sh (f := D2 u) (j := m + 1) (n := d + 1)
    rw [show m + 1 + (d + 1) = d + 1 + m + 1 by omega, hv2] at e1
    rw [Nat.sub_self]
    simp only [dv, Int.zero_mul, Int.zero_add]
    simp only [dv] at e1
    omega
/-- what the unscaled rest is -/
theorem dv_rest {X Y Q U f : Int} (hf : 1 ≤ f) (hU0 : 0 ≤ U) (hU : U < f * Y) (h : f * X = Q * (f * Y) + U) : U = (X - Q * Y) * f ∧ 0 ≤ X - Q * Y ∧ X - Q * Y < Y := by
  have e : U = (X - Q * Y) * f := by grind
  refine ⟨e, ?_, ?_⟩
  · have h1 : 0 * f ≤ (X - Q * Y) * f := by rw [Int.zero_mul, ← e]; exact hU0
    exact Int.le_of_mul_le_mul_right h1 (by omega)
  · have h1 : (X - Q * Y) * f < Y * f := by rw [← e, Int.mul_comm Y]; exact hU
    exact Int.lt_of_mul_lt_mul_right h1 (by omega)
/-- the working rows apart from all else -/
def wO5 (D D' : Dat) (u v wh q : Nat) : Prop := ∀ c i, c ≠ u → c ≠ v → c ≠ wh → c ≠ q → c ≠ q + 1 → D' c i = D c i
set_option maxHeartbeats 2000000 in
/-- the quotient alone -/
theorem sp_X16_divide_q {E : Ex} {B : Nat × Nat} {S : Stat} {D : Dat} {M u v wh q a b rq ra rb : Nat} {x y : Int} (hM : mR S M u v) (hW : mW S M u v wh) (hq : wS 17 S q rq) (ha : wS 17 S a ra) (hb : wS 17 S b rb) (hx : wD 2 1 D a x) (hy : wD 2 1 D b y) (hy0 : y ≠ 0) (hpx : (x.natAbs : Int) < 1000000000 ^ ra) (hpy : (y.natAbs : Int) < 1000000000 ^ rb) (hpq : (x.natAbs : Int) < 1000000000 ^ rq) (hrq : rq < 266) (hra : ra < 266) (hrb : rb < 266)
    (k : ∀ D' : Dat, wO5 D D' u v wh q → wD 2 1 D' q (x.tdiv y) → E (.inl none) B S D') :
    Wp P_X16_divide E 0 [some (aR M), some (aR q), some (.inr (.inr none)), some (aR a), some (aR b)] [] B S D := by
  have hM0 := hM
  have hW0 := hW
  have ha0 := ha
  have hb0 := hb
  have hq0 := hq
  obtain ⟨na, hna, a1, a2, a3, a4⟩ := hx.nat hpx
  obtain ⟨n, hn, b1, b2, b3, b4⟩ := hy.nat hpy
  have hnq : na ≤ rq := a2.size_le (by rw [← a4]; exact hpq)
  obtain ⟨m1, m2, m3, m4, m5, m6⟩ := hM
  obtain ⟨w1, w2, w3, w4⟩ := hW
  obtain ⟨q1, q2, q3⟩ := hq
  obtain ⟨u1, u2, u3⟩ := ha
  obtain ⟨v1, v2, v3⟩ := hb
  have nwq : wh ≠ q + 1 := fun h => by rw [h, q3] at w2; simp at w2; omega
  have hn0 : 1 ≤ n := by
    rcases Nat.eq_zero_or_pos n with h | h
    · subst h; simp only [dv] at b4; omega
    · exact h
  refine wp_in ?_
  simp only [P_X16_divide, i_kil, i_icon, i_lcon, i_null, i_loadI, i_loadL, i_loadR, i_istore, i_lstore, i_astore, i_iinc, i_dup, i_dup2, i_pop, i_iadd, i_isub, i_imul, i_idiv, i_irem, i_ineg, i_iand, i_ior, i_ishl, i_ishr, i_lxor, i_ladd, i_lsub, i_lmul, i_ldiv, i_lrem, i_lneg, i_lshl, i_lcmp, i_i2l, i_l2i, i_i2b, i_i2s, i_ifeq, i_ifne, i_iflt, i_ifge, i_ifgt, i_ifle, i_cmpeq, i_cmpne, i_cmplt, i_cmpge, i_cmpgt, i_cmple, i_acmpeq, i_acmpne, i_ifnull, i_ifnonnull, i_getI, i_getR, i_putI, i_putZ, i_putR, i_ald, i_ldL, i_ldR, i_ast, i_stL, i_stR, i_alen, i_new, i_newa, i_iret, i_zret, i_lret, i_aret, i_vret, i_raise, i_throw, i_recv, i_objinit, i_tsw3, lget, lset, lput1, lput2, lkil, ltrim, largs, isL, takev, dropv, nthv, pushO, catv, gd, true_and, and_true, Option.some.injEq, Prod.mk.injEq, exists_eq_left', if_true, if_false, reduceCtorEq, Bool.false_eq_true, lcmp_ge, lcmp_lt, lcmp_le, lcmp_gt, lcmp_eq, true_or, or_true, not_true_eq_false, not_false_eq_true, false_implies, true_implies, List.length_cons, List.length_nil, m1, m2, m3, m4, m5, q1, u1, v1]
  refine call0 (gd_of rfl) ?_
  refine sp_X16_compare ha0 hb0 hx hy hpx hpy (by omega) (by omega) fun c hc1 hc2 => ?_
  simp only [P_X16_divide, i_kil, i_icon, i_lcon, i_null, i_loadI, i_loadL, i_loadR, i_istore, i_lstore, i_astore, i_iinc, i_dup, i_dup2, i_pop, i_iadd, i_isub, i_imul, i_idiv, i_irem, i_ineg, i_iand, i_ior, i_ishl, i_ishr, i_lxor, i_ladd, i_lsub, i_lmul, i_ldiv, i_lrem, i_lneg, i_lshl, i_lcmp, i_i2l, i_l2i, i_i2b, i_i2s, i_ifeq, i_ifne, i_iflt, i_ifge, i_ifgt, i_ifle, i_cmpeq, i_cmpne, i_cmplt, i_cmpge, i_cmpgt, i_cmple, i_acmpeq, i_acmpne, i_ifnull, i_ifnonnull, i_getI, i_getR, i_putI, i_putZ, i_putR, i_ald, i_ldL, i_ldR, i_ast, i_stL, i_stR, i_alen, i_new, i_newa, i_iret, i_zret, i_lret, i_aret, i_vret, i_raise, i_throw, i_recv, i_objinit, i_tsw3, lget, lset, lput1, lput2, lkil, ltrim, largs, isL, takev, dropv, nthv, pushO, catv, gd, true_and, and_true, Option.some.injEq, Prod.mk.injEq, exists_eq_left', if_true, if_false, reduceCtorEq, Bool.false_eq_true, lcmp_ge, lcmp_lt, lcmp_le, lcmp_gt, lcmp_eq, true_or, or_true, not_true_eq_false, not_false_eq_true, false_implies, true_implies, List.length_cons, List.length_nil, m1, m2, m3, m4, m5, q1, u1, v1, v2, v3]
  refine ⟨fun hge => ?_, fun hlt => ?_⟩
  · have hxy : (y.natAbs : Int) ≤ x.natAbs := by have := mt hc1.mpr (by omega); omega
    have hnn : n ≤ na := by
      rcases Nat.lt_or_ge na n with h | h
      · have := dv_lt_of_size a2 b2 h; omega
      · exact h
    obtain ⟨m, rfl⟩ : ∃ m, na = n + m := ⟨na - n, by omega⟩
    obtain ⟨d, rfl⟩ : ∃ d, n = d + 1 := ⟨n - 1, by omega⟩
    have edn : ((d + 1 : Nat) : Int) - 1 = d := by omega
    have emm : ((d + 1 + m : Nat) : Int) - ((d + 1 : Nat) : Int) = m := by omega
    have hx0 : 0 < (x.natAbs : Int) := by omega
    have hsx : Int.sign x = 1 ∨ Int.sign x = -1 := by rcases sgn_cases x with h | h | h <;> omega
    have hsy : Int.sign y = 1 ∨ Int.sign y = -1 := by rcases sgn_cases y with h | h | h <;> omega
    rw [a1, b1, emm, edn, a3, b3]
    obtain ⟨t, ht⟩ : ∃ t, t = D (b + 1) (d : Int) := ⟨_, rfl⟩
    have ht1 : 1 ≤ t ∧ t < 1000000000 := by
      have h1 := b2.1 (d : Int) (by omega) (by omega)
      have h2 := b2.2 (by omega)
      rw [edn] at h2
      omega
    obtain ⟨f, hf⟩ : ∃ f, f = 1000000000 / (t + 1) := ⟨_, rfl⟩
    obtain ⟨f1, f2, f3, f4⟩ := kn_norm ht1 hf
    rw [← ht, tdiv_nn (by decide), ← hf]
    refine ⟨in_small (by omega) (by omega), in_small (by omega) (by omega), by omega, by omega, by unfold inL; omega, by omega, by unfold inL; omega, ?_⟩
    refine sp_X16_divF (x := x) (y := y) hM0 hW0 ha0 hb0 hra hrb hna hn a1 a2.1 a4 b2.1 b4 ht ht1 hf fun D' g1 g2 g3 g4 g5 => ?_
    refine wp_in ?_
    simp only [P_X16_divide, i_kil, i_icon, i_lcon, i_null, i_loadI, i_loadL, i_loadR, i_istore, i_lstore, i_astore, i_iinc, i_dup, i_dup2, i_pop, i_iadd, i_isub, i_imul, i_idiv, i_irem, i_ineg, i_iand, i_ior, i_ishl, i_ishr, i_lxor, i_ladd, i_lsub, i_lmul, i_ldiv, i_lrem, i_lneg, i_lshl, i_lcmp, i_i2l, i_l2i, i_i2b, i_i2s, i_ifeq, i_ifne, i_iflt, i_ifge, i_ifgt, i_ifle, i_cmpeq, i_cmpne, i_cmplt, i_cmpge, i_cmpgt, i_cmple, i_acmpeq, i_acmpne, i_ifnull, i_ifnonnull, i_getI, i_getR, i_putI, i_putZ, i_putR, i_ald, i_ldL, i_ldR, i_ast, i_stL, i_stR, i_alen, i_new, i_newa, i_iret, i_zret, i_lret, i_aret, i_vret, i_raise, i_throw, i_recv, i_objinit, i_tsw3, lget, lset, lput1, lput2, lkil, ltrim, largs, isL, takev, dropv, nthv, pushO, catv, gd, true_and, and_true, Option.some.injEq, Prod.mk.injEq, exists_eq_left', if_true, if_false, reduceCtorEq, Bool.false_eq_true, lcmp_ge, lcmp_lt, lcmp_le, lcmp_gt, lcmp_eq, true_or, or_true, not_true_eq_false, not_false_eq_true, false_implies, true_implies, List.length_cons, List.length_nil, m1]
    refine ⟨fun _ => ?_, fun h => by omega⟩
    have hUn := dv_nn (g2.mono (show d + 1 ≤ d + 1 + m + 1 by omega))
    obtain ⟨r1, r2, r3⟩ := dv_rest (by omega) hUn.1 g4 g5
    have hQn := dv_nn g3
    obtain ⟨eq1, eq2⟩ := tdivmod (a := x) (b := y) (Q := dv (D' wh) (m + 1)) hy0 hQn.1 ⟨r2, r3⟩ (by omega)
    refine sp_X16_div6 (D := D') hM0 hW0 hq0 nwq (by omega) (by omega) (by omega) g3 hsx hsy (fun D'' k1 k2 => k D'' (fun c i c1 c2 c3 c4 c5 => by rw [k1 c i c4 c5, g1 c i c1 c2 c3]) (by rw [eq1]; exact k2)) (m + 1) 0 D' (by omega) (fun _ _ _ => rfl) (fun i h0 h1 => by omega)
  · have hxy : (x.natAbs : Int) < y.natAbs := hc1.mp hlt
    obtain ⟨e1, e2⟩ := tdivmod (a := x) (b := y) (Q := 0) (R := x.natAbs) hy0 (by omega) (by omega) (by omega)
    refine wp_in ?_
    simp only [P_X16_divide, i_kil, i_icon, i_lcon, i_null, i_loadI, i_loadL, i_loadR, i_istore, i_lstore, i_astore, i_iinc, i_dup, i_dup2, i_pop, i_iadd, i_isub, i_imul, i_idiv, i_irem, i_ineg, i_iand, i_ior, i_ishl, i_ishr, i_lxor, i_ladd, i_lsub, i_lmul, i_ldiv, i_lrem, i_lneg, i_lshl, i_lcmp, i_i2l, i_l2i, i_i2b, i_i2s, i_ifeq, i_ifne, i_iflt, i_ifge, i_ifgt, i_ifle, i_cmpeq, i_cmpne, i_cmplt, i_cmpge, i_cmpgt, i_cmple, i_acmpeq, i_acmpne, i_ifnull, i_ifnonnull, i_getI, i_getR, i_putI, i_putZ, i_putR, i_ald, i_ldL, i_ldR, i_ast, i_stL, i_stR, i_alen, i_new, i_newa, i_iret, i_zret, i_lret, i_aret, i_vret, i_raise, i_throw, i_recv, i_objinit, i_tsw3, lget, lset, lput1, lput2, lkil, ltrim, largs, isL, takev, dropv, nthv, pushO, catv, gd, true_and, and_true, Option.some.injEq, Prod.mk.injEq, exists_eq_left', if_true, if_false, reduceCtorEq, Bool.false_eq_true, lcmp_ge, lcmp_lt, lcmp_le, lcmp_gt, lcmp_eq, true_or, or_true, not_true_eq_false, not_false_eq_true, false_implies, true_implies, List.length_cons, List.length_nil, m1, q1]
    refine wp_in ?_
    simp only [P_X16_divide, i_kil, i_icon, i_lcon, i_null, i_loadI, i_loadL, i_loadR, i_istore, i_lstore, i_astore, i_iinc, i_dup, i_dup2, i_pop, i_iadd, i_isub, i_imul, i_idiv, i_irem, i_ineg, i_iand, i_ior, i_ishl, i_ishr, i_lxor, i_ladd, i_lsub, i_lmul, i_ldiv, i_lrem, i_lneg, i_lshl, i_lcmp, i_i2l, i_l2i, i_i2b, i_i2s, i_ifeq, i_ifne, i_iflt, i_ifge, i_ifgt, i_ifle, i_cmpeq, i_cmpne, i_cmplt, i_cmpge, i_cmpgt, i_cmple, i_acmpeq, i_acmpne, i_ifnull, i_ifnonnull, i_getI, i_getR, i_putI, i_putZ, i_putR, i_ald, i_ldL, i_ldR, i_ast, i_stL, i_stR, i_alen, i_new, i_newa, i_iret, i_zret, i_lret, i_aret, i_vret, i_raise, i_throw, i_recv, i_objinit, i_tsw3, lget, lset, lput1, lput2, lkil, ltrim, largs, isL, takev, dropv, nthv, pushO, catv, gd, true_and, and_true, Option.some.injEq, Prod.mk.injEq, exists_eq_left', if_true, if_false, reduceCtorEq, Bool.false_eq_true, lcmp_ge, lcmp_lt, lcmp_le, lcmp_gt, lcmp_eq, true_or, or_true, not_true_eq_false, not_false_eq_true, false_implies, true_implies, List.length_cons, List.length_nil, m1, q1]
    refine k _ (fun c i c1 c2 c3 c4 c5 => by simp [pmu, c4]) ?_
    rw [e1, Int.mul_zero]
    have h := wD.mk (kn := 2) (ks := 1) (D := pmu (pmu D q 1 0) q 2 0) (w := q) (n := 0) (s := 0) (by simp [pmu]) ⟨fun i h0 h1 => by omega, fun h => by omega⟩ (by simp [pmu]) (.inl ⟨rfl, rfl⟩)
    rw [Int.zero_mul] at h
    exact h
set_option maxHeartbeats 2000000 in
/-- the rest alone -/
theorem sp_X16_divide_r {E : Ex} {B : Nat × Nat} {S : Stat} {D : Dat} {M u v wh q a b rq ra rb : Nat} {x y : Int} (hM : mR S M u v) (hW : mW S M u v wh) (hq : wS 17 S q rq) (ha : wS 17 S a ra) (hb : wS 17 S b rb) (hx : wD 2 1 D a x) (hy : wD 2 1 D b y) (hy0 : y ≠ 0) (hpx : (x.natAbs : Int) < 1000000000 ^ ra) (hpy : (y.natAbs : Int) < 1000000000 ^ rb) (hpq : (x.natAbs : Int) < 1000000000 ^ rq) (hrq : rq < 266) (hra : ra < 266) (hrb : rb < 266)
    (k : ∀ D' : Dat, wO5 D D' u v wh q → wD 2 1 D' q (x.tmod y) → E (.inl none) B S D') :
    Wp P_X16_divide E 0 [some (aR M), some (.inr (.inr none)), some (aR q), some (aR a), some (aR b)] [] B S D := by
  have hM0 := hM
  have hW0 := hW
  have ha0 := ha
  have hb0 := hb
  have hq0 := hq
  obtain ⟨na, hna, a1, a2, a3, a4⟩ := hx.nat hpx
  obtain ⟨n, hn, b1, b2, b3, b4⟩ := hy.nat hpy
  have hnq : na ≤ rq := a2.size_le (by rw [← a4]; exact hpq)
  obtain ⟨m1, m2, m3, m4, m5, m6⟩ := hM
  obtain ⟨w1, w2, w3, w4⟩ := hW
  obtain ⟨q1, q2, q3⟩ := hq
  obtain ⟨u1, u2, u3⟩ := ha
  obtain ⟨v1, v2, v3⟩ := hb
  have nuq : u ≠ q + 1 := fun h => by rw [h, q3] at m3; simp at m3; omega
  have hn0 : 1 ≤ n := by
    rcases Nat.eq_zero_or_pos n with h | h
    · subst h; simp only [dv] at b4; omega
    · exact h
  refine wp_in ?_
  simp only [P_X16_divide, i_kil, i_icon, i_lcon, i_null, i_loadI, i_loadL, i_loadR, i_istore, i_lstore, i_astore, i_iinc, i_dup, i_dup2, i_pop, i_iadd, i_isub, i_imul, i_idiv, i_irem, i_ineg, i_iand, i_ior, i_ishl, i_ishr, i_lxor, i_ladd, i_lsub, i_lmul, i_ldiv, i_lrem, i_lneg, i_lshl, i_lcmp, i_i2l, i_l2i, i_i2b, i_i2s, i_ifeq, i_ifne, i_iflt, i_ifge, i_ifgt, i_ifle, i_cmpeq, i_cmpne, i_cmplt, i_cmpge, i_cmpgt, i_cmple, i_acmpeq, i_acmpne, i_ifnull, i_ifnonnull, i_getI, i_getR, i_putI, i_putZ, i_putR, i_ald, i_ldL, i_ldR, i_ast, i_stL, i_stR, i_alen, i_new, i_newa, i_iret, i_zret, i_lret, i_aret, i_vret, i_raise, i_throw, i_recv, i_objinit, i_tsw3, lget, lset, lput1, lput2, lkil, ltrim, largs, isL, takev, dropv, nthv, pushO, catv, gd, true_and, and_true, Option.some.injEq, Prod.mk.injEq, exists_eq_left', if_true, if_false, reduceCtorEq, Bool.false_eq_true, lcmp_ge, lcmp_lt, lcmp_le, lcmp_gt, lcmp_eq, true_or, or_true, not_true_eq_false, not_false_eq_true, false_implies, true_implies, List.length_cons, List.length_nil, m1, m2, m3, m4, m5, q1, u1, v1]
  refine call0 (gd_of rfl) ?_
  refine sp_X16_compare ha0 hb0 hx hy hpx hpy (by omega) (by omega) fun c hc1 hc2 => ?_
  simp only [P_X16_divide, i_kil, i_icon, i_lcon, i_null, i_loadI, i_loadL, i_loadR, i_istore, i_lstore, i_astore, i_iinc, i_dup, i_dup2, i_pop, i_iadd, i_isub, i_imul, i_idiv, i_irem, i_ineg, i_iand, i_ior, i_ishl, i_ishr, i_lxor, i_ladd, i_lsub, i_lmul, i_ldiv, i_lrem, i_lneg, i_lshl, i_lcmp, i_i2l, i_l2i, i_i2b, i_i2s, i_ifeq, i_ifne, i_iflt, i_ifge, i_ifgt, i_ifle, i_cmpeq, i_cmpne, i_cmplt, i_cmpge, i_cmpgt, i_cmple, i_acmpeq, i_acmpne, i_ifnull, i_ifnonnull, i_getI, i_getR, i_putI, i_putZ, i_putR, i_ald, i_ldL, i_ldR, i_ast, i_stL, i_stR, i_alen, i_new, i_newa, i_iret, i_zret, i_lret, i_aret, i_vret, i_raise, i_throw, i_recv, i_objinit, i_tsw3, lget, lset, lput1, lput2, lkil, ltrim, largs, isL, takev, dropv, nthv, pushO, catv, gd, true_and, and_true, Option.some.injEq, Prod.mk.injEq, exists_eq_left', if_true, if_false, reduceCtorEq, Bool.false_eq_true, lcmp_ge, lcmp_lt, lcmp_le, lcmp_gt, lcmp_eq, true_or, or_true, not_true_eq_false, not_false_eq_true, false_implies, true_implies, List.length_cons, List.length_nil, m1, m2, m3, m4, m5, q1, u1, v1, v2, v3]
  refine ⟨fun hge => ?_, fun hlt => ?_⟩
  · have hxy : (y.natAbs : Int) ≤ x.natAbs := by have := mt hc1.mpr (by omega); omega
    have hnn : n ≤ na := by
      rcases Nat.lt_or_ge na n with h | h
      · have := dv_lt_of_size a2 b2 h; omega
      · exact h
    obtain ⟨m, rfl⟩ : ∃ m, na = n + m := ⟨na - n, by omega⟩
    obtain ⟨d, rfl⟩ : ∃ d, n = d + 1 := ⟨n - 1, by omega⟩
    have edn : ((d + 1 : Nat) : Int) - 1 = d := by omega
    have emm : ((d + 1 + m : Nat) : Int) - ((d + 1 : Nat) : Int) = m := by omega
    have hx0 : 0 < (x.natAbs : Int) := by omega
    have hsx : Int.sign x = 1 ∨ Int.sign x = -1 := by rcases sgn_cases x with h | h | h <;> omega
    rw [a1, b1, emm, edn, a3, b3]
    obtain ⟨t, ht⟩ : ∃ t, t = D (b + 1) (d : Int) := ⟨_, rfl⟩
    have ht1 : 1 ≤ t ∧ t < 1000000000 := by
      have h1 := b2.1 (d : Int) (by omega) (by omega)
      have h2 := b2.2 (by omega)
      rw [edn] at h2
      omega
    obtain ⟨f, hf⟩ : ∃ f, f = 1000000000 / (t + 1) := ⟨_, rfl⟩
    obtain ⟨f1, f2, f3, f4⟩ := kn_norm ht1 hf
    rw [← ht, tdiv_nn (by decide), ← hf]
    refine ⟨in_small (by omega) (by omega), in_small (by omega) (by omega), by omega, by omega, by unfold inL; omega, by omega, by unfold inL; omega, ?_⟩
    refine sp_X16_divF (x := x) (y := y) hM0 hW0 ha0 hb0 hra hrb hna hn a1 a2.1 a4 b2.1 b4 ht ht1 hf fun D' g1 g2 g3 g4 g5 => ?_
    refine wp_in ?_
    simp only [P_X16_divide, i_kil, i_icon, i_lcon, i_null, i_loadI, i_loadL, i_loadR, i_istore, i_lstore, i_astore, i_iinc, i_dup, i_dup2, i_pop, i_iadd, i_isub, i_imul, i_idiv, i_irem, i_ineg, i_iand, i_ior, i_ishl, i_ishr, i_lxor, i_ladd, i_lsub, i_lmul, i_ldiv, i_lrem, i_lneg, i_lshl, i_lcmp, i_i2l, i_l2i, i_i2b, i_i2s, i_ifeq, i_ifne, i_iflt, i_ifge, i_ifgt, i_ifle, i_cmpeq, i_cmpne, i_cmplt, i_cmpge, i_cmpgt, i_cmple, i_acmpeq, i_acmpne, i_ifnull, i_ifnonnull, i_getI, i_getR, i_putI, i_putZ, i_putR, i_ald, i_ldL, i_ldR, i_ast, i_stL, i_stR, i_alen, i_new, i_newa, i_iret, i_zret, i_lret, i_aret, i_vret, i_raise, i_throw, i_recv, i_objinit, i_tsw3, lget, lset, lput1, lput2, lkil, ltrim, largs, isL, takev, dropv, nthv, pushO, catv, gd, true_and, and_true, Option.some.injEq, Prod.mk.injEq, exists_eq_left', if_true, if_false, reduceCtorEq, Bool.false_eq_true, lcmp_ge, lcmp_lt, lcmp_le, lcmp_gt, lcmp_eq, true_or, or_true, not_true_eq_false, not_false_eq_true, false_implies, true_implies, List.length_cons, List.length_nil, m1]
    refine ⟨fun _ => ?_, fun h => by omega⟩
    have hUn := dv_nn (g2.mono (show d + 1 ≤ d + 1 + m + 1 by omega))
    obtain ⟨r1, r2, r3⟩ := dv_rest (by omega) hUn.1 g4 g5
    have hQn := dv_nn g3
    obtain ⟨eq1, eq2⟩ := tdivmod (a := x) (b := y) (Q := dv (D' wh) (m + 1)) hy0 hQn.1 ⟨r2, r3⟩ (by omega)
    refine wp_in ?_
    simp only [P_X16_divide, i_kil, i_icon, i_lcon, i_null, i_loadI, i_loadL, i_loadR, i_istore, i_lstore, i_astore, i_iinc, i_dup, i_dup2, i_pop, i_iadd, i_isub, i_imul, i_idiv, i_irem, i_ineg, i_iand, i_ior, i_ishl, i_ishr, i_lxor, i_ladd, i_lsub, i_lmul, i_ldiv, i_lrem, i_lneg, i_lshl, i_lcmp, i_i2l, i_l2i, i_i2b, i_i2s, i_ifeq, i_ifne, i_iflt, i_ifge, i_ifgt, i_ifle, i_cmpeq, i_cmpne, i_cmplt, i_cmpge, i_cmpgt, i_cmple, i_acmpeq, i_acmpne, i_ifnull, i_ifnonnull, i_getI, i_getR, i_putI, i_putZ, i_putR, i_ald, i_ldL, i_ldR, i_ast, i_stL, i_stR, i_alen, i_new, i_newa, i_iret, i_zret, i_lret, i_aret, i_vret, i_raise, i_throw, i_recv, i_objinit, i_tsw3, lget, lset, lput1, lput2, lkil, ltrim, largs, isL, takev, dropv, nthv, pushO, catv, gd, true_and, and_true, Option.some.injEq, Prod.mk.injEq, exists_eq_left', if_true, if_false, reduceCtorEq, Bool.false_eq_true, lcmp_ge, lcmp_lt, lcmp_le, lcmp_gt, lcmp_eq, true_or, or_true, not_true_eq_false, not_false_eq_true, false_implies, true_implies, List.length_cons, List.length_nil, m1]
    refine ⟨in_small (by omega) (by omega), ?_⟩
    refine sp_X16_div9 (D3 := D') hM0 hq0 nuq (by omega) (by omega) (by omega) ⟨f1, f2⟩ (g2.mono (by omega)) r1 hsx (fun D'' k1 k2 => k D'' (fun c i c1 c2 c3 c4 c5 => by rw [k1 c i c4 c5, g1 c i c1 c2 c3]) (by rw [eq2]; exact k2)) (d + 1) 0 D' (Nat.le_refl _) (by omega) (fun _ _ _ => rfl) (fun i h0 h1 => by omega) (by simp [dv])
  · have hxy : (x.natAbs : Int) < y.natAbs := hc1.mp hlt
    obtain ⟨e1, e2⟩ := tdivmod (a := x) (b := y) (Q := 0) (R := x.natAbs) hy0 (by omega) (by omega) (by omega)
    have fin : ∀ D' : Dat, wO D D' q → wD 2 1 D' q x → Wp P_X16_divide E 1 [none, some (.inr (.inr none))] [] B S D' := fun D' g1 g2 => by
      refine wp_in ?_
      simp only [P_X16_divide, i_kil, i_icon, i_lcon, i_null, i_loadI, i_loadL, i_loadR, i_istore, i_lstore, i_astore, i_iinc, i_dup, i_dup2, i_pop, i_iadd, i_isub, i_imul, i_idiv, i_irem, i_ineg, i_iand, i_ior, i_ishl, i_ishr, i_lxor, i_ladd, i_lsub, i_lmul, i_ldiv, i_lrem, i_lneg, i_lshl, i_lcmp, i_i2l, i_l2i, i_i2b, i_i2s, i_ifeq, i_ifne, i_iflt, i_ifge, i_ifgt, i_ifle, i_cmpeq, i_cmpne, i_cmplt, i_cmpge, i_cmpgt, i_cmple, i_acmpeq, i_acmpne, i_ifnull, i_ifnonnull, i_getI, i_getR, i_putI, i_putZ, i_putR, i_ald, i_ldL, i_ldR, i_ast, i_stL, i_stR, i_alen, i_new, i_newa, i_iret, i_zret, i_lret, i_aret, i_vret, i_raise, i_throw, i_recv, i_objinit, i_tsw3, lget, lset, lput1, lput2, lkil, ltrim, largs, isL, takev, dropv, nthv, pushO, catv, gd, true_and, and_true, Option.some.injEq, Prod.mk.injEq, exists_eq_left', if_true, if_false, reduceCtorEq, Bool.false_eq_true, lcmp_ge, lcmp_lt, lcmp_le, lcmp_gt, lcmp_eq, true_or, or_true, not_true_eq_false, not_false_eq_true, false_implies, true_implies, List.length_cons, List.length_nil, m1, q1]
      refine wp_in ?_
      simp only [P_X16_divide, i_kil, i_icon, i_lcon, i_null, i_loadI, i_loadL, i_loadR, i_istore, i_lstore, i_astore, i_iinc, i_dup, i_dup2, i_pop, i_iadd, i_isub, i_imul, i_idiv, i_irem, i_ineg, i_iand, i_ior, i_ishl, i_ishr, i_lxor, i_ladd, i_lsub, i_lmul, i_ldiv, i_lrem, i_lneg, i_lshl, i_lcmp, i_i2l, i_l2i, i_i2b, i_i2s, i_ifeq, i_ifne, i_iflt, i_ifge, i_ifgt, i_ifle, i_cmpeq, i_cmpne, i_cmplt, i_cmpge, i_cmpgt, i_cmple, i_acmpeq, i_acmpne, i_ifnull, i_ifnonnull, i_getI, i_getR, i_putI, i_putZ, i_putR, i_ald, i_ldL, i_ldR, i_ast, i_stL, i_stR, i_alen, i_new, i_newa, i_iret, i_zret, i_lret, i_aret, i_vret, i_raise, i_throw, i_recv, i_objinit, i_tsw3, lget, lset, lput1, lput2, lkil, ltrim, largs, isL, takev, dropv, nthv, pushO, catv, gd, true_and, and_true, Option.some.injEq, Prod.mk.injEq, exists_eq_left', if_true, if_false, reduceCtorEq, Bool.false_eq_true, lcmp_ge, lcmp_lt, lcmp_le, lcmp_gt, lcmp_eq, true_or, or_true, not_true_eq_false, not_false_eq_true, false_implies, true_implies, List.length_cons, List.length_nil, m1, q1]
      refine k _ (fun c i c1 c2 c3 c4 c5 => g1 c i c4 c5) ?_
      rw [e2, ← sgn_mul_abs]
      exact g2
    refine ⟨fun h => ?_, fun h => ?_⟩
    · have e : q = a := by simpa using h
      subst e
      exact fin D (fun _ _ _ _ => rfl) hx
    · refine ⟨⟨q, rfl, q1⟩, call0 (gd_of rfl) ?_⟩
      refine sp_X17_copy hq0 ha0 hx hpq hpx (by omega) fun D' g1 g2 => ?_
      simp only [P_X16_divide, i_kil, i_icon, i_lcon, i_null, i_loadI, i_loadL, i_loadR, i_istore, i_lstore, i_astore, i_iinc, i_dup, i_dup2, i_pop, i_iadd, i_isub, i_imul, i_idiv, i_irem, i_ineg, i_iand, i_ior, i_ishl, i_ishr, i_lxor, i_ladd, i_lsub, i_lmul, i_ldiv, i_lrem, i_lneg, i_lshl, i_lcmp, i_i2l, i_l2i, i_i2b, i_i2s, i_ifeq, i_ifne, i_iflt, i_ifge, i_ifgt, i_ifle, i_cmpeq, i_cmpne, i_cmplt, i_cmpge, i_cmpgt, i_cmple, i_acmpeq, i_acmpne, i_ifnull, i_ifnonnull, i_getI, i_getR, i_putI, i_putZ, i_putR, i_ald, i_ldL, i_ldR, i_ast, i_stL, i_stR, i_alen, i_new, i_newa, i_iret, i_zret, i_lret, i_aret, i_vret, i_raise, i_throw, i_recv, i_objinit, i_tsw3, lget, lset, lput1, lput2, lkil, ltrim, largs, isL, takev, dropv, nthv, pushO, catv, gd, true_and, and_true, Option.some.injEq, Prod.mk.injEq, exists_eq_left', if_true, if_false, reduceCtorEq, Bool.false_eq_true, lcmp_ge, lcmp_lt, lcmp_le, lcmp_gt, lcmp_eq, true_or, or_true, not_true_eq_false, not_false_eq_true, false_implies, true_implies, List.length_cons, List.length_nil]
      exact fin D' g1 g2
