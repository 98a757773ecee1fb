/-! terms: numbers and letters -/
set_option maxRecDepth 100000
set_option linter.unusedVariables false
def ifc (p : Bool) : Nat := match p with
  | true => 1
  | false => 0
/-- how many terms have a first letter below a -/
def tpa : Nat → Nat
  | 0 => 0
  | a + 1 => tpa a + (13 - a) * (14 - a) / 2
/-- how many of a fixed first letter have a second one below b -/
def tpb (a : Nat) : Nat → Nat
  | 0 => 0
  | b + 1 => tpb a b + (13 - a - b)
/-- the number of a term -/
def tn (a b c : Nat) : Nat := tpa a + tpb a b + c
def tcnt (f : Nat → Bool) : Nat → Nat
  | 0 => 0
  | n + 1 => tcnt f n + ifc (f n)
/-- the letters of a number -/
def tx0 (t : Nat) : Nat := tcnt (fun i => Nat.ble (tpa (i + 1)) t) 12
def tx1 (t : Nat) : Nat := tcnt (fun i => Nat.ble (tpb (tx0 t) (i + 1)) (t - tpa (tx0 t))) (12 - tx0 t)
def tx2 (t : Nat) : Nat := t - tpa (tx0 t) - tpb (tx0 t) (tx1 t)
theorem tx_all : ∀ t : Fin 455, tx0 t + tx1 t + tx2 t ≤ 12 ∧ tn (tx0 t) (tx1 t) (tx2 t) = t := by decide +kernel
theorem tn_all : ∀ a : Fin 13, ∀ b : Fin 13, ∀ c : Fin 13, (a : Nat) + b + c ≤ 12 → tn a b c < 455 ∧ tx0 (tn a b c) = a ∧ tx1 (tn a b c) = b ∧ tx2 (tn a b c) = c := by decide +kernel
theorem tx_le {t : Nat} (h : t < 455) : tx0 t + tx1 t + tx2 t ≤ 12 := (tx_all ⟨t, h⟩).1
theorem tx_tn {t : Nat} (h : t < 455) : tn (tx0 t) (tx1 t) (tx2 t) = t := (tx_all ⟨t, h⟩).2
theorem tn_lt {a b c : Nat} (h : a + b + c ≤ 12) : tn a b c < 455 := (tn_all ⟨a, by omega⟩ ⟨b, by omega⟩ ⟨c, by omega⟩ h).1
theorem tn_tx {a b c : Nat} (h : a + b + c ≤ 12) : tx0 (tn a b c) = a ∧ tx1 (tn a b c) = b ∧ tx2 (tn a b c) = c := (tn_all ⟨a, by omega⟩ ⟨b, by omega⟩ ⟨c, by omega⟩ h).2
/-- the component's table of terms -/
def tS (S : Stat) (T : Nat) : Prop := S.1 T = some (1, 0) ∧ S.2.1 T 0 = some (T + 1) ∧ S.1 (T + 1) = some (112, 3) ∧ S.2.1 (T + 1) 0 = some (T + 2) ∧ S.1 (T + 2) = some (101, 455) ∧ S.2.1 (T + 1) 1 = some (T + 3) ∧ S.1 (T + 3) = some (101, 455) ∧ S.2.1 (T + 1) 2 = some (T + 4) ∧ S.1 (T + 4) = some (101, 455) ∧ S.2.1 T 1 = some (T + 5) ∧ S.1 (T + 5) = some (113, 13) ∧
  ∀ a : Nat, a ≤ 12 → S.2.1 (T + 5) a = some (T + 6 + a) ∧ S.1 (T + 6 + a) = some (102, (13 - a) * (13 - a))
def tD (D : Dat) (T : Nat) : Prop := (∀ t : Nat, t < 455 → D (T + 2) t = tx0 t ∧ D (T + 3) t = tx1 t ∧ D (T + 4) t = tx2 t) ∧ ∀ a b c : Nat, a + b + c ≤ 12 → D (T + 6 + a) ((b : Int) * (12 - (a : Int) + 1) + (c : Int)) = tn a b c
set_option maxHeartbeats 1000000 in
theorem sp_X1_number {E : Ex} {B : Nat × Nat} {S : Stat} {D : Dat} {T a b c : Nat} (hT : tS S T) (hD : tD D T) (h : a + b + c ≤ 12) (k : E (.inl (some (.inl (tn a b c : Nat)))) B S D) : Wp P_X1_number E 0 [some (aR T), some (aI a), some (aI b), some (aI c)] [] B S D := by
  obtain ⟨t1, t2, t3, t4, t5, t6, t7, t8, t9, t10, t11, t12⟩ := hT
  obtain ⟨s1, s2⟩ := t12 a (by omega)
  have e := hD.2 a b c h
  have h1 : 0 ≤ (b : Int) * (12 - (a : Int) + 1) := Int.mul_nonneg (by omega) (by omega)
  have h2 : (b : Int) * (12 - (a : Int) + 1) ≤ (12 - (a : Int)) * (12 - (a : Int) + 1) := Int.mul_le_mul_of_nonneg_right (by omega) (by omega)
  have h3 : (12 - (a : Int)) * (12 - (a : Int) + 1) ≤ 12 * 13 := Int.mul_le_mul (by omega) (by omega) (by omega) (by omega)
  have h4 : (12 - (a : Int)) * (12 - (a : Int) + 1) + (12 - (a : Int) + 1) = (12 - (a : Int) + 1) * (12 - (a : Int) + 1) := by grind
  have h5 : (((13 - a) * (13 - a) : Nat) : Int) = (12 - (a : Int) + 1) * (12 - (a : Int) + 1) := by
    rw [Int.natCast_mul, show ((13 - a : Nat) : Int) = 12 - (a : Int) + 1 by omega]
  have hlt := tn_lt h
  refine wp_in ?_
  simp only [P_X1_number, i_kil, i_icon, i_lcon, i_null, i_loadI, i_loadL, i_loadR, i_istore, i_lstore, i_astore, i_iinc, i_dup, i_dup2, i_pop, i_iadd, i_isub, i_imul, i_idiv, i_irem, i_ineg, i_iand, i_ior, i_ishl, i_ishr, i_lxor, i_ladd, i_lsub, i_lmul, i_ldiv, i_lrem, i_lneg, i_lshl, i_lcmp, i_i2l, i_l2i, i_i2b, i_i2s, i_ifeq, i_ifne, i_iflt, i_ifge, i_ifgt, i_ifle, i_cmpeq, i_cmpne, i_cmplt, i_cmpge, i_cmpgt, i_cmple, i_acmpeq, i_acmpne, i_ifnull, i_ifnonnull, i_getI, i_getR, i_putI, i_putZ, i_putR, i_ald, i_ldL, i_ldR, i_ast, i_stL, i_stR, i_alen, i_new, i_newa, i_iret, i_zret, i_lret, i_aret, i_vret, i_raise, i_throw, i_recv, i_objinit, i_tsw3, lget, lset, lput1, lput2, lkil, ltrim, largs, isL, takev, dropv, nthv, pushO, catv, gd, true_and, and_true, Option.some.injEq, Prod.mk.injEq, exists_eq_left', if_true, if_false, reduceCtorEq, Bool.false_eq_true, lcmp_ge, lcmp_lt, lcmp_le, lcmp_gt, lcmp_eq, true_or, or_true, not_true_eq_false, not_false_eq_true, false_implies, true_implies, List.length_cons, List.length_nil, t1, t10, t11, s1, s2, e]
  have g1 : (b : Int) * (12 - (a : Int) + 1) + (c : Int) < ((13 - a) * (13 - a) : Nat) := by rw [h5]; omega
  exact ⟨by omega, by omega, in_small (by omega) (by omega), in_small (by omega) (by omega), in_small (by omega) (by omega), in_small (by omega) (by omega), by omega, g1, k⟩
theorem sp_X1_number2 {E : Ex} {B : Nat × Nat} {S : Stat} {D : Dat} {T a b c : Nat} {x y z : Int} (hT : tS S T) (hD : tD D T) (h : a + b + c ≤ 12) (hx : x = a) (hy : y = b) (hz : z = c) (k : E (.inl (some (.inl (tn a b c : Nat)))) B S D) : Wp P_X1_number E 0 [some (aR T), some (aI x), some (aI y), some (aI z)] [] B S D := by
  subst hx; subst hy; subst hz
  exact sp_X1_number hT hD h k
theorem tx_lim {t : Nat} (h : t < 455) : tx0 t ≤ 12 ∧ tx1 t ≤ 12 ∧ tx2 t ≤ 12 := by have := tx_le h; omega
set_option maxHeartbeats 1000000 in
theorem sp_X1_degree {E : Ex} {B : Nat × Nat} {S : Stat} {D : Dat} {T t : Nat} (hT : tS S T) (hD : tD D T) (ht : t < 455) (k : E (.inl (some (.inl (tx0 t + tx1 t + tx2 t : Int)))) B S D) : Wp P_X1_degree E 0 [some (aR T), some (aI t)] [] B S D := by
  obtain ⟨t1, t2, t3, t4, t5, t6, t7, t8, t9, -⟩ := hT
  obtain ⟨e1, e2, e3⟩ := hD.1 t ht
  have := tx_le ht
  refine wp_in ?_
  simp only [P_X1_degree, i_kil, i_icon, i_lcon, i_null, i_loadI, i_loadL, i_loadR, i_istore, i_lstore, i_astore, i_iinc, i_dup, i_dup2, i_pop, i_iadd, i_isub, i_imul, i_idiv, i_irem, i_ineg, i_iand, i_ior, i_ishl, i_ishr, i_lxor, i_ladd, i_lsub, i_lmul, i_ldiv, i_lrem, i_lneg, i_lshl, i_lcmp, i_i2l, i_l2i, i_i2b, i_i2s, i_ifeq, i_ifne, i_iflt, i_ifge, i_ifgt, i_ifle, i_cmpeq, i_cmpne, i_cmplt, i_cmpge, i_cmpgt, i_cmple, i_acmpeq, i_acmpne, i_ifnull, i_ifnonnull, i_getI, i_getR, i_putI, i_putZ, i_putR, i_ald, i_ldL, i_ldR, i_ast, i_stL, i_stR, i_alen, i_new, i_newa, i_iret, i_zret, i_lret, i_aret, i_vret, i_raise, i_throw, i_recv, i_objinit, i_tsw3, lget, lset, lput1, lput2, lkil, ltrim, largs, isL, takev, dropv, nthv, pushO, catv, gd, true_and, and_true, Option.some.injEq, Prod.mk.injEq, exists_eq_left', if_true, if_false, reduceCtorEq, Bool.false_eq_true, lcmp_ge, lcmp_lt, lcmp_le, lcmp_gt, lcmp_eq, true_or, or_true, not_true_eq_false, not_false_eq_true, false_implies, true_implies, List.length_cons, List.length_nil, t1, t2, t3, t4, t5, t6, t7, t8, t9, e1, e2, e3]
  exact ⟨by omega, by omega, by omega, by omega, by omega, by omega, by omega, by omega, in_small (by omega) (by omega), by omega, by omega, by omega, by omega, in_small (by omega) (by omega), k⟩
