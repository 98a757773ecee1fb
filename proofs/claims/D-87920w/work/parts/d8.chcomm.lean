/-! chains of the component: common; one alone -/
-- needs: d7.chsign
set_option maxRecDepth 100000
set_option linter.unusedVariables false
theorem shr.scale {s p s2 : Rat → Rat} (h : shr s p) {l : Rat} (hl : l ≠ 0) (e : ∀ x, s2 x = l * s x) : shr s2 p := by
  obtain ⟨h1, h2, h3, r, t, p', h4, h5, h6, h7, h8, h9⟩ := h
  obtain ⟨i1, i2⟩ := nz_inv hl
  refine ⟨by rw [show s2 = fun x => l * s x from funext e]; exact h1.smul l, h2, h3, fun x => l⁻¹ * r x, fun x => l * t x, p', h4.smul _, h5.smul _, h6, fun z => ?_, h8, fun z => ?_⟩
  · rw [h7, e]
    have : l⁻¹ * r z * (l * s z) = l⁻¹ * l * (r z * s z) := by grind
    rw [this, i2]; grind
  · rw [e]
    have := h9 z
    grind
theorem shr.const {c : Rat} (hc : c ≠ 0) {g e : Rat → Rat} {d : Rat} (hd : d ≠ 0) (hg : ∀ x, g x = c) (he : ∀ x, e x = d) : shr g e := by
  obtain ⟨i1, i2⟩ := nz_inv hc
  refine ⟨by rw [show g = fun _ => c from funext hg]; exact PP.const c, by rw [show e = fun _ => d from funext he]; exact PP.const d, fun w => hd (by rw [← he 0]; exact w 0), fun _ => d * c⁻¹, fun _ => 0, fun _ => 0, PP.const _, PP.const _, PP.const _, fun z => ?_, ?_, fun z => ?_⟩
  · rw [hg, he]; grind
  · rw [show e = fun _ => d from funext he]; exact DD.const d
  · rw [hg]; grind
/-- what two have in common, its own chain standing ready -/
def chC (p q : pf) (D : Dat) (b : Nat) : Prop := ∃ (F : Nat → Nat → Int) (n : Nat → Nat) (m : Nat) (e : pf), 1 ≤ m ∧ m ≤ 10 ∧ chD D b F n m ∧ chM F n m ∧ stc (zF F n) m ∧ shr (zF F n 0) e ∧ ∃ c1 c2 U V : pf, PP c1 ∧ PP c2 ∧ PP U ∧ PP V ∧ (∀ z, p z = c1 z * e z) ∧ (∀ z, q z = c2 z * e z) ∧ ∀ z, e z = U z * p z + V z * q z
theorem chB.stc {p : pf} {D : Dat} {b : Nat} (h : chB p D b) : ∃ (F : Nat → Nat → Int) (n : Nat → Nat) (m : Nat), 1 ≤ m ∧ m ≤ 10 ∧ chD D b F n m ∧ chM F n m ∧ Jvm.Pilot.CIdealCourtLaw_law_r5787_380c08.stc (zF F n) m ∧ shr (zF F n 0) p ∧ ∀ x, cntP p x (vch (fun i => zF F n i x) m) := by
  obtain ⟨F, n, m, s, h1, h2, h3, h4, h5⟩ := h
  obtain ⟨l, l0, hl⟩ := h4.2.2.2.1
  exact ⟨F, n, m, by have := h4.1; omega, h1, h2, h3, h5.stc h4, h5.shr.scale (fun w => by rw [w] at l0; exact Rat.lt_irrefl l0) hl, fun x => ⟨s, zF F n, n, m, h5, h4, rfl⟩⟩
section COMM
variable {b o : Nat}
theorem sp_X8_only {E : Ex} {B : Nat × Nat} {S : Stat} {D : Dat} {N d : Nat} {f : Nat → Int} (hS : chS S b o) (hN : S.1 N = some (100, 9)) (hNb : N < b ∨ b + 219 < N) (hd : d < 9) (hf : ∀ k : Nat, k ≤ d → D N k = f k) (hb : ∀ k, k ≤ d → (f k).natAbs ≤ 1000000)
    (K : ∀ D' : Dat, chF b o D D' → D' (b + 12) 0 = d → chR D' b 0 d f → E (.inl none) B S D') : Wp P_X8_only E 0 [some (aR b), some (aR N), some (aI d)] [] B S D := by
  have s1 := hS.2.1
  refine wp_in ?_
  simp only [P_X8_only, i_kil, i_icon, i_lcon, i_null, i_loadI, i_loadL, i_loadR, i_istore, i_lstore, i_astore, i_iinc, i_dup, i_dup2, i_pop, i_iadd, i_isub, i_imul, i_idiv, i_irem, i_ineg, i_iand, i_ior, i_ishl, i_ishr, i_lxor, i_ladd, i_lsub, i_lmul, i_ldiv, i_lrem, i_lneg, i_lshl, i_lcmp, i_i2l, i_l2i, i_i2b, i_i2s, i_ifeq, i_ifne, i_iflt, i_ifge, i_ifgt, i_ifle, i_cmpeq, i_cmpne, i_cmplt, i_cmpge, i_cmpgt, i_cmple, i_acmpeq, i_acmpne, i_ifnull, i_ifnonnull, i_getI, i_getR, i_putI, i_putZ, i_putR, i_ald, i_ldL, i_ldR, i_ast, i_stL, i_stR, i_alen, i_new, i_newa, i_iret, i_zret, i_lret, i_aret, i_vret, i_raise, i_throw, i_recv, i_objinit, i_tsw3, lget, lset, lput1, lput2, lkil, ltrim, largs, isL, takev, dropv, nthv, pushO, catv, gd, true_and, and_true, Option.some.injEq, Prod.mk.injEq, exists_eq_left', if_true, if_false, reduceCtorEq, Bool.false_eq_true, lcmp_ge, lcmp_lt, lcmp_le, lcmp_gt, lcmp_eq, true_or, or_true, not_true_eq_false, not_false_eq_true, false_implies, true_implies, List.length_cons, List.length_nil, s1]
  repeat (first | refine ⟨in_small (by omega) (by omega), ?_⟩ | (show (_ → _) ∧ (_ → _); first | refine ⟨by omega, fun _ => ?_⟩ | refine ⟨fun _ => ?_, by omega⟩) | refine ⟨by omega, ?_⟩ | refine ⟨⟨_, rfl, by assumption⟩, ?_⟩ | refine ⟨okT_I _, ?_⟩ | refine ⟨okT_S (by omega) (by omega), ?_⟩ | refine ⟨okT_B (by omega) (by omega), ?_⟩ | refine call0 (gd_of rfl) ?_)
  refine sp_X8_put hS hN hNb hd hf hb fun D1 a1 a2 a3 => ?_
  simp only [P_X8_only, i_kil, i_icon, i_lcon, i_null, i_loadI, i_loadL, i_loadR, i_istore, i_lstore, i_astore, i_iinc, i_dup, i_dup2, i_pop, i_iadd, i_isub, i_imul, i_idiv, i_irem, i_ineg, i_iand, i_ior, i_ishl, i_ishr, i_lxor, i_ladd, i_lsub, i_lmul, i_ldiv, i_lrem, i_lneg, i_lshl, i_lcmp, i_i2l, i_l2i, i_i2b, i_i2s, i_ifeq, i_ifne, i_iflt, i_ifge, i_ifgt, i_ifle, i_cmpeq, i_cmpne, i_cmplt, i_cmpge, i_cmpgt, i_cmple, i_acmpeq, i_acmpne, i_ifnull, i_ifnonnull, i_getI, i_getR, i_putI, i_putZ, i_putR, i_ald, i_ldL, i_ldR, i_ast, i_stL, i_stR, i_alen, i_new, i_newa, i_iret, i_zret, i_lret, i_aret, i_vret, i_raise, i_throw, i_recv, i_objinit, i_tsw3, lget, lset, lput1, lput2, lkil, ltrim, largs, isL, takev, dropv, nthv, pushO, catv, gd, true_and, and_true, Option.some.injEq, Prod.mk.injEq, exists_eq_left', if_true, if_false, reduceCtorEq, Bool.false_eq_true, lcmp_ge, lcmp_lt, lcmp_le, lcmp_gt, lcmp_eq, true_or, or_true, not_true_eq_false, not_false_eq_true, false_implies, true_implies, List.length_cons, List.length_nil, s1]
  repeat (first | refine ⟨in_small (by omega) (by omega), ?_⟩ | (show (_ → _) ∧ (_ → _); first | refine ⟨by omega, fun _ => ?_⟩ | refine ⟨fun _ => ?_, by omega⟩) | refine ⟨by omega, ?_⟩ | refine ⟨⟨_, rfl, by assumption⟩, ?_⟩ | refine ⟨okT_I _, ?_⟩ | refine ⟨okT_S (by omega) (by omega), ?_⟩ | refine ⟨okT_B (by omega) (by omega), ?_⟩ | refine call0 (gd_of rfl) ?_)
  refine K _ (fun c i c1 c2 => ?_) ?_ (a3.congr fun c i c1 c2 => ?_)
  · simp only [pmu]; rw [if_neg (by omega)]; exact a1 c i (by unfold cw; omega) (.inl (by omega))
  · simp only [pmu]; rw [if_neg (by omega)]; exact a2
  · simp only [pmu]; rw [if_neg (by unfold cw at *; omega)]
theorem sp_X8_sign {E : Ex} {B : Nat × Nat} {S : Stat} {D : Dat} {d A bits : Nat} {f : Nat → Int} {av : Int} (hS : chS S b o) (hd : d ≤ 8) (hdr : D (b + 12) 0 = d) (hf : chR D b 0 d f) (hc : ∀ k, k ≤ d → (f k).natAbs ≤ 2 ^ szC d) (hA : wS 3 S A 160) (hAb : A + 1 < b ∨ b + 219 < A) (ha : wD 1 2 D A av) (hab : av.natAbs ≤ 2 ^ (bits + 7)) (hbits : bits ≤ 460)
    (K : ∀ D' : Dat, sgO b D D' → E (.inl (some (.inl (sgr (zp f (d + 1) ((av : Rat) / (((2 ^ bits : Nat) : Int) : Rat))))))) B S D') : Wp P_X8_sign E 0 [some (aR b), some (aR A), some (aI bits)] [] B S D := by
  have s1 := hS.2.1
  refine wp_in ?_
  simp only [P_X8_sign, i_kil, i_icon, i_lcon, i_null, i_loadI, i_loadL, i_loadR, i_istore, i_lstore, i_astore, i_iinc, i_dup, i_dup2, i_pop, i_iadd, i_isub, i_imul, i_idiv, i_irem, i_ineg, i_iand, i_ior, i_ishl, i_ishr, i_lxor, i_ladd, i_lsub, i_lmul, i_ldiv, i_lrem, i_lneg, i_lshl, i_lcmp, i_i2l, i_l2i, i_i2b, i_i2s, i_ifeq, i_ifne, i_iflt, i_ifge, i_ifgt, i_ifle, i_cmpeq, i_cmpne, i_cmplt, i_cmpge, i_cmpgt, i_cmple, i_acmpeq, i_acmpne, i_ifnull, i_ifnonnull, i_getI, i_getR, i_putI, i_putZ, i_putR, i_ald, i_ldL, i_ldR, i_ast, i_stL, i_stR, i_alen, i_new, i_newa, i_iret, i_zret, i_lret, i_aret, i_vret, i_raise, i_throw, i_recv, i_objinit, i_tsw3, lget, lset, lput1, lput2, lkil, ltrim, largs, isL, takev, dropv, nthv, pushO, catv, gd, true_and, and_true, Option.some.injEq, Prod.mk.injEq, exists_eq_left', if_true, if_false, reduceCtorEq, Bool.false_eq_true, lcmp_ge, lcmp_lt, lcmp_le, lcmp_gt, lcmp_eq, true_or, or_true, not_true_eq_false, not_false_eq_true, false_implies, true_implies, List.length_cons, List.length_nil, s1]
  repeat (first | refine ⟨in_small (by omega) (by omega), ?_⟩ | (show (_ → _) ∧ (_ → _); first | refine ⟨by omega, fun _ => ?_⟩ | refine ⟨fun _ => ?_, by omega⟩) | refine ⟨by omega, ?_⟩ | refine ⟨⟨_, rfl, by assumption⟩, ?_⟩ | refine ⟨okT_I _, ?_⟩ | refine ⟨okT_S (by omega) (by omega), ?_⟩ | refine ⟨okT_B (by omega) (by omega), ?_⟩ | refine call0 (gd_of rfl) ?_)
  refine sp_X8_signAt (r := 0) (d := d) (f := f) (av := av) hS (by omega) hd hdr hf hc hA hAb ha hab hbits fun D1 g1 => ?_
  simp only [P_X8_sign, i_kil, i_icon, i_lcon, i_null, i_loadI, i_loadL, i_loadR, i_istore, i_lstore, i_astore, i_iinc, i_dup, i_dup2, i_pop, i_iadd, i_isub, i_imul, i_idiv, i_irem, i_ineg, i_iand, i_ior, i_ishl, i_ishr, i_lxor, i_ladd, i_lsub, i_lmul, i_ldiv, i_lrem, i_lneg, i_lshl, i_lcmp, i_i2l, i_l2i, i_i2b, i_i2s, i_ifeq, i_ifne, i_iflt, i_ifge, i_ifgt, i_ifle, i_cmpeq, i_cmpne, i_cmplt, i_cmpge, i_cmpgt, i_cmple, i_acmpeq, i_acmpne, i_ifnull, i_ifnonnull, i_getI, i_getR, i_putI, i_putZ, i_putR, i_ald, i_ldL, i_ldR, i_ast, i_stL, i_stR, i_alen, i_new, i_newa, i_iret, i_zret, i_lret, i_aret, i_vret, i_raise, i_throw, i_recv, i_objinit, i_tsw3, lget, lset, lput1, lput2, lkil, ltrim, largs, isL, takev, dropv, nthv, pushO, catv, gd, true_and, and_true, Option.some.injEq, Prod.mk.injEq, exists_eq_left', if_true, if_false, reduceCtorEq, Bool.false_eq_true, lcmp_ge, lcmp_lt, lcmp_le, lcmp_gt, lcmp_eq, true_or, or_true, not_true_eq_false, not_false_eq_true, false_implies, true_implies, List.length_cons, List.length_nil]
  exact K D1 g1
end COMM
