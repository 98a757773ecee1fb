/-! the divider: the whole division, its walk -/
set_option maxRecDepth 100000
set_option linter.unusedVariables false
theorem lead_at {E : Ex} {B : Nat × Nat} {S : Stat} {D : Dat} {p ob T c g : Nat} {φ : Nat → Rat} (hp : pS S p) (hD : pD D p φ) (ho : oS S D ob T c g) (hT : tS S T) (hTD : tD D T) (k : E (.inl (some (.inl (leadI c g φ 455)))) B S D) : Wp P_X5_lead E 0 [some (aR p), some (aR ob)] [] B S D := sp_X5_lead hp hD ho hT hTD k
theorem divides_at {E : Ex} {B : Nat × Nat} {S : Stat} {D : Dat} {T t u : Nat} {x y : Int} (hT : tS S T) (hD : tD D T) (ht : t < 455) (hu : u < 455) (hx : x = t) (hy : y = u)
    (k : ∀ r : Int, (r = 0 ∨ r = 1) → (¬ r = 0 ↔ tdv t u) → E (.inl (some (.inl r))) B S D) : Wp P_X1_divides E 0 [some (aR T), some (aI x), some (aI y)] [] B S D := by
  subst hx; subst hy
  refine sp_X1_divides hT hD ht hu (k _ (by split <;> omega) ⟨fun h => ?_, fun h => by have h' : tx0 t ≤ tx0 u ∧ tx1 t ≤ tx1 u ∧ tx2 t ≤ tx2 u := h; rw [if_pos h']; omega⟩)
  split at h
  · assumption
  · exact absurd rfl h
theorem step_at {E : Ex} {B : Nat × Nat} {S : Stat} {D : Dat} {d T o La N k g t u n x : Nat} {y z : Int} {φ ψ χ : Nat → Rat} (hv : vS S d T o) (ho : rS S o) (hT : tS S T) (hTD : tD D T) (l1 : T + 18 < o) (l2 : o + 10 < d) (hL : S.2.1 d 7 = some La) (hLa : S.1 La = some (107, N)) (hkN : k < N) (hk : k < 16) (hLg : S.2.1 La k = some g) (hg : pS S g) (gl : g + 1 < T ∨ d + 31 < g)
    (hF : pP D (d + 1) φ) (hG : pP D g ψ) (hu : D (d + 3) k = u) (hu2 : u < 455) (hψ : ψ u ≠ 0) (hdv : tdv u t) (ht : t < 455) (hn : D (d + 4) k = n) (hn2 : n ≤ 60) (hQ : quS S d k x) (hQD : quD S D d x χ) (xl : x + 1 < T ∨ d + 31 < x) (xg : x + 1 < g ∨ g + 1 < x) (hy : y = k) (hz : z = t)
    (K : ∀ (D' : Dat) (r : Int), stW (S.2.1 d 8) d o x D D' → (∀ i, D' (d + 3) i = D (d + 3) i) → (r = 0 ∨ r = 1) → (r = 1 ↔ qfit (φ t / ψ u) ∧ n + 1 ≤ 60 ∧ sok φ ψ (φ t / ψ u) (tqu t u) 455 ∧ pcnt (sbm φ ψ (φ t / ψ u) (tqu t u) 455) 455 ≤ 60) → (∃ φ', pP D' (d + 1) φ') → (∃ χ', quD S D' d x χ') →
      (r = 1 → pP D' (d + 1) (sbm φ ψ (φ t / ψ u) (tqu t u) 455) ∧ D' (d + 4) k = n + 1 ∧ (∀ i, i ≠ k → D' (d + 4) i = D (d + 4) i) ∧ quD S D' d x (pupd χ (tqu t u) (φ t / ψ u))) → E (.inl (some (.inl r))) B S D') : Wp P_X4_step E 0 [some (aR d), some (aI y), some (aI z)] [] B S D := by
  subst hy; subst hz
  exact sp_X4_step hv ho hT hTD l1 l2 hL hLa hkN hk hLg hg gl hF hG hu hu2 hψ hdv ht hn hn2 hQ hQD xl xg K
theorem clear_at {E : Ex} {B : Nat × Nat} {S : Stat} {D : Dat} {p : Nat} {φ : Nat → Rat} (hp : pS S p) (hD : pD D p φ)
    (k : ∀ D' : Dat, pO D D' p → pP D' p (fun _ => 0) → E (.inl none) B S D') : Wp P_X5_clear E 0 [some (aR p)] [] B S D :=
  sp_X5_clear hp hD fun D' h1 h2 => k D' h1 ⟨h2, fun _ _ => qfit_zero, fun _ _ => rfl⟩
/-- where the division's lists stand; w: the quotients' array -/
def rnL (S : Stat) (T d r ob La N m : Nat) (g : Nat → Nat) (w : Option Nat) (x : Nat → Nat) : Prop := S.1 La = some (107, N) ∧ m ≤ N ∧ m ≤ 16 ∧ pS S r ∧ (r + 1 < T ∨ d + 31 < r) ∧ (ob < T ∨ d + 31 < ob) ∧ ob ≠ r ∧ ob ≠ r + 1 ∧
  (∀ k, k < m → S.2.1 La k = some (g k) ∧ pS S (g k) ∧ (g k + 1 < T ∨ d + 31 < g k) ∧ (r + 1 < g k ∨ g k + 1 < r)) ∧
  (w = none ∨ ∃ Q M, w = some Q ∧ S.1 Q = some (107, M) ∧ m ≤ M ∧ ∀ k, k < m → S.2.1 Q k = some (x k) ∧ pS S (x k) ∧ (x k + 1 < T ∨ d + 31 < x k) ∧ (r + 1 < x k ∨ x k + 1 < r) ∧ ob ≠ x k ∧ ob ≠ x k + 1 ∧ (∀ j, j < m → x k + 1 < g j ∨ g j + 1 < x k) ∧ ∀ j, j < m → j ≠ k → x k + 1 < x j ∨ x j + 1 < x k)
set_option maxHeartbeats 4000000 in
theorem sp_X4_run {E : Ex} {B : Nat × Nat} {S : Stat} {D : Dat} {d T o La N m ob r c g : Nat} {gA xA : Nat → Nat} {w : Option Nat} {φ ρ : Nat → Rat} {ψ χ : Nat → Nat → Rat} (hv : vS S d T o) (ho : rS S o) (hT : tS S T) (hTD : tD D T) (l1 : T + 18 < o) (l2 : o + 10 < d) (hob : oS S D ob T c g) (hL : rnL S T d r ob La N m gA w xA)
    (hF : pP D (d + 1) φ) (hR : pD D r ρ) (hG : ∀ k, k < m → pP D (gA k) (ψ k)) (hX : w ≠ none → ∀ k, k < m → pD D (xA k) (χ k))
    (K : ∀ (S' : Stat) (D' : Dat) (v : Int) (n : Nat) (res : Option dst), dRel S S' d → rnW w d o r m xA D D' → dvR c g m ψ n (φ, fun _ => 0, fun _ => 0, fun _ _ => 0) res → (v = 0 ∨ v = 1) → (v = 1 ↔ res ≠ none) → (∃ φ', pP D' (d + 1) φ') → (∃ ρ', pP D' r ρ') → (w ≠ none → ∀ k, k < m → ∃ χ', pP D' (xA k) χ') →
      (∀ st, res = some st → pP D' r st.2.1 ∧ (w ≠ none → ∀ k, k < m → pP D' (xA k) (st.2.2.2 k))) → E (.inl (some (.inl v))) B S' D') :
    Wp P_X4_run E 0 [some (aR d), some (aR La), some (aI m), some (aR ob), some (.inr (.inr w)), some (aR r)] [] B S D := by
  have oo := hob.2.2.1
  obtain ⟨L1, L2, L3, L4, L5, L6, L7, L8, L9, L10⟩ := hL
  have v0 := hv.1
  have r1 := L4.1
  have nLa : La ≠ d := fun e => by rw [e, v0] at L1; simp at L1
  obtain ⟨R1, R2, R3, R4, R5⟩ := dRel.set S d (some La) (some ob) w (some r)
  refine wp_in ?_
  simp only [P_X4_run, i_kil, i_icon, i_lcon, i_null, i_loadI, i_loadL, i_loadR, i_istore, i_lstore, i_astore, i_iinc, i_dup, i_dup2, i_pop, i_iadd, i_isub, i_imul, i_idiv, i_irem, i_ineg, i_iand, i_ior, i_ishl, i_ishr, i_lxor, i_ladd, i_lsub, i_lmul, i_ldiv, i_lrem, i_lneg, i_lshl, i_lcmp, i_i2l, i_l2i, i_i2b, i_i2s, i_ifeq, i_ifne, i_iflt, i_ifge, i_ifgt, i_ifle, i_cmpeq, i_cmpne, i_cmplt, i_cmpge, i_cmpgt, i_cmple, i_acmpeq, i_acmpne, i_ifnull, i_ifnonnull, i_getI, i_getR, i_putI, i_putZ, i_putR, i_ald, i_ldL, i_ldR, i_ast, i_stL, i_stR, i_alen, i_new, i_newa, i_iret, i_zret, i_lret, i_aret, i_vret, i_raise, i_throw, i_recv, i_objinit, i_tsw3, lget, lset, lput1, lput2, lkil, ltrim, largs, isL, takev, dropv, nthv, pushO, catv, gd, true_and, and_true, Option.some.injEq, Prod.mk.injEq, exists_eq_left', if_true, if_false, reduceCtorEq, Bool.false_eq_true, lcmp_ge, lcmp_lt, lcmp_le, lcmp_gt, lcmp_eq, true_or, or_true, not_true_eq_false, not_false_eq_true, false_implies, true_implies, List.length_cons, List.length_nil, v0]
  generalize hS' : setR (setR (setR (setR S d 7 (some La)) d 10 (some ob)) d 8 w) d 9 (some r) = S' at R1 R2 R3 R4 R5
  have hS1 : (setR (setR (setR (setR S d 7 (some La)) d 10 (some ob)) d 8 w) d 9 (some r)).1 = S.1 := rfl
  have q1 : ∀ a k, S.1 a = k → S'.1 a = k := fun a k h => by rw [R1.1]; exact h
  have v0' := q1 _ _ v0
  have r1' := q1 _ _ r1
  have L1' := q1 _ _ L1
  have hv' : vS S' d T o := hv.sq (by rw [R1.1]) (fun i hi => R1.2.2 d i (.inr (.inl hi))) (R1.e (.inl (by omega)))
  have ho' : rS S' o := ho.sq (R1.e (.inr (by omega)))
  have hT' : tS S' T := hT.sq (R1.e (.inr (by omega)))
  have L4' : pS S' r := L4.sq (R1.e (by omega))
  have gS' : ∀ k, k < m → S'.2.1 La k = some (gA k) ∧ pS S' (gA k) := fun k hk => ⟨by rw [R1.2.2 _ _ (.inl nLa)]; exact (L9 k hk).1, (L9 k hk).2.1.sq (R1.e (by have := (L9 k hk).2.2.1; omega))⟩
  have oS' : ∀ D1 : Dat, rnW w d o r m xA D D1 → oS S' D1 ob T c g := fun D1 h => by
    obtain ⟨o1, o2, o3, o4⟩ := hob
    refine ⟨q1 _ _ o1, by rw [R1.2.2 _ _ (.inl (by omega))]; exact o2, o3, fun e => ?_⟩
    rw [h ob 1 (by omega) (by omega) L7 L8 ?_]
    · exact o4 e
    · intro hw k hk
      rcases L10 with L10 | ⟨Q, M, y1, y2, y3, y4⟩
      · exact absurd L10 hw
      · have := y4 k hk; exact ⟨this.2.2.2.2.1, this.2.2.2.2.2.1⟩
  have tD' : ∀ D1 : Dat, rnW w d o r m xA D D1 → tD D1 T := fun D1 h => hTD.congr fun e i h1 h2 => h e i (by omega) (by omega) (by omega) (by omega) fun hw k hk => by
    rcases L10 with L10 | ⟨Q, M, y1, y2, y3, y4⟩
    · exact absurd L10 hw
    · have := (y4 k hk).2.2.1; omega
  have gD' : ∀ D1 : Dat, rnW w d o r m xA D D1 → ∀ k, k < m → pP D1 (gA k) (ψ k) := fun D1 h k hk => by
    have a1 := (L9 k hk).2.2
    have far : ∀ e, (e = gA k ∨ e = gA k + 1) → w ≠ none → ∀ j, j < m → e ≠ xA j ∧ e ≠ xA j + 1 := fun e he hw j hj => by
      rcases L10 with L10 | ⟨Q, M, y1, y2, y3, y4⟩
      · exact absurd L10 hw
      · have := (y4 j hj).2.2.2.2.2.2.1 k hk; omega
    exact (hG k hk).congr (fun i => h _ i (by omega) (by omega) (by omega) (by omega) (far _ (.inl rfl))) (fun i => h _ i (by omega) (by omega) (by omega) (by omega) (far _ (.inr rfl)))
  -- the loop over what is to be divided
  have fail : ∀ (D1 : Dat) (n : Nat), rnW w d o r m xA D D1 → dvR c g m ψ n (φ, fun _ => 0, fun _ => 0, fun _ _ => 0) none → (∃ φ', pP D1 (d + 1) φ') → (∃ ρ', pP D1 r ρ') → (w ≠ none → ∀ k, k < m → ∃ χ', pP D1 (xA k) χ') → Wp P_X4_run E 7 [] [] B S' D1 := fun D1 n h1 h2 h3 h4 h5 => by
    refine wp_in ?_
    simp only [P_X4_run, i_kil, i_icon, i_lcon, i_null, i_loadI, i_loadL, i_loadR, i_istore, i_lstore, i_astore, i_iinc, i_dup, i_dup2, i_pop, i_iadd, i_isub, i_imul, i_idiv, i_irem, i_ineg, i_iand, i_ior, i_ishl, i_ishr, i_lxor, i_ladd, i_lsub, i_lmul, i_ldiv, i_lrem, i_lneg, i_lshl, i_lcmp, i_i2l, i_l2i, i_i2b, i_i2s, i_ifeq, i_ifne, i_iflt, i_ifge, i_ifgt, i_ifle, i_cmpeq, i_cmpne, i_cmplt, i_cmpge, i_cmpgt, i_cmple, i_acmpeq, i_acmpne, i_ifnull, i_ifnonnull, i_getI, i_getR, i_putI, i_putZ, i_putR, i_ald, i_ldL, i_ldR, i_ast, i_stL, i_stR, i_alen, i_new, i_newa, i_iret, i_zret, i_lret, i_aret, i_vret, i_raise, i_throw, i_recv, i_objinit, i_tsw3, lget, lset, lput1, lput2, lkil, ltrim, largs, isL, takev, dropv, nthv, pushO, catv, gd, true_and, and_true, Option.some.injEq, Prod.mk.injEq, exists_eq_left', if_true, if_false, reduceCtorEq, Bool.false_eq_true, lcmp_ge, lcmp_lt, lcmp_le, lcmp_gt, lcmp_eq, true_or, or_true, not_true_eq_false, not_false_eq_true, false_implies, true_implies, List.length_cons, List.length_nil]
    repeat (first | refine ⟨in_small (by omega) (by omega), ?_⟩ | (show (_ → _) ∧ (_ → _); first | refine ⟨by omega, fun _ => ?_⟩ | refine ⟨fun _ => ?_, by omega⟩) | refine ⟨by omega, ?_⟩ | refine ⟨⟨_, rfl, by assumption⟩, ?_⟩ | refine ⟨okT_I _, ?_⟩ | refine call0 (gd_of rfl) ?_)
    exact K S' D1 0 n none R1 h1 h2 (.inl rfl) ⟨fun q => by omega, fun q => absurd rfl q⟩ h3 h4 h5 fun st q => by simp at q
  have main : ∀ (n : Nat) (D1 : Dat) (st : dst), (∀ t, isLead c g st.1 t → posc c g t 455 < n) → (∀ n1 res, dvR c g m ψ n1 st res → ∃ n2, dvR c g m ψ n2 (φ, fun _ => 0, fun _ => 0, fun _ _ => 0) res) → rnW w d o r m xA D D1 → pP D1 (d + 1) st.1 → pP D1 r st.2.1 → (∀ k, k < m → D1 (d + 4) k = st.2.2.1 k ∧ st.2.2.1 k ≤ 60) → (∀ k, k < m → D1 (d + 3) k = leads c g ψ k) → (w ≠ none → ∀ k, k < m → pP D1 (xA k) (st.2.2.2 k)) →
      Wp P_X4_run E 3 [some (aR d), none, some (aI m), some (aR ob)] [] B S' D1 := by
    intro n
    induction n with
    | zero =>
      intro D1 st hpos hst hw hf hr hc hl hx
      rcases lead_or oo st.1 with z | ⟨t, ht⟩
      · have hm : D1 (d + 1) 1 = 0 := by
          rw [hf.1.2]
          have : ∀ j, j ≤ 455 → pcnt st.1 j = 0 := fun j => by
            induction j with
            | zero => intro _; rfl
            | succ j ih => intro hj; simp only [pcnt]; rw [ih (by omega), if_pos (z j (by omega))]
          rw [this 455 (Nat.le_refl _)]; rfl
        refine wp_in ?_
        obtain ⟨v1, v2, v3, v4, -⟩ := hv'
        have f1 := v4.1
        simp only [P_X4_run, i_kil, i_icon, i_lcon, i_null, i_loadI, i_loadL, i_loadR, i_istore, i_lstore, i_astore, i_iinc, i_dup, i_dup2, i_pop, i_iadd, i_isub, i_imul, i_idiv, i_irem, i_ineg, i_iand, i_ior, i_ishl, i_ishr, i_lxor, i_ladd, i_lsub, i_lmul, i_ldiv, i_lrem, i_lneg, i_lshl, i_lcmp, i_i2l, i_l2i, i_i2b, i_i2s, i_ifeq, i_ifne, i_iflt, i_ifge, i_ifgt, i_ifle, i_cmpeq, i_cmpne, i_cmplt, i_cmpge, i_cmpgt, i_cmple, i_acmpeq, i_acmpne, i_ifnull, i_ifnonnull, i_getI, i_getR, i_putI, i_putZ, i_putR, i_ald, i_ldL, i_ldR, i_ast, i_stL, i_stR, i_alen, i_new, i_newa, i_iret, i_zret, i_lret, i_aret, i_vret, i_raise, i_throw, i_recv, i_objinit, i_tsw3, lget, lset, lput1, lput2, lkil, ltrim, largs, isL, takev, dropv, nthv, pushO, catv, gd, true_and, and_true, Option.some.injEq, Prod.mk.injEq, exists_eq_left', if_true, if_false, reduceCtorEq, Bool.false_eq_true, lcmp_ge, lcmp_lt, lcmp_le, lcmp_gt, lcmp_eq, true_or, or_true, not_true_eq_false, not_false_eq_true, false_implies, true_implies, List.length_cons, List.length_nil, v1, v3, f1, hm]
        repeat (first | refine ⟨in_small (by omega) (by omega), ?_⟩ | (show (_ → _) ∧ (_ → _); first | refine ⟨by omega, fun _ => ?_⟩ | refine ⟨fun _ => ?_, by omega⟩) | refine ⟨by omega, ?_⟩ | refine ⟨⟨_, rfl, by assumption⟩, ?_⟩ | refine ⟨okT_I _, ?_⟩ | refine call0 (gd_of rfl) ?_)
        obtain ⟨n2, h2⟩ := hst 1 (some st) (.inl ⟨z, rfl⟩)
        exact K S' D1 1 n2 (some st) R1 hw h2 (.inr rfl) ⟨fun _ => Option.some_ne_none _, fun _ => rfl⟩ ⟨_, hf⟩ ⟨_, hr⟩ (fun a k hk => ⟨_, hx a k hk⟩) fun st' q => by
          obtain rfl := Option.some.inj q
          exact ⟨hr, hx⟩
      · have := hpos t ht; omega
    | succ n ih =>
      intro D1 st hpos hst hw hf hr hc hl hx
      obtain ⟨v1, v2, v3, v4, v5, v6, v7, v8, v9, v10, v11, v12, v13, v14⟩ := id hv'
      have f1 := v4.1
      have t1 := hT'.1
      rcases lead_or oo st.1 with z | ⟨t, ht⟩
      · have hm : D1 (d + 1) 1 = 0 := by
          rw [hf.1.2]
          have : ∀ j, j ≤ 455 → pcnt st.1 j = 0 := fun j => by
            induction j with
            | zero => intro _; rfl
            | succ j ih => intro hj; simp only [pcnt]; rw [ih (by omega), if_pos (z j (by omega))]
          rw [this 455 (Nat.le_refl _)]; rfl
        refine wp_in ?_
        simp only [P_X4_run, i_kil, i_icon, i_lcon, i_null, i_loadI, i_loadL, i_loadR, i_istore, i_lstore, i_astore, i_iinc, i_dup, i_dup2, i_pop, i_iadd, i_isub, i_imul, i_idiv, i_irem, i_ineg, i_iand, i_ior, i_ishl, i_ishr, i_lxor, i_ladd, i_lsub, i_lmul, i_ldiv, i_lrem, i_lneg, i_lshl, i_lcmp, i_i2l, i_l2i, i_i2b, i_i2s, i_ifeq, i_ifne, i_iflt, i_ifge, i_ifgt, i_ifle, i_cmpeq, i_cmpne, i_cmplt, i_cmpge, i_cmpgt, i_cmple, i_acmpeq, i_acmpne, i_ifnull, i_ifnonnull, i_getI, i_getR, i_putI, i_putZ, i_putR, i_ald, i_ldL, i_ldR, i_ast, i_stL, i_stR, i_alen, i_new, i_newa, i_iret, i_zret, i_lret, i_aret, i_vret, i_raise, i_throw, i_recv, i_objinit, i_tsw3, lget, lset, lput1, lput2, lkil, ltrim, largs, isL, takev, dropv, nthv, pushO, catv, gd, true_and, and_true, Option.some.injEq, Prod.mk.injEq, exists_eq_left', if_true, if_false, reduceCtorEq, Bool.false_eq_true, lcmp_ge, lcmp_lt, lcmp_le, lcmp_gt, lcmp_eq, true_or, or_true, not_true_eq_false, not_false_eq_true, false_implies, true_implies, List.length_cons, List.length_nil, v1, v3, f1, hm]
        repeat (first | refine ⟨in_small (by omega) (by omega), ?_⟩ | (show (_ → _) ∧ (_ → _); first | refine ⟨by omega, fun _ => ?_⟩ | refine ⟨fun _ => ?_, by omega⟩) | refine ⟨by omega, ?_⟩ | refine ⟨⟨_, rfl, by assumption⟩, ?_⟩ | refine ⟨okT_I _, ?_⟩ | refine call0 (gd_of rfl) ?_)
        obtain ⟨n2, h2⟩ := hst 1 (some st) (.inl ⟨z, rfl⟩)
        exact K S' D1 1 n2 (some st) R1 hw h2 (.inr rfl) ⟨fun _ => Option.some_ne_none _, fun _ => rfl⟩ ⟨_, hf⟩ ⟨_, hr⟩ (fun a k hk => ⟨_, hx a k hk⟩) fun st' q => by
          obtain rfl := Option.some.inj q
          exact ⟨hr, hx⟩
      · have hm : 0 < D1 (d + 1) 1 := by
          rw [hf.1.2]
          rcases Nat.eq_zero_or_pos (pcnt st.1 455) with q | q
          · exact absurd (pcnt_zero q t ht.1) ht.2.1
          · omega
        have tx := tx_le ht.1
        -- which one divides
        have act : ∀ k : Nat, isDiv (leads c g ψ) m t k → Wp P_X4_run E 6 [some (aR d), none, some (aI m), some (aR ob), none, none, some (aI t), some (aI k)] [] B S' D1 := by
          intro k hk
          rcases Nat.lt_or_ge k m with km | km
          · have hdv := hk.2.2 km
            have hll := leads_is oo hdv.1
            have hu : D1 (d + 3) k = ((leads c g ψ k).toNat : Nat) := by
              rw [hl k km]
              have := hdv.1
              rcases leadI_lim c g (ψ k) 455 with q | q
              · exact absurd q this
              · unfold leads; omega
            -- the quotient's place
            obtain ⟨x, χk, hxs, hxd, hx1, hx2, hx3⟩ : ∃ x χk, quS S' d k x ∧ quD S' D1 d x χk ∧ (x + 1 < T ∨ d + 31 < x) ∧ (x + 1 < gA k ∨ gA k + 1 < x) ∧ (w ≠ none → x = xA k ∧ χk = st.2.2.2 k ∧ (r + 1 < x ∨ x + 1 < r)) := by
              rcases L10 with L10 | ⟨Q, M, y1, y2, y3, y4⟩
              · obtain ⟨x, f1, f2, f3⟩ := far_x m r (d + 31) gA
                exact ⟨x, fun _ => 0, .inl (by rw [R4]; exact L10), fun h => absurd (by rw [R4]; exact L10) h, .inr f1, .inr (f3 k km), fun h => absurd L10 h⟩
              · have hy := y4 k km
                have hw0 : w ≠ none := by rw [y1]; exact Option.some_ne_none _
                have nQ : Q ≠ d := fun e => by rw [e, v0] at y2; simp at y2
                exact ⟨xA k, st.2.2.2 k, .inr ⟨Q, M, by rw [R4]; exact y1, q1 _ _ y2, by omega, by rw [R1.2.2 _ _ (.inl nQ)]; exact hy.1, hy.2.1.sq (R1.e (by have := hy.2.2.1; omega))⟩, fun _ => hx hw0 k km, hy.2.2.1, hy.2.2.2.2.2.2.1 k km, fun _ => ⟨rfl, rfl, hy.2.2.2.1⟩⟩
            refine wp_in ?_
            simp only [P_X4_run, i_kil, i_icon, i_lcon, i_null, i_loadI, i_loadL, i_loadR, i_istore, i_lstore, i_astore, i_iinc, i_dup, i_dup2, i_pop, i_iadd, i_isub, i_imul, i_idiv, i_irem, i_ineg, i_iand, i_ior, i_ishl, i_ishr, i_lxor, i_ladd, i_lsub, i_lmul, i_ldiv, i_lrem, i_lneg, i_lshl, i_lcmp, i_i2l, i_l2i, i_i2b, i_i2s, i_ifeq, i_ifne, i_iflt, i_ifge, i_ifgt, i_ifle, i_cmpeq, i_cmpne, i_cmplt, i_cmpge, i_cmpgt, i_cmple, i_acmpeq, i_acmpne, i_ifnull, i_ifnonnull, i_getI, i_getR, i_putI, i_putZ, i_putR, i_ald, i_ldL, i_ldR, i_ast, i_stL, i_stR, i_alen, i_new, i_newa, i_iret, i_zret, i_lret, i_aret, i_vret, i_raise, i_throw, i_recv, i_objinit, i_tsw3, lget, lset, lput1, lput2, lkil, ltrim, largs, isL, takev, dropv, nthv, pushO, catv, gd, true_and, and_true, Option.some.injEq, Prod.mk.injEq, exists_eq_left', if_true, if_false, reduceCtorEq, Bool.false_eq_true, lcmp_ge, lcmp_lt, lcmp_le, lcmp_gt, lcmp_eq, true_or, or_true, not_true_eq_false, not_false_eq_true, false_implies, true_implies, List.length_cons, List.length_nil]
            refine ⟨fun q => by omega, fun _ => ?_⟩
            repeat (first | refine ⟨in_small (by omega) (by omega), ?_⟩ | (show (_ → _) ∧ (_ → _); first | refine ⟨by omega, fun _ => ?_⟩ | refine ⟨fun _ => ?_, by omega⟩) | refine ⟨by omega, ?_⟩ | refine ⟨⟨_, rfl, by assumption⟩, ?_⟩ | refine ⟨okT_I _, ?_⟩ | refine call0 (gd_of rfl) ?_)
            refine step_at hv' ho' hT' (tD' D1 hw) l1 l2 R2 L1' (by omega) (by omega) (gS' k km).1 (gS' k km).2 (L9 k km).2.2.1 hf (gD' D1 hw k km) hu hll.1 hll.2.1 hdv.2 ht.1 (hc k km).1 (hc k km).2 hxs hxd hx1 hx2 rfl rfl fun D2 v e1 e2 e3 e4 e5 e6 e7 => ?_
            have hrr : pP D2 r st.2.1 := hr.congr (fun i => e1 _ i (by omega) (by omega) fun h => by rw [R4] at h; have := hx3 h; omega) (fun i => e1 _ i (by omega) (by omega) fun h => by rw [R4] at h; have := hx3 h; omega)
            have hw2 : rnW w d o r m xA D D2 := fun a i p1 p2 p3 p4 p5 => by
              rw [e1 a i p1 p2 (fun h => by rw [R4] at h; have := hx3 h; have := p5 h k km; omega)]
              exact hw a i p1 p2 p3 p4 p5
            have hxj : w ≠ none → ∀ j, j < m → j ≠ k → pP D2 (xA j) (st.2.2.2 j) := fun h j hj hjk => by
              have hj2 := hx h j hj
              rcases L10 with L10 | ⟨Q, M, y1, y2, y3, y4⟩
              · exact absurd L10 h
              · have a1 := y4 j hj
                have a2 := a1.2.2.2.2.2.2.2 k km (fun e => hjk e.symm)
                have a3 := hx3 h
                have a4 := a1.2.2.1
                exact hj2.congr (fun i => e1 _ i (by omega) (by omega) fun _ => by omega) (fun i => e1 _ i (by omega) (by omega) fun _ => by omega)
            simp only [P_X4_run, i_kil, i_icon, i_lcon, i_null, i_loadI, i_loadL, i_loadR, i_istore, i_lstore, i_astore, i_iinc, i_dup, i_dup2, i_pop, i_iadd, i_isub, i_imul, i_idiv, i_irem, i_ineg, i_iand, i_ior, i_ishl, i_ishr, i_lxor, i_ladd, i_lsub, i_lmul, i_ldiv, i_lrem, i_lneg, i_lshl, i_lcmp, i_i2l, i_l2i, i_i2b, i_i2s, i_ifeq, i_ifne, i_iflt, i_ifge, i_ifgt, i_ifle, i_cmpeq, i_cmpne, i_cmplt, i_cmpge, i_cmpgt, i_cmple, i_acmpeq, i_acmpne, i_ifnull, i_ifnonnull, i_getI, i_getR, i_putI, i_putZ, i_putR, i_ald, i_ldL, i_ldR, i_ast, i_stL, i_stR, i_alen, i_new, i_newa, i_iret, i_zret, i_lret, i_aret, i_vret, i_raise, i_throw, i_recv, i_objinit, i_tsw3, lget, lset, lput1, lput2, lkil, ltrim, largs, isL, takev, dropv, nthv, pushO, catv, gd, true_and, and_true, Option.some.injEq, Prod.mk.injEq, exists_eq_left', if_true, if_false, reduceCtorEq, Bool.false_eq_true, lcmp_ge, lcmp_lt, lcmp_le, lcmp_gt, lcmp_eq, true_or, or_true, not_true_eq_false, not_false_eq_true, false_implies, true_implies, List.length_cons, List.length_nil]
            rcases e3 with rfl | rfl
            · refine ⟨fun _ => ?_, fun q => absurd rfl q⟩
              have hng : ¬ dgood c g ψ st t k := fun q => absurd (e4.mpr q) (by omega)
              obtain ⟨n2, h2⟩ := hst 1 none (.inr ⟨t, k, ht, hk, .inl ⟨km, .inl ⟨hng, rfl⟩⟩⟩)
              refine fail D2 n2 hw2 h2 e5 ⟨_, hrr⟩ fun h j hj => ?_
              by_cases ejk : j = k
              · subst ejk
                obtain ⟨χ', h3⟩ := e6
                have a3 := hx3 h
                rw [← a3.1]
                exact ⟨χ', h3 (by rw [R4]; exact h)⟩
              · exact ⟨_, hxj h j hj ejk⟩
            · refine ⟨fun q => by omega, fun _ => ?_⟩
              have hgd : dgood c g ψ st t k := e4.mp rfl
              obtain ⟨p1, p2, p3, p4⟩ := e7 rfl
              refine wp_in ?_
              simp only [P_X4_run, i_kil, i_icon, i_lcon, i_null, i_loadI, i_loadL, i_loadR, i_istore, i_lstore, i_astore, i_iinc, i_dup, i_dup2, i_pop, i_iadd, i_isub, i_imul, i_idiv, i_irem, i_ineg, i_iand, i_ior, i_ishl, i_ishr, i_lxor, i_ladd, i_lsub, i_lmul, i_ldiv, i_lrem, i_lneg, i_lshl, i_lcmp, i_i2l, i_l2i, i_i2b, i_i2s, i_ifeq, i_ifne, i_iflt, i_ifge, i_ifgt, i_ifle, i_cmpeq, i_cmpne, i_cmplt, i_cmpge, i_cmpgt, i_cmple, i_acmpeq, i_acmpne, i_ifnull, i_ifnonnull, i_getI, i_getR, i_putI, i_putZ, i_putR, i_ald, i_ldL, i_ldR, i_ast, i_stL, i_stR, i_alen, i_new, i_newa, i_iret, i_zret, i_lret, i_aret, i_vret, i_raise, i_throw, i_recv, i_objinit, i_tsw3, lget, lset, lput1, lput2, lkil, ltrim, largs, isL, takev, dropv, nthv, pushO, catv, gd, true_and, and_true, Option.some.injEq, Prod.mk.injEq, exists_eq_left', if_true, if_false, reduceCtorEq, Bool.false_eq_true, lcmp_ge, lcmp_lt, lcmp_le, lcmp_gt, lcmp_eq, true_or, or_true, not_true_eq_false, not_false_eq_true, false_implies, true_implies, List.length_cons, List.length_nil]
              refine ih D2 (dstp c g ψ st t k) (fun t' h => ?_) (fun n1 res h => hst (n1 + 1) res (.inr ⟨t, k, ht, hk, .inl ⟨km, .inr ⟨hgd, h⟩⟩⟩)) hw2 p1 hrr (fun j hj => ?_) (fun j hj => by rw [e2]; exact hl j hj) fun h j hj => ?_
              · have a1 := dstp_below oo ht hdv hgd t' h
                have a2 := posc_lt oo a1 455
                rw [if_pos h.1] at a2
                have := hpos t ht
                omega
              · show D2 (d + 4) j = ((kupd st.2.2.1 k j : Nat) : Int) ∧ kupd st.2.2.1 k j ≤ 60
                unfold kupd
                by_cases ejk : j = k
                · subst ejk
                  rw [if_pos rfl, p2]
                  exact ⟨by omega, hgd.2.1⟩
                · rw [if_neg ejk, p3 j ejk]; exact hc j hj
              · show pP D2 (xA j) (xupd st.2.2.2 k _ _ j)
                unfold xupd
                by_cases ejk : j = k
                · subst ejk
                  rw [if_pos rfl]
                  have a3 := hx3 h
                  have := p4 (by rw [R4]; exact h)
                  rw [a3.1, a3.2.1] at this
                  exact this
                · rw [if_neg ejk]; exact hxj h j hj ejk
          · have ek : k = m := by have := hk.1; omega
            subst ek
            refine wp_in ?_
            simp only [P_X4_run, i_kil, i_icon, i_lcon, i_null, i_loadI, i_loadL, i_loadR, i_istore, i_lstore, i_astore, i_iinc, i_dup, i_dup2, i_pop, i_iadd, i_isub, i_imul, i_idiv, i_irem, i_ineg, i_iand, i_ior, i_ishl, i_ishr, i_lxor, i_ladd, i_lsub, i_lmul, i_ldiv, i_lrem, i_lneg, i_lshl, i_lcmp, i_i2l, i_l2i, i_i2b, i_i2s, i_ifeq, i_ifne, i_iflt, i_ifge, i_ifgt, i_ifle, i_cmpeq, i_cmpne, i_cmplt, i_cmpge, i_cmpgt, i_cmple, i_acmpeq, i_acmpne, i_ifnull, i_ifnonnull, i_getI, i_getR, i_putI, i_putZ, i_putR, i_ald, i_ldL, i_ldR, i_ast, i_stL, i_stR, i_alen, i_new, i_newa, i_iret, i_zret, i_lret, i_aret, i_vret, i_raise, i_throw, i_recv, i_objinit, i_tsw3, lget, lset, lput1, lput2, lkil, ltrim, largs, isL, takev, dropv, nthv, pushO, catv, gd, true_and, and_true, Option.some.injEq, Prod.mk.injEq, exists_eq_left', if_true, if_false, reduceCtorEq, Bool.false_eq_true, lcmp_ge, lcmp_lt, lcmp_le, lcmp_gt, lcmp_eq, true_or, or_true, not_true_eq_false, not_false_eq_true, false_implies, true_implies, List.length_cons, List.length_nil]
            refine ⟨fun _ => ?_, fun q => by omega⟩
            repeat (first | refine ⟨in_small (by omega) (by omega), ?_⟩ | (show (_ → _) ∧ (_ → _); first | refine ⟨by omega, fun _ => ?_⟩ | refine ⟨fun _ => ?_, by omega⟩) | refine ⟨by omega, ?_⟩ | refine ⟨⟨_, rfl, by assumption⟩, ?_⟩ | refine ⟨okT_I _, ?_⟩ | refine call0 (gd_of rfl) ?_)
            refine sp_X4_moves v1 v3 v5 R5 v4 L4' v6 (by omega) (by omega) (by omega) hf.1 hr.1 ht.1 (hf.2.1 t ht.1) fun D2 e1 e2 e3 => ?_
            have hf2 : pP D2 (d + 1) (pupd st.1 t 0) := hf.upd qfit_zero ht.1 e2
            have hr2 : pP D2 r (pupd st.2.1 t (st.1 t)) := hr.upd (hf.2.1 t ht.1) ht.1 e3
            have hw2 : rnW w d o r k xA D D2 := fun a i p1 p2 p3 p4 p5 => by
              rw [e1 a i (by omega) (by omega) p3 p4 (by omega)]
              exact hw a i p1 p2 p3 p4 p5
            have hxj : w ≠ none → ∀ j, j < k → pP D2 (xA j) (st.2.2.2 j) := fun h j hj => by
              have hj2 := hx h j hj
              rcases L10 with L10 | ⟨Q, M, y1, y2, y3, y4⟩
              · exact absurd L10 h
              · have a1 := y4 j hj
                have a2 := a1.2.2.2.1
                have a4 := a1.2.2.1
                exact hj2.congr (fun i => e1 _ i (by omega) (by omega) (by omega) (by omega) (by omega)) (fun i => e1 _ i (by omega) (by omega) (by omega) (by omega) (by omega))
            simp only [P_X4_run, i_kil, i_icon, i_lcon, i_null, i_loadI, i_loadL, i_loadR, i_istore, i_lstore, i_astore, i_iinc, i_dup, i_dup2, i_pop, i_iadd, i_isub, i_imul, i_idiv, i_irem, i_ineg, i_iand, i_ior, i_ishl, i_ishr, i_lxor, i_ladd, i_lsub, i_lmul, i_ldiv, i_lrem, i_lneg, i_lshl, i_lcmp, i_i2l, i_l2i, i_i2b, i_i2s, i_ifeq, i_ifne, i_iflt, i_ifge, i_ifgt, i_ifle, i_cmpeq, i_cmpne, i_cmplt, i_cmpge, i_cmpgt, i_cmple, i_acmpeq, i_acmpne, i_ifnull, i_ifnonnull, i_getI, i_getR, i_putI, i_putZ, i_putR, i_ald, i_ldL, i_ldR, i_ast, i_stL, i_stR, i_alen, i_new, i_newa, i_iret, i_zret, i_lret, i_aret, i_vret, i_raise, i_throw, i_recv, i_objinit, i_tsw3, lget, lset, lput1, lput2, lkil, ltrim, largs, isL, takev, dropv, nthv, pushO, catv, gd, true_and, and_true, Option.some.injEq, Prod.mk.injEq, exists_eq_left', if_true, if_false, reduceCtorEq, Bool.false_eq_true, lcmp_ge, lcmp_lt, lcmp_le, lcmp_gt, lcmp_eq, true_or, or_true, not_true_eq_false, not_false_eq_true, false_implies, true_implies, List.length_cons, List.length_nil]
            refine ⟨fun q => ?_, fun q => ?_⟩
            · have hcnt : pcnt (dmov st t).2.1 455 ≤ 60 := by
                show pcnt (pupd st.2.1 t (st.1 t)) 455 ≤ 60
                exact Classical.byContradiction fun h => q (if_neg h)
              refine wp_in ?_
              simp only [P_X4_run, i_kil, i_icon, i_lcon, i_null, i_loadI, i_loadL, i_loadR, i_istore, i_lstore, i_astore, i_iinc, i_dup, i_dup2, i_pop, i_iadd, i_isub, i_imul, i_idiv, i_irem, i_ineg, i_iand, i_ior, i_ishl, i_ishr, i_lxor, i_ladd, i_lsub, i_lmul, i_ldiv, i_lrem, i_lneg, i_lshl, i_lcmp, i_i2l, i_l2i, i_i2b, i_i2s, i_ifeq, i_ifne, i_iflt, i_ifge, i_ifgt, i_ifle, i_cmpeq, i_cmpne, i_cmplt, i_cmpge, i_cmpgt, i_cmple, i_acmpeq, i_acmpne, i_ifnull, i_ifnonnull, i_getI, i_getR, i_putI, i_putZ, i_putR, i_ald, i_ldL, i_ldR, i_ast, i_stL, i_stR, i_alen, i_new, i_newa, i_iret, i_zret, i_lret, i_aret, i_vret, i_raise, i_throw, i_recv, i_objinit, i_tsw3, lget, lset, lput1, lput2, lkil, ltrim, largs, isL, takev, dropv, nthv, pushO, catv, gd, true_and, and_true, Option.some.injEq, Prod.mk.injEq, exists_eq_left', if_true, if_false, reduceCtorEq, Bool.false_eq_true, lcmp_ge, lcmp_lt, lcmp_le, lcmp_gt, lcmp_eq, true_or, or_true, not_true_eq_false, not_false_eq_true, false_implies, true_implies, List.length_cons, List.length_nil]
              refine ih D2 (dmov st t) (fun t' h => ?_) (fun n1 res h => hst (n1 + 1) res (.inr ⟨t, k, ht, hk, .inr ⟨rfl, .inr ⟨hcnt, h⟩⟩⟩)) hw2 hf2 hr2 (fun j hj => by rw [e1 _ _ (by omega) (by omega) (by omega) (by omega) (by omega)]; exact hc j hj) (fun j hj => by rw [e1 _ _ (by omega) (by omega) (by omega) (by omega) (by omega)]; exact hl j hj) hxj
              have a1 := dmov_below ht t' h
              have a2 := posc_lt oo a1 455
              rw [if_pos h.1] at a2
              have := hpos t ht
              omega
            · have hcnt : ¬ pcnt (dmov st t).2.1 455 ≤ 60 := by
                show ¬ pcnt (pupd st.2.1 t (st.1 t)) 455 ≤ 60
                intro h
                rw [if_pos h] at q
                exact absurd q (by decide)
              obtain ⟨n2, h2⟩ := hst 1 none (.inr ⟨t, k, ht, hk, .inr ⟨rfl, .inl ⟨hcnt, rfl⟩⟩⟩)
              exact fail D2 n2 hw2 h2 ⟨_, hf2⟩ ⟨_, hr2⟩ fun h j hj => ⟨_, hxj h j hj⟩
        have find : ∀ (L k : Nat), k + L = m → (∀ j, j < k → ¬ dvo (leads c g ψ j) t) → Wp P_X4_run E 4 [some (aR d), none, some (aI m), some (aR ob), none, none, some (aI t), some (aI k)] [] B S' D1 := by
          intro L
          induction L with
          | zero =>
            intro k hk hn
            have : k = m := by omega
            subst this
            refine wp_in ?_
            simp only [P_X4_run, i_kil, i_icon, i_lcon, i_null, i_loadI, i_loadL, i_loadR, i_istore, i_lstore, i_astore, i_iinc, i_dup, i_dup2, i_pop, i_iadd, i_isub, i_imul, i_idiv, i_irem, i_ineg, i_iand, i_ior, i_ishl, i_ishr, i_lxor, i_ladd, i_lsub, i_lmul, i_ldiv, i_lrem, i_lneg, i_lshl, i_lcmp, i_i2l, i_l2i, i_i2b, i_i2s, i_ifeq, i_ifne, i_iflt, i_ifge, i_ifgt, i_ifle, i_cmpeq, i_cmpne, i_cmplt, i_cmpge, i_cmpgt, i_cmple, i_acmpeq, i_acmpne, i_ifnull, i_ifnonnull, i_getI, i_getR, i_putI, i_putZ, i_putR, i_ald, i_ldL, i_ldR, i_ast, i_stL, i_stR, i_alen, i_new, i_newa, i_iret, i_zret, i_lret, i_aret, i_vret, i_raise, i_throw, i_recv, i_objinit, i_tsw3, lget, lset, lput1, lput2, lkil, ltrim, largs, isL, takev, dropv, nthv, pushO, catv, gd, true_and, and_true, Option.some.injEq, Prod.mk.injEq, exists_eq_left', if_true, if_false, reduceCtorEq, Bool.false_eq_true, lcmp_ge, lcmp_lt, lcmp_le, lcmp_gt, lcmp_eq, true_or, or_true, not_true_eq_false, not_false_eq_true, false_implies, true_implies, List.length_cons, List.length_nil]
            refine ⟨fun _ => ?_, fun q => by omega⟩
            exact act k ⟨Nat.le_refl _, hn, fun q => by omega⟩
          | succ L ihL =>
            intro k hk hn
            have hlk := hl k (by omega)
            have next : ¬ dvo (leads c g ψ k) t → Wp P_X4_run E 5 [some (aR d), none, some (aI m), some (aR ob), none, none, some (aI t), some (aI k)] [] B S' D1 := fun hno => by
              refine wp_in ?_
              simp only [P_X4_run, i_kil, i_icon, i_lcon, i_null, i_loadI, i_loadL, i_loadR, i_istore, i_lstore, i_astore, i_iinc, i_dup, i_dup2, i_pop, i_iadd, i_isub, i_imul, i_idiv, i_irem, i_ineg, i_iand, i_ior, i_ishl, i_ishr, i_lxor, i_ladd, i_lsub, i_lmul, i_ldiv, i_lrem, i_lneg, i_lshl, i_lcmp, i_i2l, i_l2i, i_i2b, i_i2s, i_ifeq, i_ifne, i_iflt, i_ifge, i_ifgt, i_ifle, i_cmpeq, i_cmpne, i_cmplt, i_cmpge, i_cmpgt, i_cmple, i_acmpeq, i_acmpne, i_ifnull, i_ifnonnull, i_getI, i_getR, i_putI, i_putZ, i_putR, i_ald, i_ldL, i_ldR, i_ast, i_stL, i_stR, i_alen, i_new, i_newa, i_iret, i_zret, i_lret, i_aret, i_vret, i_raise, i_throw, i_recv, i_objinit, i_tsw3, lget, lset, lput1, lput2, lkil, ltrim, largs, isL, takev, dropv, nthv, pushO, catv, gd, true_and, and_true, Option.some.injEq, Prod.mk.injEq, exists_eq_left', if_true, if_false, reduceCtorEq, Bool.false_eq_true, lcmp_ge, lcmp_lt, lcmp_le, lcmp_gt, lcmp_eq, true_or, or_true, not_true_eq_false, not_false_eq_true, false_implies, true_implies, List.length_cons, List.length_nil]
              repeat (first | refine ⟨in_small (by omega) (by omega), ?_⟩ | (show (_ → _) ∧ (_ → _); first | refine ⟨by omega, fun _ => ?_⟩ | refine ⟨fun _ => ?_, by omega⟩) | refine ⟨by omega, ?_⟩ | refine ⟨⟨_, rfl, by assumption⟩, ?_⟩ | refine ⟨okT_I _, ?_⟩ | refine call0 (gd_of rfl) ?_)
              refine ihL (k + 1) (by omega) fun j hj => ?_
              by_cases e : j = k
              · rw [e]; exact hno
              · exact hn j (by omega)
            refine wp_in ?_
            simp only [P_X4_run, i_kil, i_icon, i_lcon, i_null, i_loadI, i_loadL, i_loadR, i_istore, i_lstore, i_astore, i_iinc, i_dup, i_dup2, i_pop, i_iadd, i_isub, i_imul, i_idiv, i_irem, i_ineg, i_iand, i_ior, i_ishl, i_ishr, i_lxor, i_ladd, i_lsub, i_lmul, i_ldiv, i_lrem, i_lneg, i_lshl, i_lcmp, i_i2l, i_l2i, i_i2b, i_i2s, i_ifeq, i_ifne, i_iflt, i_ifge, i_ifgt, i_ifle, i_cmpeq, i_cmpne, i_cmplt, i_cmpge, i_cmpgt, i_cmple, i_acmpeq, i_acmpne, i_ifnull, i_ifnonnull, i_getI, i_getR, i_putI, i_putZ, i_putR, i_ald, i_ldL, i_ldR, i_ast, i_stL, i_stR, i_alen, i_new, i_newa, i_iret, i_zret, i_lret, i_aret, i_vret, i_raise, i_throw, i_recv, i_objinit, i_tsw3, lget, lset, lput1, lput2, lkil, ltrim, largs, isL, takev, dropv, nthv, pushO, catv, gd, true_and, and_true, Option.some.injEq, Prod.mk.injEq, exists_eq_left', if_true, if_false, reduceCtorEq, Bool.false_eq_true, lcmp_ge, lcmp_lt, lcmp_le, lcmp_gt, lcmp_eq, true_or, or_true, not_true_eq_false, not_false_eq_true, false_implies, true_implies, List.length_cons, List.length_nil, v1, v2, v11, v12, hlk, t1]
            refine ⟨fun q => by omega, fun _ => ?_⟩
            repeat (first | refine ⟨in_small (by omega) (by omega), ?_⟩ | (show (_ → _) ∧ (_ → _); first | refine ⟨by omega, fun _ => ?_⟩ | refine ⟨fun _ => ?_, by omega⟩) | refine ⟨by omega, ?_⟩ | refine ⟨⟨_, rfl, by assumption⟩, ?_⟩ | refine ⟨okT_I _, ?_⟩ | refine call0 (gd_of rfl) ?_)
            refine ⟨fun q => next fun h => h.1 q, fun q => ?_⟩
            repeat (first | refine ⟨in_small (by omega) (by omega), ?_⟩ | (show (_ → _) ∧ (_ → _); first | refine ⟨by omega, fun _ => ?_⟩ | refine ⟨fun _ => ?_, by omega⟩) | refine ⟨by omega, ?_⟩ | refine ⟨⟨_, rfl, by assumption⟩, ?_⟩ | refine ⟨okT_I _, ?_⟩ | refine call0 (gd_of rfl) ?_)
            have hll := leads_is oo q
            have e7 : leads c g ψ k = ((leads c g ψ k).toNat : Nat) := by
              rcases leadI_lim c g (ψ k) 455 with w1 | w1
              · exact absurd w1 q
              · unfold leads; omega
            refine divides_at hT' (tD' D1 hw) hll.1 ht.1 e7 rfl fun v e1 e2 => ?_
            simp only [P_X4_run, i_kil, i_icon, i_lcon, i_null, i_loadI, i_loadL, i_loadR, i_istore, i_lstore, i_astore, i_iinc, i_dup, i_dup2, i_pop, i_iadd, i_isub, i_imul, i_idiv, i_irem, i_ineg, i_iand, i_ior, i_ishl, i_ishr, i_lxor, i_ladd, i_lsub, i_lmul, i_ldiv, i_lrem, i_lneg, i_lshl, i_lcmp, i_i2l, i_l2i, i_i2b, i_i2s, i_ifeq, i_ifne, i_iflt, i_ifge, i_ifgt, i_ifle, i_cmpeq, i_cmpne, i_cmplt, i_cmpge, i_cmpgt, i_cmple, i_acmpeq, i_acmpne, i_ifnull, i_ifnonnull, i_getI, i_getR, i_putI, i_putZ, i_putR, i_ald, i_ldL, i_ldR, i_ast, i_stL, i_stR, i_alen, i_new, i_newa, i_iret, i_zret, i_lret, i_aret, i_vret, i_raise, i_throw, i_recv, i_objinit, i_tsw3, lget, lset, lput1, lput2, lkil, ltrim, largs, isL, takev, dropv, nthv, pushO, catv, gd, true_and, and_true, Option.some.injEq, Prod.mk.injEq, exists_eq_left', if_true, if_false, reduceCtorEq, Bool.false_eq_true, lcmp_ge, lcmp_lt, lcmp_le, lcmp_gt, lcmp_eq, true_or, or_true, not_true_eq_false, not_false_eq_true, false_implies, true_implies, List.length_cons, List.length_nil]
            refine ⟨fun h => ?_, fun h => ?_⟩
            · exact act k ⟨by omega, hn, fun _ => ⟨q, e2.mp h⟩⟩
            · exact next fun h2 => e2.mpr h2.2 h
        refine wp_in ?_
        simp only [P_X4_run, i_kil, i_icon, i_lcon, i_null, i_loadI, i_loadL, i_loadR, i_istore, i_lstore, i_astore, i_iinc, i_dup, i_dup2, i_pop, i_iadd, i_isub, i_imul, i_idiv, i_irem, i_ineg, i_iand, i_ior, i_ishl, i_ishr, i_lxor, i_ladd, i_lsub, i_lmul, i_ldiv, i_lrem, i_lneg, i_lshl, i_lcmp, i_i2l, i_l2i, i_i2b, i_i2s, i_ifeq, i_ifne, i_iflt, i_ifge, i_ifgt, i_ifle, i_cmpeq, i_cmpne, i_cmplt, i_cmpge, i_cmpgt, i_cmple, i_acmpeq, i_acmpne, i_ifnull, i_ifnonnull, i_getI, i_getR, i_putI, i_putZ, i_putR, i_ald, i_ldL, i_ldR, i_ast, i_stL, i_stR, i_alen, i_new, i_newa, i_iret, i_zret, i_lret, i_aret, i_vret, i_raise, i_throw, i_recv, i_objinit, i_tsw3, lget, lset, lput1, lput2, lkil, ltrim, largs, isL, takev, dropv, nthv, pushO, catv, gd, true_and, and_true, Option.some.injEq, Prod.mk.injEq, exists_eq_left', if_true, if_false, reduceCtorEq, Bool.false_eq_true, lcmp_ge, lcmp_lt, lcmp_le, lcmp_gt, lcmp_eq, true_or, or_true, not_true_eq_false, not_false_eq_true, false_implies, true_implies, List.length_cons, List.length_nil, v1, v3, f1]
        repeat (first | refine ⟨in_small (by omega) (by omega), ?_⟩ | (show (_ → _) ∧ (_ → _); first | refine ⟨by omega, fun _ => ?_⟩ | refine ⟨fun _ => ?_, by omega⟩) | refine ⟨by omega, ?_⟩ | refine ⟨⟨_, rfl, by assumption⟩, ?_⟩ | refine ⟨okT_I _, ?_⟩ | refine call0 (gd_of rfl) ?_)
        refine lead_at v4 hf.1 (oS' D1 hw) hT' (tD' D1 hw) ?_
        rw [leadI_is oo ht]
        simp only [P_X4_run, i_kil, i_icon, i_lcon, i_null, i_loadI, i_loadL, i_loadR, i_istore, i_lstore, i_astore, i_iinc, i_dup, i_dup2, i_pop, i_iadd, i_isub, i_imul, i_idiv, i_irem, i_ineg, i_iand, i_ior, i_ishl, i_ishr, i_lxor, i_ladd, i_lsub, i_lmul, i_ldiv, i_lrem, i_lneg, i_lshl, i_lcmp, i_i2l, i_l2i, i_i2b, i_i2s, i_ifeq, i_ifne, i_iflt, i_ifge, i_ifgt, i_ifle, i_cmpeq, i_cmpne, i_cmplt, i_cmpge, i_cmpgt, i_cmple, i_acmpeq, i_acmpne, i_ifnull, i_ifnonnull, i_getI, i_getR, i_putI, i_putZ, i_putR, i_ald, i_ldL, i_ldR, i_ast, i_stL, i_stR, i_alen, i_new, i_newa, i_iret, i_zret, i_lret, i_aret, i_vret, i_raise, i_throw, i_recv, i_objinit, i_tsw3, lget, lset, lput1, lput2, lkil, ltrim, largs, isL, takev, dropv, nthv, pushO, catv, gd, true_and, and_true, Option.some.injEq, Prod.mk.injEq, exists_eq_left', if_true, if_false, reduceCtorEq, Bool.false_eq_true, lcmp_ge, lcmp_lt, lcmp_le, lcmp_gt, lcmp_eq, true_or, or_true, not_true_eq_false, not_false_eq_true, false_implies, true_implies, List.length_cons, List.length_nil]
        exact find m 0 (by omega) fun j hj => by omega
  -- the leads are told
  have told : ∀ (L k : Nat) (D1 : Dat), k + L = m → rnW w d o r m xA D D1 → pP D1 (d + 1) φ → pP D1 r (fun _ => 0) → (∀ j, j < k → D1 (d + 4) j = 0 ∧ D1 (d + 3) j = leads c g ψ j ∧ (w ≠ none → pP D1 (xA j) (fun _ => 0))) → (w ≠ none → ∀ j, k ≤ j → j < m → pD D1 (xA j) (χ j)) → Wp P_X4_run E 1 [some (aR d), some (aR La), some (aI m), some (aR ob), some (.inr (.inr w)), none, some (aI k)] [] B S' D1 := by
    intro L
    induction L with
    | zero =>
      intro k D1 hk h1 h2 h3 h4 h5
      have : k = m := by omega
      subst this
      refine wp_in ?_
      simp only [P_X4_run, i_kil, i_icon, i_lcon, i_null, i_loadI, i_loadL, i_loadR, i_istore, i_lstore, i_astore, i_iinc, i_dup, i_dup2, i_pop, i_iadd, i_isub, i_imul, i_idiv, i_irem, i_ineg, i_iand, i_ior, i_ishl, i_ishr, i_lxor, i_ladd, i_lsub, i_lmul, i_ldiv, i_lrem, i_lneg, i_lshl, i_lcmp, i_i2l, i_l2i, i_i2b, i_i2s, i_ifeq, i_ifne, i_iflt, i_ifge, i_ifgt, i_ifle, i_cmpeq, i_cmpne, i_cmplt, i_cmpge, i_cmpgt, i_cmple, i_acmpeq, i_acmpne, i_ifnull, i_ifnonnull, i_getI, i_getR, i_putI, i_putZ, i_putR, i_ald, i_ldL, i_ldR, i_ast, i_stL, i_stR, i_alen, i_new, i_newa, i_iret, i_zret, i_lret, i_aret, i_vret, i_raise, i_throw, i_recv, i_objinit, i_tsw3, lget, lset, lput1, lput2, lkil, ltrim, largs, isL, takev, dropv, nthv, pushO, catv, gd, true_and, and_true, Option.some.injEq, Prod.mk.injEq, exists_eq_left', if_true, if_false, reduceCtorEq, Bool.false_eq_true, lcmp_ge, lcmp_lt, lcmp_le, lcmp_gt, lcmp_eq, true_or, or_true, not_true_eq_false, not_false_eq_true, false_implies, true_implies, List.length_cons, List.length_nil]
      refine ⟨fun _ => ?_, fun q => by omega⟩
      refine main 456 D1 (φ, fun _ => 0, fun _ => 0, fun _ _ => 0) (fun t _ => by have := posc_le c g t 455; omega) (fun n1 res h => ⟨n1, h⟩) h1 h2 h3 (fun j hj => ⟨(h4 j hj).1, Nat.zero_le _⟩) (fun j hj => (h4 j hj).2.1) fun hw j hj => (h4 j hj).2.2 hw
    | succ L ih =>
      intro k D1 hk h1 h2 h3 h4 h5
      obtain ⟨v1, v2, v3, v4, v5, v6, v7, v8, v9, v10, v11, v12, v13, v14⟩ := id hv'
      have g1 := (gS' k (by omega)).2.1
      have gk := (gS' k (by omega)).1
      refine wp_in ?_
      simp only [P_X4_run, i_kil, i_icon, i_lcon, i_null, i_loadI, i_loadL, i_loadR, i_istore, i_lstore, i_astore, i_iinc, i_dup, i_dup2, i_pop, i_iadd, i_isub, i_imul, i_idiv, i_irem, i_ineg, i_iand, i_ior, i_ishl, i_ishr, i_lxor, i_ladd, i_lsub, i_lmul, i_ldiv, i_lrem, i_lneg, i_lshl, i_lcmp, i_i2l, i_l2i, i_i2b, i_i2s, i_ifeq, i_ifne, i_iflt, i_ifge, i_ifgt, i_ifle, i_cmpeq, i_cmpne, i_cmplt, i_cmpge, i_cmpgt, i_cmple, i_acmpeq, i_acmpne, i_ifnull, i_ifnonnull, i_getI, i_getR, i_putI, i_putZ, i_putR, i_ald, i_ldL, i_ldR, i_ast, i_stL, i_stR, i_alen, i_new, i_newa, i_iret, i_zret, i_lret, i_aret, i_vret, i_raise, i_throw, i_recv, i_objinit, i_tsw3, lget, lset, lput1, lput2, lkil, ltrim, largs, isL, takev, dropv, nthv, pushO, catv, gd, true_and, and_true, Option.some.injEq, Prod.mk.injEq, exists_eq_left', if_true, if_false, reduceCtorEq, Bool.false_eq_true, lcmp_ge, lcmp_lt, lcmp_le, lcmp_gt, lcmp_eq, true_or, or_true, not_true_eq_false, not_false_eq_true, false_implies, true_implies, List.length_cons, List.length_nil, v1, v11, v12, L1', gk]
      refine ⟨fun q => by omega, fun _ => ?_⟩
      repeat (first | refine ⟨in_small (by omega) (by omega), ?_⟩ | (show (_ → _) ∧ (_ → _); first | refine ⟨by omega, fun _ => ?_⟩ | refine ⟨fun _ => ?_, by omega⟩) | refine ⟨by omega, ?_⟩ | refine ⟨⟨_, rfl, by assumption⟩, ?_⟩ | refine ⟨okT_I _, ?_⟩ | refine call0 (gd_of rfl) ?_)
      refine lead_at (gS' k (by omega)).2 (gD' D1 h1 k (by omega)).1 (oS' D1 h1) hT' (tD' D1 h1) ?_
      simp only [P_X4_run, i_kil, i_icon, i_lcon, i_null, i_loadI, i_loadL, i_loadR, i_istore, i_lstore, i_astore, i_iinc, i_dup, i_dup2, i_pop, i_iadd, i_isub, i_imul, i_idiv, i_irem, i_ineg, i_iand, i_ior, i_ishl, i_ishr, i_lxor, i_ladd, i_lsub, i_lmul, i_ldiv, i_lrem, i_lneg, i_lshl, i_lcmp, i_i2l, i_l2i, i_i2b, i_i2s, i_ifeq, i_ifne, i_iflt, i_ifge, i_ifgt, i_ifle, i_cmpeq, i_cmpne, i_cmplt, i_cmpge, i_cmpgt, i_cmple, i_acmpeq, i_acmpne, i_ifnull, i_ifnonnull, i_getI, i_getR, i_putI, i_putZ, i_putR, i_ald, i_ldL, i_ldR, i_ast, i_stL, i_stR, i_alen, i_new, i_newa, i_iret, i_zret, i_lret, i_aret, i_vret, i_raise, i_throw, i_recv, i_objinit, i_tsw3, lget, lset, lput1, lput2, lkil, ltrim, largs, isL, takev, dropv, nthv, pushO, catv, gd, true_and, and_true, Option.some.injEq, Prod.mk.injEq, exists_eq_left', if_true, if_false, reduceCtorEq, Bool.false_eq_true, lcmp_ge, lcmp_lt, lcmp_le, lcmp_gt, lcmp_eq, true_or, or_true, not_true_eq_false, not_false_eq_true, false_implies, true_implies, List.length_cons, List.length_nil, v1, v12, v13, v14]
      repeat (first | refine ⟨in_small (by omega) (by omega), ?_⟩ | (show (_ → _) ∧ (_ → _); first | refine ⟨by omega, fun _ => ?_⟩ | refine ⟨fun _ => ?_, by omega⟩) | refine ⟨by omega, ?_⟩ | refine ⟨⟨_, rfl, by assumption⟩, ?_⟩ | refine ⟨okT_I _, ?_⟩ | refine call0 (gd_of rfl) ?_)
      let D2 : Dat := pmu (pmu D1 (d + 3) k (leadI c g (ψ k) 455)) (d + 4) k 0
      have e2 : ∀ a i, (a ≠ d + 3 ∧ a ≠ d + 4) → D2 a i = D1 a i := fun a i h => by
        show pmu (pmu D1 (d + 3) k (leadI c g (ψ k) 455)) (d + 4) k 0 a i = _
        simp only [pmu]; rw [if_neg (fun q => h.2 q.1), if_neg (fun q => h.1 q.1)]
      have e3 : ∀ i, D2 (d + 3) i = if i = k then leadI c g (ψ k) 455 else D1 (d + 3) i := fun i => by
        show pmu (pmu D1 (d + 3) k (leadI c g (ψ k) 455)) (d + 4) k 0 (d + 3) i = _
        simp only [pmu]
        rw [if_neg (fun q => by omega)]
        by_cases h : i = k
        · rw [if_pos ⟨trivial, h⟩, if_pos h]
        · rw [if_neg (fun q => h q.2), if_neg h]
      have e4 : ∀ i, D2 (d + 4) i = if i = k then 0 else D1 (d + 4) i := fun i => by
        show pmu (pmu D1 (d + 3) k (leadI c g (ψ k) 455)) (d + 4) k 0 (d + 4) i = _
        simp only [pmu]
        by_cases h : i = k
        · rw [if_pos ⟨trivial, h⟩, if_pos h]
        · rw [if_neg (fun q => h q.2), if_neg (fun q => by omega), if_neg h]
      have next : ∀ D3 : Dat, (∀ a i, (w ≠ none → a ≠ xA k ∧ a ≠ xA k + 1) → D3 a i = D2 a i) → (w ≠ none → pP D3 (xA k) (fun _ => 0)) → Wp P_X4_run E 2 [some (aR d), some (aR La), some (aI m), some (aR ob), some (.inr (.inr w)), none, some (aI k)] [] B S' D3 := fun D3 f3 f4 => by
        have far : ∀ a, (d ≤ a ∧ a ≤ d + 31 ∨ a = r ∨ a = r + 1) → w ≠ none → a ≠ xA k ∧ a ≠ xA k + 1 := fun a ha hw => by
          rcases L10 with L10 | ⟨Q, M, y1, y2, y3, y4⟩
          · exact absurd L10 hw
          · have := (y4 k (by omega)).2.2; omega
        have farx : ∀ j, j < m → j ≠ k → ∀ a, (a = xA j ∨ a = xA j + 1) → w ≠ none → (a ≠ xA k ∧ a ≠ xA k + 1) ∧ (a < d ∨ d + 31 < a) := fun j hj hjk a ha hw => by
          rcases L10 with L10 | ⟨Q, M, y1, y2, y3, y4⟩
          · exact absurd L10 hw
          · have b1 := (y4 k (by omega)).2.2.2.2.2.2.2 j hj hjk
            have b2 := (y4 j hj).2.2.1
            omega
        refine wp_in ?_
        simp only [P_X4_run, i_kil, i_icon, i_lcon, i_null, i_loadI, i_loadL, i_loadR, i_istore, i_lstore, i_astore, i_iinc, i_dup, i_dup2, i_pop, i_iadd, i_isub, i_imul, i_idiv, i_irem, i_ineg, i_iand, i_ior, i_ishl, i_ishr, i_lxor, i_ladd, i_lsub, i_lmul, i_ldiv, i_lrem, i_lneg, i_lshl, i_lcmp, i_i2l, i_l2i, i_i2b, i_i2s, i_ifeq, i_ifne, i_iflt, i_ifge, i_ifgt, i_ifle, i_cmpeq, i_cmpne, i_cmplt, i_cmpge, i_cmpgt, i_cmple, i_acmpeq, i_acmpne, i_ifnull, i_ifnonnull, i_getI, i_getR, i_putI, i_putZ, i_putR, i_ald, i_ldL, i_ldR, i_ast, i_stL, i_stR, i_alen, i_new, i_newa, i_iret, i_zret, i_lret, i_aret, i_vret, i_raise, i_throw, i_recv, i_objinit, i_tsw3, lget, lset, lput1, lput2, lkil, ltrim, largs, isL, takev, dropv, nthv, pushO, catv, gd, true_and, and_true, Option.some.injEq, Prod.mk.injEq, exists_eq_left', if_true, if_false, reduceCtorEq, Bool.false_eq_true, lcmp_ge, lcmp_lt, lcmp_le, lcmp_gt, lcmp_eq, true_or, or_true, not_true_eq_false, not_false_eq_true, false_implies, true_implies, List.length_cons, List.length_nil]
        repeat (first | refine ⟨in_small (by omega) (by omega), ?_⟩ | (show (_ → _) ∧ (_ → _); first | refine ⟨by omega, fun _ => ?_⟩ | refine ⟨fun _ => ?_, by omega⟩) | refine ⟨by omega, ?_⟩ | refine ⟨⟨_, rfl, by assumption⟩, ?_⟩ | refine ⟨okT_I _, ?_⟩ | refine call0 (gd_of rfl) ?_)
        refine ih (k + 1) D3 (by omega) (fun a i p1 p2 p3 p4 p5 => ?_) (h2.congr (fun i => ?_) (fun i => ?_)) (h3.congr (fun i => ?_) (fun i => ?_)) (fun j hj => ?_) fun hw j hj hjm => ?_
        · rw [f3 a i (fun h => p5 h k (by omega)), e2 a i (by omega)]
          exact h1 a i p1 p2 p3 p4 p5
        · rw [f3 _ i (far _ (by omega)), e2 _ i (by omega)]
        · rw [f3 _ i (far _ (by omega)), e2 _ i (by omega)]
        · rw [f3 _ i (far _ (by omega)), e2 _ i (by omega)]
        · rw [f3 _ i (far _ (by omega)), e2 _ i (by omega)]
        · rw [f3 _ _ (far _ (by omega)), f3 _ _ (far _ (by omega)), e3, e4]
          by_cases e : j = k
          · subst e
            rw [if_pos rfl, if_pos rfl]
            exact ⟨rfl, rfl, f4⟩
          · rw [if_neg (by omega), if_neg (by omega)]
            obtain ⟨a1, a2, a3⟩ := h4 j (by omega)
            refine ⟨a1, a2, fun hw => (a3 hw).congr (fun i => ?_) (fun i => ?_)⟩
            · have b := farx j (by omega) e (xA j) (.inl rfl) hw
              rw [f3 _ i (fun _ => b.1), e2 _ i (by omega)]
            · have b := farx j (by omega) e (xA j + 1) (.inr rfl) hw
              rw [f3 _ i (fun _ => b.1), e2 _ i (by omega)]
        · refine (h5 hw j (by omega) hjm).congr (fun i => ?_) (fun i => ?_)
          · have b := farx j hjm (by omega) (xA j) (.inl rfl) hw
            rw [f3 _ i (fun _ => b.1), e2 _ i (by omega)]
          · have b := farx j hjm (by omega) (xA j + 1) (.inr rfl) hw
            rw [f3 _ i (fun _ => b.1), e2 _ i (by omega)]
      rcases L10 with L10' | ⟨Q, M, y1, y2, y3, y4⟩
      · refine ⟨fun _ => next D2 (fun a i _ => rfl) fun h => absurd L10' h, fun h => absurd L10' h⟩
      · have hy := y4 k (by omega)
        have nQ : Q ≠ d := fun e => by rw [e, v0] at y2; simp at y2
        have y2' := q1 _ _ y2
        have yk : S'.2.1 Q k = some (xA k) := by rw [R1.2.2 _ _ (.inl nQ)]; exact hy.1
        have x1 := q1 _ _ hy.2.1.1
        refine ⟨fun h => by rw [y1] at h; simp at h, fun _ => ?_⟩
        subst y1
        simp only [P_X4_run, i_kil, i_icon, i_lcon, i_null, i_loadI, i_loadL, i_loadR, i_istore, i_lstore, i_astore, i_iinc, i_dup, i_dup2, i_pop, i_iadd, i_isub, i_imul, i_idiv, i_irem, i_ineg, i_iand, i_ior, i_ishl, i_ishr, i_lxor, i_ladd, i_lsub, i_lmul, i_ldiv, i_lrem, i_lneg, i_lshl, i_lcmp, i_i2l, i_l2i, i_i2b, i_i2s, i_ifeq, i_ifne, i_iflt, i_ifge, i_ifgt, i_ifle, i_cmpeq, i_cmpne, i_cmplt, i_cmpge, i_cmpgt, i_cmple, i_acmpeq, i_acmpne, i_ifnull, i_ifnonnull, i_getI, i_getR, i_putI, i_putZ, i_putR, i_ald, i_ldL, i_ldR, i_ast, i_stL, i_stR, i_alen, i_new, i_newa, i_iret, i_zret, i_lret, i_aret, i_vret, i_raise, i_throw, i_recv, i_objinit, i_tsw3, lget, lset, lput1, lput2, lkil, ltrim, largs, isL, takev, dropv, nthv, pushO, catv, gd, true_and, and_true, Option.some.injEq, Prod.mk.injEq, exists_eq_left', if_true, if_false, reduceCtorEq, Bool.false_eq_true, lcmp_ge, lcmp_lt, lcmp_le, lcmp_gt, lcmp_eq, true_or, or_true, not_true_eq_false, not_false_eq_true, false_implies, true_implies, List.length_cons, List.length_nil, y2', yk]
        repeat (first | refine ⟨in_small (by omega) (by omega), ?_⟩ | (show (_ → _) ∧ (_ → _); first | refine ⟨by omega, fun _ => ?_⟩ | refine ⟨fun _ => ?_, by omega⟩) | refine ⟨by omega, ?_⟩ | refine ⟨⟨_, rfl, by assumption⟩, ?_⟩ | refine ⟨okT_I _, ?_⟩ | refine call0 (gd_of rfl) ?_)
        have hp : pD D2 (xA k) (χ k) := (h5 (Option.some_ne_none _) k (Nat.le_refl _) (by omega)).congr (fun i => e2 _ i (by omega)) (fun i => e2 _ i (by omega))
        refine clear_at (hy.2.1.sq (R1.e (by have := hy.2.2.1; omega))) hp fun D3 f1 f2 => ?_
        simp only [P_X4_run, i_kil, i_icon, i_lcon, i_null, i_loadI, i_loadL, i_loadR, i_istore, i_lstore, i_astore, i_iinc, i_dup, i_dup2, i_pop, i_iadd, i_isub, i_imul, i_idiv, i_irem, i_ineg, i_iand, i_ior, i_ishl, i_ishr, i_lxor, i_ladd, i_lsub, i_lmul, i_ldiv, i_lrem, i_lneg, i_lshl, i_lcmp, i_i2l, i_l2i, i_i2b, i_i2s, i_ifeq, i_ifne, i_iflt, i_ifge, i_ifgt, i_ifle, i_cmpeq, i_cmpne, i_cmplt, i_cmpge, i_cmpgt, i_cmple, i_acmpeq, i_acmpne, i_ifnull, i_ifnonnull, i_getI, i_getR, i_putI, i_putZ, i_putR, i_ald, i_ldL, i_ldR, i_ast, i_stL, i_stR, i_alen, i_new, i_newa, i_iret, i_zret, i_lret, i_aret, i_vret, i_raise, i_throw, i_recv, i_objinit, i_tsw3, lget, lset, lput1, lput2, lkil, ltrim, largs, isL, takev, dropv, nthv, pushO, catv, gd, true_and, and_true, Option.some.injEq, Prod.mk.injEq, exists_eq_left', if_true, if_false, reduceCtorEq, Bool.false_eq_true, lcmp_ge, lcmp_lt, lcmp_le, lcmp_gt, lcmp_eq, true_or, or_true, not_true_eq_false, not_false_eq_true, false_implies, true_implies, List.length_cons, List.length_nil]
        exact next D3 (fun a i h => f1 a i (h (Option.some_ne_none _)).1 (h (Option.some_ne_none _)).2) fun _ => f2
  refine ⟨v0, v0, v0, ⟨r, rfl, r1'⟩, call0 (gd_of rfl) ?_⟩
  refine clear_at L4' hR fun D1 f1 f2 => ?_
  simp only [P_X4_run, i_kil, i_icon, i_lcon, i_null, i_loadI, i_loadL, i_loadR, i_istore, i_lstore, i_astore, i_iinc, i_dup, i_dup2, i_pop, i_iadd, i_isub, i_imul, i_idiv, i_irem, i_ineg, i_iand, i_ior, i_ishl, i_ishr, i_lxor, i_ladd, i_lsub, i_lmul, i_ldiv, i_lrem, i_lneg, i_lshl, i_lcmp, i_i2l, i_l2i, i_i2b, i_i2s, i_ifeq, i_ifne, i_iflt, i_ifge, i_ifgt, i_ifle, i_cmpeq, i_cmpne, i_cmplt, i_cmpge, i_cmpgt, i_cmple, i_acmpeq, i_acmpne, i_ifnull, i_ifnonnull, i_getI, i_getR, i_putI, i_putZ, i_putR, i_ald, i_ldL, i_ldR, i_ast, i_stL, i_stR, i_alen, i_new, i_newa, i_iret, i_zret, i_lret, i_aret, i_vret, i_raise, i_throw, i_recv, i_objinit, i_tsw3, lget, lset, lput1, lput2, lkil, ltrim, largs, isL, takev, dropv, nthv, pushO, catv, gd, true_and, and_true, Option.some.injEq, Prod.mk.injEq, exists_eq_left', if_true, if_false, reduceCtorEq, Bool.false_eq_true, lcmp_ge, lcmp_lt, lcmp_le, lcmp_gt, lcmp_eq, true_or, or_true, not_true_eq_false, not_false_eq_true, false_implies, true_implies, List.length_cons, List.length_nil]
  refine told m 0 D1 (by omega) (fun a i p1 p2 p3 p4 p5 => f1 a i p3 p4) (hF.congr (fun i => f1 _ i (by omega) (by omega)) (fun i => f1 _ i (by omega) (by omega))) f2 (fun j hj => by omega) fun hw j _ hj => ?_
  have far : r + 1 < xA j ∨ xA j + 1 < r := by
    rcases L10 with L10 | ⟨Q, M, y1, y2, y3, y4⟩
    · exact absurd L10 hw
    · exact (y4 j hj).2.2.2.1
  exact (hX hw j hj).congr (fun i => f1 _ i (by omega) (by omega)) (fun i => f1 _ i (by omega) (by omega))
