/-! two without a common root: small multiples that make a number -/
-- pure
-- needs: 79l.srch
set_option maxRecDepth 100000
set_option linter.unusedVariables false
theorem fac_num8 : nbd 8 9 (800 * zsm 8 9) ≤ ((2 ^ 68 : Nat) : Rat) := by decide +kernel
/-- the same with numbers up to 800 -/
theorem fac_bd8 {f h : Nat → Int} {d e : Nat} (hd : d ≤ 8) (he : e ≤ 8) (hf : f d ≠ 0) (hb : ∀ k, k ≤ d → (f k).natAbs ≤ 800) (hq : ∀ t : Int, ∃ z : Int, zp f (d + 1) (t : Rat) = zp h (e + 1) (t : Rat) * (z : Rat)) : ∀ k, k ≤ e → (h k).natAbs ≤ 2 ^ 68 := by
  let nd : Nat → Rat := fun i => ((((i : Int) - 8) : Int) : Rat)
  have hnd : ∀ i j : Nat, i < j → nd i + 1 ≤ nd j := fun i j hij => by
    show ((((i : Int) - 8) : Int) : Rat) + 1 ≤ ((((j : Int) - 8) : Int) : Rat)
    have h1 : (((((i : Int) - 8) + 1) : Int) : Rat) ≤ ((((j : Int) - 8) : Int) : Rat) := Rat.intCast_le_intCast.mpr (by omega)
    rw [Rat.intCast_add] at h1
    exact h1
  have hab : ∀ i : Nat, i < 17 → ab (nd i) 8 := fun i hi => by
    have h1 : (((-8) : Int) : Rat) ≤ ((((i : Int) - 8) : Int) : Rat) := Rat.intCast_le_intCast.mpr (by omega)
    have h2 : ((((i : Int) - 8) : Int) : Rat) ≤ ((8 : Int) : Rat) := Rat.intCast_le_intCast.mpr (by omega)
    exact ⟨h1, h2⟩
  obtain ⟨r, u, a, b, c1, c2, c3, c4, c5⟩ := parted (fun i => zp f (d + 1) (nd i) = 0) 17
  have hr : r ≤ 8 := by
    rcases Nat.lt_or_ge 8 r with w | w
    · exfalso
      have := ps_roots (d + 1) (zq f) (fun i => nd (a i)) (fun i j hij hj q => by
        have := hnd (a i) (a j) (c3 i j hij (by omega))
        have q' : nd (a i) = nd (a j) := q
        rw [q'] at this; grind) (fun i hi => (c2 i (by omega)).2) d (by omega)
      exact hf (Rat.intCast_inj.mp (this.trans Rat.intCast_zero.symm))
    · exact w
  have hv : ∀ i, i < u → ab (zp h (e + 1) (nd (b i))) (800 * zsm 8 9) := fun i hi => by
    obtain ⟨g1, g2⟩ := c4 i hi
    obtain ⟨z, hz⟩ := hq ((b i : Int) - 8)
    have hz' : zp f (d + 1) (nd (b i)) = zp h (e + 1) (nd (b i)) * (z : Rat) := hz
    have hz0 : z ≠ 0 := fun q => g2 (by rw [hz', q, Rat.intCast_zero]; grind)
    have h1 : ab (zp f (d + 1) (nd (b i))) (800 * zsm 8 (d + 1)) := zp_bd (hab _ g1) (d + 1) fun k hk => by
      have h2 := hb k (by omega)
      constructor
      · have : (((-800) : Int) : Rat) ≤ ((f k : Int) : Rat) := Rat.intCast_le_intCast.mpr (by omega)
        exact this
      · have : ((f k : Int) : Rat) ≤ ((800 : Int) : Rat) := Rat.intCast_le_intCast.mpr (by omega)
        exact this
    have hm : ∀ n j : Nat, zsm 8 n ≤ zsm 8 (n + j) := fun n j => by
      induction j with
      | zero => exact Rat.le_refl
      | succ j ih =>
        have : (0 : Rat) ≤ 8 ^ (n + j) := Rat.pow_nonneg (by decide)
        show zsm 8 n ≤ zsm 8 (n + j) + 8 ^ (n + j)
        grind
    have h3 := hm (d + 1) (8 - d)
    rw [show d + 1 + (8 - d) = 9 by omega] at h3
    have h4 := h1.mono (show 800 * zsm 8 (d + 1) ≤ 800 * zsm 8 9 by grind)
    rw [hz', show zp h (e + 1) (nd (b i)) * (z : Rat) = (z : Rat) * zp h (e + 1) (nd (b i)) by grind] at h4
    refine ab_div h4 ?_
    rcases Int.lt_or_le z 0 with w | w
    · right
      have : ((z : Int) : Rat) ≤ (((-1) : Int) : Rat) := Rat.intCast_le_intCast.mpr (by omega)
      exact this
    · left
      have : ((1 : Int) : Rat) ≤ ((z : Int) : Rat) := Rat.intCast_le_intCast.mpr (by omega)
      exact this
  have key := node_bd (R := 8) (by decide) 9 (zq (cut h e)) (fun i => nd (b i)) (800 * zsm 8 9) (fun i hi => hab _ (c4 i (by omega)).1) (fun i j hij hj => by
    have := hnd (b i) (b j) (c5 i j hij (by omega))
    left
    show 1 ≤ nd (b j) - nd (b i)
    grind) fun i hi => by
      have := cut_zp h (d := e) (n := 9) (by omega) (nd (b i))
      show ab (zp (cut h e) 9 (nd (b i))) _
      rw [this]; exact hv i (by omega)
  intro k hk
  have h1 := (key k (by omega)).mono fac_num8
  have h2 : zq (cut h e) k = ((h k : Int) : Rat) := by show ((cut h e k : Int) : Rat) = _; unfold cut; rw [if_pos hk]
  rw [h2] at h1
  generalize 2 ^ 68 = N at *
  obtain ⟨h3, h4⟩ := h1
  have h5 : ((h k : Int) : Rat) ≤ (((N : Nat) : Int) : Rat) := h4
  have h6 : (((-(N : Int)) : Int) : Rat) ≤ ((h k : Int) : Rat) := by rw [Rat.intCast_neg]; exact h3
  have h7 := Rat.intCast_le_intCast.mp h5
  have h8 := Rat.intCast_le_intCast.mp h6
  omega
/-- P = G p1, Q = G q1, p1 and q1 without a common root: small U, V with U p1 + V q1 a number -/
theorem bez_small {P Q : Nat → Int} {dp dq e a b A : Nat} {G p1 q1 : pf} (hA : 1 ≤ A) (ha : dp = e + a) (hb : dq = e + b) (hab : 1 ≤ a + b) (hG : EX G e) (h1 : EX p1 a) (h2 : EX q1 b) (eP : ∀ x, zp P (dp + 1) x = G x * p1 x) (eQ : ∀ x, zp Q (dq + 1) x = G x * q1 x) (hc : ∃ U0 V0 : pf, PP U0 ∧ PP V0 ∧ ∀ x, U0 x * p1 x + V0 x * q1 x = 1) (bP : ∀ k, k ≤ dp → (P k).natAbs ≤ A) (bQ : ∀ k, k ≤ dq → (Q k).natAbs ≤ A) :
    ∃ (U V : Nat → Int) (c : Rat), c ≠ 0 ∧ (∀ k, k < b → (U k).natAbs ≤ (2 * (a + b) * A) ^ (a + b - 1)) ∧ (∀ k, k < a → (V k).natAbs ≤ (2 * (a + b) * A) ^ (a + b - 1)) ∧ ∀ x, zp U b x * p1 x + zp V a x * q1 x = c := by
  let Pc := cut P dp
  let Qc := cut Q dq
  let M := a + b - 1
  have hM : M + 1 = a + b := by show a + b - 1 + 1 = a + b; omega
  have bPc : ∀ k, -(A : Int) ≤ Pc k ∧ Pc k ≤ A := fun k => by
    show -(A : Int) ≤ cut P dp k ∧ cut P dp k ≤ A
    unfold cut
    split
    · have := bP k (by assumption); omega
    · omega
  have bQc : ∀ k, -(A : Int) ≤ Qc k ∧ Qc k ≤ A := fun k => by
    show -(A : Int) ≤ cut Q dq k ∧ cut Q dq k ≤ A
    unfold cut
    split
    · have := bQ k (by assumption); omega
    · omega
  let m : Nat → Nat → Int := fun i j => if j < b then (if e + 1 + i < j then 0 else Pc (e + 1 + i - j)) else (if e + 1 + i < j - b then 0 else Qc (e + 1 + i - (j - b)))
  obtain ⟨x, ⟨j0, hj0, hx0⟩, hxb, hxe⟩ := siegel (M := M) hA m (fun i j hi hj => by
    show -(A : Int) ≤ (if j < b then (if e + 1 + i < j then 0 else Pc (e + 1 + i - j)) else (if e + 1 + i < j - b then 0 else Qc (e + 1 + i - (j - b)))) ∧ (if j < b then (if e + 1 + i < j then 0 else Pc (e + 1 + i - j)) else (if e + 1 + i < j - b then 0 else Qc (e + 1 + i - (j - b)))) ≤ A
    split <;> split <;> first | exact bPc _ | exact bQc _ | omega)
  rw [hM] at hxb hj0
  let V : Nat → Int := fun j => x (b + j)
  -- the sum's numbers behind e are 0
  have hw : ∀ k, e < k → k < e + (a + b) + 1 → zcv x Pc b k + zcv V Qc a k = 0 := by
    intro k hk1 hk2
    by_cases hk : k = e + (a + b)
    · have z1 : ∀ n, n ≤ b → zcv x Pc n k = 0 := by
        intro n
        induction n with
        | zero => intro _; rfl
        | succ n ih =>
          intro hn
          simp only [zcv]
          rw [ih (by omega), if_neg (by omega)]
          show 0 + x n * cut P dp (k - n) = 0
          unfold cut; rw [if_neg (by omega)]; omega
      have z2 : ∀ n, n ≤ a → zcv V Qc n k = 0 := by
        intro n
        induction n with
        | zero => intro _; rfl
        | succ n ih =>
          intro hn
          simp only [zcv]
          rw [ih (by omega), if_neg (by omega)]
          show 0 + V n * cut Q dq (k - n) = 0
          unfold cut; rw [if_neg (by omega)]; omega
      rw [z1 b (Nat.le_refl _), z2 a (Nat.le_refl _)]; rfl
    · have h3 := hxe (k - e - 1) (by show k - e - 1 < a + b - 1; omega)
      rw [show M + 1 = b + a by omega, zsum_split] at h3
      rw [zcv_zsum, zcv_zsum]
      refine Eq.trans ?_ h3
      congr 1
      · refine zsum_congr b fun j hj => ⟨?_, rfl⟩
        show (if k < j then 0 else Pc (k - j)) = (if j < b then (if e + 1 + (k - e - 1) < j then 0 else Pc (e + 1 + (k - e - 1) - j)) else (if e + 1 + (k - e - 1) < j - b then 0 else Qc (e + 1 + (k - e - 1) - (j - b))))
        rw [if_pos hj, show e + 1 + (k - e - 1) = k by omega]
      · refine zsum_congr a fun j hj => ⟨?_, rfl⟩
        show (if k < j then 0 else Qc (k - j)) = (if b + j < b then (if e + 1 + (k - e - 1) < b + j then 0 else Pc (e + 1 + (k - e - 1) - (b + j))) else (if e + 1 + (k - e - 1) < b + j - b then 0 else Qc (e + 1 + (k - e - 1) - (b + j - b))))
        rw [if_neg (show ¬ b + j < b by omega), show e + 1 + (k - e - 1) = k by omega, show b + j - b = j by omega]
  have eW : ∀ y, zp x b y * zp P (dp + 1) y + zp V a y * zp Q (dq + 1) y = zp (fun k => zcv x Pc b k + zcv V Qc a k) (e + 1) y := by
    intro y
    have k1 := zcv_ps x Pc (dp + 1) (fun k hk => by show cut P dp k = 0; unfold cut; rw [if_neg (by omega)]) y b
    have k2 := zcv_ps V Qc (dq + 1) (fun k hk => by show cut Q dq k = 0; unfold cut; rw [if_neg (by omega)]) y a
    have k3 : ps (zq Pc) (dp + 1) y = zp P (dp + 1) y := cut_zp P (Nat.le_refl _) y
    have k4 : ps (zq Qc) (dq + 1) y = zp Q (dq + 1) y := cut_zp Q (Nat.le_refl _) y
    rw [k3] at k1
    rw [k4] at k2
    rw [show b + (dp + 1) = e + 1 + (a + b) by omega] at k1
    rw [show a + (dq + 1) = e + 1 + (a + b) by omega] at k2
    show ps (zq x) b y * zp P (dp + 1) y + ps (zq V) a y * zp Q (dq + 1) y = _
    rw [← k1, ← k2]
    have k5 : ps (zq (zcv x Pc b)) (e + 1 + (a + b)) y + ps (zq (zcv V Qc a)) (e + 1 + (a + b)) y = ps (zq fun k => zcv x Pc b k + zcv V Qc a k) (e + 1 + (a + b)) y := by
      rw [ps_congr (c := zq fun k => zcv x Pc b k + zcv V Qc a k) (d := fun k => 1 * zq (zcv x Pc b) k + 1 * zq (zcv V Qc a) k) (fun k _ => by show ((zcv x Pc b k + zcv V Qc a k : Int) : Rat) = _; rw [Rat.intCast_add]; grind), ps_lin]
      grind
    rw [k5]
    exact ps_ext (a + b) (fun k q1 q2 => by show ((zcv x Pc b k + zcv V Qc a k : Int) : Rat) = 0; rw [hw k (by omega) (by omega)]; rfl) y
  have hZ : PP (fun y => zp x b y * p1 y + zp V a y * q1 y) := ((zp_pp _ _).mul ⟨_, h1.pf⟩).add ((zp_pp _ _).mul ⟨_, h2.pf⟩)
  have eZ : ∀ y, G y * (zp x b y * p1 y + zp V a y * q1 y) = zp (fun k => zcv x Pc b k + zcv V Qc a k) (e + 1) y := fun y => by
    rw [← eW y, eP, eQ]; grind
  -- it is a number, and not 0
  have hxU : ∀ k, k < a + b → (x k).natAbs ≤ (2 * (a + b) * A) ^ (a + b - 1) := fun k hk => by
    have := hxb k hk
    have e1 : M = a + b - 1 := rfl
    rw [← e1]
    omega
  obtain ⟨c, hcc⟩ : ∃ c : Rat, ∀ y, zp x b y * p1 y + zp V a y * q1 y = c := by
    rcases Classical.em (∀ y, zp x b y * p1 y + zp V a y * q1 y = 0) with w | w
    · exact ⟨0, w⟩
    · obtain ⟨k, hk⟩ := hZ.ex w
      have hk0 : k = 0 := by
        rcases Nat.eq_zero_or_pos k with q | q
        · exact q
        · exact ((hG.mul hk).no (((zp_pf _ (e + 1)).mono (by omega : e + 1 ≤ e + k)).congr eZ)).elim
      subst hk0
      obtain ⟨c, -, hcx⟩ := hk.const
      exact ⟨c, hcx⟩
  refine ⟨x, V, c, fun c0 => ?_, fun k hk => hxU k (by omega), fun k hk => hxU (b + k) (by omega), hcc⟩
  -- else both would be 0
  obtain ⟨U0, V0, hU0, hV0, e0⟩ := hc
  have eV : ∀ y, zp V a y = p1 y * (zp V a y * U0 y - V0 y * zp x b y) := fun y => by
    have k1 := hcc y
    rw [c0] at k1
    have k2 := e0 y
    have k3 : zp V a y = zp V a y * (U0 y * p1 y + V0 y * q1 y) := by rw [k2]; grind
    have k4 : zp V a y * q1 y = - (zp x b y * p1 y) := by grind
    have k5 : zp V a y * (U0 y * p1 y + V0 y * q1 y) = zp V a y * U0 y * p1 y + V0 y * (zp V a y * q1 y) := by grind
    rw [k5, k4] at k3
    have k6 : zp V a y * U0 y * p1 y + V0 y * -(zp x b y * p1 y) = p1 y * (zp V a y * U0 y - V0 y * zp x b y) := by grind
    exact k3.trans k6
  have pX : PP (fun y => zp V a y * U0 y - V0 y * zp x b y) := ((zp_pp _ _).mul hU0).sub (hV0.mul (zp_pp _ _))
  have hV : ∀ y, zp V a y = 0 := by
    rcases Classical.em (∀ y, zp V a y * U0 y - V0 y * zp x b y = 0) with w | w
    · intro y; rw [eV y, w y]; grind
    · obtain ⟨k, hk⟩ := pX.ex w
      exact ((h1.mul hk).no (((zp_pf V a).mono (by omega : a ≤ a + k)).congr fun y => (eV y).symm)).elim
  have hU : ∀ y, zp x b y = 0 := by
    have k1 : ∀ y, p1 y * zp x b y = p1 y * 0 := fun y => by
      have := hcc y
      rw [hV y, c0] at this
      grind
    exact PP.cancel ⟨_, h1.pf⟩ (zp_pp _ _) (PP.const 0) h1.nz k1
  have zero : ∀ (r : Nat → Int) (n : Nat), (∀ y, zp r n y = 0) → ∀ k, k < n → r k = 0 := fun r n h k hk => by
    have := ps_id (n := n) (c := zq r) h k hk
    exact Rat.intCast_inj.mp (this.trans Rat.intCast_zero.symm)
  rcases Nat.lt_or_ge j0 b with q | q
  · exact hx0 (zero x b hU j0 q)
  · have := zero V a hV (j0 - b) (by omega)
    have e3 : V (j0 - b) = x j0 := by show x (b + (j0 - b)) = x j0; congr 1; omega
    rw [e3] at this
    exact hx0 this
