/-! what write tells, as text: numbers, fractions, terms, polynomials, ends -/
-- needs: b5.sqbegin
set_option maxRecDepth 100000
set_option linter.unusedVariables false
theorem pmx_ne {D : Dat} {a c : Nat} {i j z : Int} (h : c ≠ a ∨ i ≠ j) : pmu D a j z c i = D c i := by
  unfold pmu
  rw [if_neg fun q => h.elim (fun h => h q.1) fun h => h q.2]
theorem pmx_eq {D : Dat} {a : Nat} {j z : Int} : pmu D a j z a j = z := by simp only [pmu, and_self, if_true]
/-- j digits of v, from that of 10^(j-1) on -/
def dgs : Nat → Int → List Int
  | 0, _ => []
  | j + 1, v => (48 + v / 10 ^ j % 10) :: dgs j v
/-- so many digits stay of the topmost piece -/
def tl (v : Int) : Nat → Nat
  | 0 => 0
  | j + 1 => if 0 < j ∧ v / 10 ^ j = 0 then tl v j else j + 1
def ptx (f : Int → Int) : Nat → List Int
  | 0 => []
  | k + 1 => dgs 9 (f k) ++ ptx f k
def wtx (f : Int → Int) : Nat → List Int
  | 0 => [48]
  | n + 1 => dgs (tl (f n) 9) (f n) ++ ptx f n
theorem dgs_len : ∀ (j : Nat) (v : Int), (dgs j v).length = j
  | 0, _ => rfl
  | j + 1, v => by show (dgs j v).length + 1 = j + 1; rw [dgs_len j v]
theorem tl_le (v : Int) : ∀ j, tl v j ≤ j
  | 0 => Nat.le_refl 0
  | j + 1 => by
    unfold tl
    split
    · have := tl_le v j; omega
    · exact Nat.le_refl _
theorem ptx_len (f : Int → Int) : ∀ n, (ptx f n).length = 9 * n
  | 0 => rfl
  | n + 1 => by
    show (dgs 9 (f n) ++ ptx f n).length = 9 * (n + 1)
    rw [List.length_append, dgs_len, ptx_len f n]; omega
theorem wtx_len (f : Int → Int) {n r : Nat} (h : n ≤ r) (hr : 1 ≤ r) : (wtx f n).length ≤ 9 * r := by
  cases n with
  | zero => show 1 ≤ 9 * r; omega
  | succ n =>
    show (dgs (tl (f n) 9) (f n) ++ ptx f n).length ≤ 9 * r
    rw [List.length_append, dgs_len, ptx_len]
    have := tl_le (f n) 9
    omega
theorem dgs_congr {v w : Int} (h : v = w) (j : Nat) : dgs j v = dgs j w := by rw [h]
theorem ptx_congr {f g : Int → Int} : ∀ n : Nat, (∀ i : Int, 0 ≤ i → i < n → f i = g i) → ptx f n = ptx g n
  | 0, _ => rfl
  | n + 1, h => by
    show dgs 9 (f n) ++ ptx f n = dgs 9 (g n) ++ ptx g n
    rw [h n (by omega) (by omega), ptx_congr n fun i a b => h i a (by omega)]
theorem wtx_congr {f g : Int → Int} {n : Nat} (h : ∀ i : Int, 0 ≤ i → i < n → f i = g i) : wtx f n = wtx g n := by
  cases n with
  | zero => rfl
  | succ n =>
    show dgs (tl (f n) 9) (f n) ++ ptx f n = dgs (tl (g n) 9) (g n) ++ ptx g n
    rw [h n (by omega) (by omega), ptx_congr n fun i a b => h i a (by omega)]
def zTx (z : Int) (L : List Int) : Prop := ∃ (f : Int → Int) (n : Nat), dcan f n ∧ (z.natAbs : Int) = dv f n ∧ L = wtx f n
theorem zTx.uniq {z : Int} {L L' : List Int} (h : zTx z L) (h' : zTx z L') : L = L' := by
  obtain ⟨f, n, a1, a2, a3⟩ := h
  obtain ⟨g, m, b1, b2, b3⟩ := h'
  have e : dv f n = dv g m := by rw [← a2, ← b2]
  have := dcan_uniq a1 b1 e
  subst this
  rw [a3, b3]
  exact wtx_congr (dv_inj a1.1 b1.1 e)
/-- a whole number's digits (its size alone) -/
noncomputable def zT (z : Int) : List Int := Classical.epsilon (zTx z)
theorem zT_eq {z : Int} {L : List Int} (h : zTx z L) : zT z = L := (Classical.epsilon_spec (p := zTx z) ⟨L, h⟩).uniq h
theorem zT_wD {kn ks : Int} {D : Dat} {w : Nat} {z : Int} (h : wD kn ks D w z) : ∃ n : Nat, D w kn = n ∧ dcan (D (w + 1)) n ∧ (z.natAbs : Int) = dv (D (w + 1)) n ∧ zT z = wtx (D (w + 1)) n := by
  obtain ⟨n, a1, a2, a3, a4⟩ := h
  exact ⟨n, a1, a2, a4, zT_eq ⟨_, n, a2, a4, rfl⟩⟩
/-- a fraction without its sign -/
noncomputable def frT (x : Rat) : List Int := zT x.num ++ if x.den = 1 then [] else 47 :: zT x.den
/-- a letter's power -/
def lT (l e : Nat) : List Int := if e = 0 then [] else ((120 + l : Nat) : Int) :: (if e = 1 then [] else (94 : Int) :: ((if 9 < e then [(49 : Int)] else []) ++ [(48 : Int) + ((e % 10 : Nat) : Int)]))
abbrev isOneT (x : Rat) : Prop := x.num.natAbs = 1 ∧ x.den = 1
/-- a term; first: nothing stands ahead -/
noncomputable def tT (first : Bool) (x : Rat) (t : Nat) : List Int := (if x.num < 0 then [45] else if first then [] else [43]) ++ ((if isOneT x ∧ tcode t ≠ 0 then [] else frT x) ++ (lT 0 (tx0 t) ++ (lT 1 (tx1 t) ++ lT 2 (tx2 t))))
noncomputable def lsT (φ : Nat → Rat) : List Nat → Bool → List Int
  | [], _ => []
  | t :: l, b => tT b (φ t) t ++ lsT φ l false
theorem lsT_snoc (φ : Nat → Rat) (t : Nat) : ∀ (l : List Nat) (b : Bool), lsT φ (l ++ [t]) b = lsT φ l b ++ tT (if l = [] then b else false) (φ t) t
  | [], b => by show tT b (φ t) t ++ [] = [] ++ tT b (φ t) t; simp
  | u :: l, b => by
    show tT b (φ u) u ++ lsT φ (l ++ [t]) false = (tT b (φ u) u ++ lsT φ l false) ++ _
    rw [lsT_snoc φ t l false, List.append_assoc]
    simp
/-- what is left when the terms of l have been taken -/
def remT (φ : Nat → Rat) : List Nat → Nat → Rat
  | [] => φ
  | t :: l => remT (pupd φ t 0) l
/-- l: the terms of φ from the greatest on, as many as l has -/
def ldsT (c g : Nat) : (Nat → Rat) → List Nat → Prop
  | _, [] => True
  | φ, t :: l => isLead c g φ t ∧ ldsT c g (pupd φ t 0) l
theorem ldsT.uniq {c g : Nat} (ho : ordOK c g) : ∀ {l l' : List Nat} {φ : Nat → Rat}, ldsT c g φ l → ldsT c g φ l' → l.length = l'.length → l = l'
  | [], [], _, _, _, _ => rfl
  | [], _ :: _, _, _, _, h => by simp at h
  | _ :: _, [], _, _, _, h => by simp at h
  | t :: l, u :: l', φ, h1, h2, h => by
    have e := h1.1.uniq ho h2.1
    subst e
    rw [ldsT.uniq ho h1.2 h2.2 (by simpa using h)]
theorem ldsT.snoc {c g t : Nat} : ∀ {l : List Nat} {φ : Nat → Rat}, ldsT c g φ l → isLead c g (remT φ l) t → ldsT c g φ (l ++ [t])
  | [], _, _, h => ⟨h, trivial⟩
  | _ :: _, _, h, k => ⟨h.1, ldsT.snoc h.2 k⟩
theorem remT_snoc (t : Nat) : ∀ (l : List Nat) (φ : Nat → Rat), remT φ (l ++ [t]) = pupd (remT φ l) t 0
  | [], _ => rfl
  | u :: l, φ => remT_snoc t l (pupd φ u 0)
/-- what is left is what was, or nought -/
theorem remT_or : ∀ (l : List Nat) (φ : Nat → Rat) (u : Nat), remT φ l u = φ u ∨ remT φ l u = 0
  | [], _, _ => Or.inl rfl
  | t :: l, φ, u => by
    rcases remT_or l (pupd φ t 0) u with h | h
    · show remT (pupd φ t 0) l u = _ ∨ remT (pupd φ t 0) l u = _
      rw [h]
      unfold pupd
      split
      · exact Or.inr rfl
      · exact Or.inl rfl
    · exact Or.inr h
theorem pcnt_upd0 {φ : Nat → Rat} {t : Nat} : ∀ n, pcnt (pupd φ t 0) n + (if t < n ∧ φ t ≠ 0 then 1 else 0) = pcnt φ n
  | 0 => by simp [pcnt]
  | n + 1 => by
    have ih := pcnt_upd0 (φ := φ) (t := t) n
    have e1 : pcnt (pupd φ t 0) (n + 1) = pcnt (pupd φ t 0) n + if pupd φ t 0 n = 0 then 0 else 1 := rfl
    have e2 : pcnt φ (n + 1) = pcnt φ n + if φ n = 0 then 0 else 1 := rfl
    rw [e1, e2]
    by_cases hn : n = t
    · subst hn
      rw [show pupd φ n 0 n = 0 by simp [pupd], if_pos rfl]
      rw [if_neg (by omega)] at ih
      by_cases h0 : φ n = 0
      · rw [if_neg (fun h => h.2 h0), if_pos h0]; omega
      · rw [if_pos ⟨by omega, h0⟩, if_neg h0]; omega
    · rw [show pupd φ t 0 n = φ n by simp [pupd, hn]]
      have : (t < n + 1 ∧ φ t ≠ 0) ↔ (t < n ∧ φ t ≠ 0) := ⟨fun h => ⟨by omega, h.2⟩, fun h => ⟨by omega, h.2⟩⟩
      simp only [this]
      omega
theorem ldsT.cnt {c g : Nat} : ∀ {l : List Nat} {φ : Nat → Rat}, ldsT c g φ l → pcnt (remT φ l) 455 + l.length = pcnt φ 455
  | [], φ, _ => by show pcnt φ 455 + 0 = _; omega
  | t :: l, φ, h => by
    have e := ldsT.cnt h.2
    have e2 := pcnt_upd0 (φ := φ) (t := t) 455
    rw [if_pos ⟨h.1.1, h.1.2.1⟩] at e2
    show pcnt (remT (pupd φ t 0) l) 455 + (l.length + 1) = _
    omega
/-- each taken term stands above each that is left -/
theorem ldsT.last {c g : Nat} (ho : ordOK c g) {φ : Nat → Rat} {l : List Nat} {t : Nat} (h : isLead c g (remT φ l) t) (h2 : ∀ u, u < 455 → (remT φ l u ≠ 0 ↔ φ u ≠ 0 ∧ (∀ s, l.getLast? = some s → rankI c g u s < 0))) : ∀ u, u < 455 → (remT φ (l ++ [t]) u ≠ 0 ↔ φ u ≠ 0 ∧ (∀ s, (l ++ [t]).getLast? = some s → rankI c g u s < 0)) := by
  intro u hu
  have e : remT φ (l ++ [t]) u = if u = t then 0 else remT φ l u := by rw [remT_snoc]; rfl
  have eL : (l ++ [t]).getLast? = some t := by simp
  rw [e, eL]
  constructor
  · intro h3
    by_cases hut : u = t
    · rw [if_pos hut] at h3; exact absurd rfl h3
    · rw [if_neg hut] at h3
      refine ⟨((h2 u hu).mp h3).1, fun s hs => ?_⟩
      have : t = s := Option.some.inj hs
      subst this
      have := h.2.2 u hu h3 hut
      have := rank_anti ho t u
      omega
  · rintro ⟨h3, h4⟩
    have h5 := h4 t rfl
    by_cases hut : u = t
    · subst hut; rw [rank_self ho] at h5; omega
    · rw [if_neg hut]
      refine (h2 u hu).mpr ⟨h3, fun s hs => ?_⟩
      have h6 := ((h2 t h.1).mp h.2.1).2 s hs
      have a1 := rank_anti ho u t
      have a2 := rank_anti ho t s
      have a3 := rank_anti ho s u
      have a4 := rank_anti ho u s
      have := rank_trans ho (t := s) (u := t) (v := u) (by omega) (by omega)
      omega
theorem wtx_ne (f : Int → Int) (n : Nat) (h : 0 < n → 0 < tl (f ((n : Int) - 1)) 9) : wtx f n ≠ [] := by
  cases n with
  | zero => exact fun h => nomatch h
  | succ n =>
    have h1 := h (by omega)
    rw [show ((n + 1 : Nat) : Int) - 1 = n by omega] at h1
    intro h2
    have : (wtx f (n + 1)).length = 0 := by rw [h2]; rfl
    have e : (wtx f (n + 1)).length = tl (f n) 9 + 9 * n := by
      show (dgs (tl (f n) 9) (f n) ++ ptx f n).length = _
      rw [List.length_append, dgs_len, ptx_len]
    omega
theorem tl_pos (v : Int) : ∀ j, 0 < tl v (j + 1)
  | 0 => by unfold tl; rw [if_neg (fun h => Nat.lt_irrefl 0 h.1)]; exact Nat.succ_pos 0
  | j + 1 => by
    unfold tl
    split
    · exact tl_pos v j
    · omega
theorem lT_len (l e : Nat) : (lT l e).length ≤ 4 := by
  unfold lT
  split
  · simp
  · split
    · simp
    · split <;> simp
theorem lT_ne {l e : Nat} (h : e ≠ 0) : lT l e ≠ [] := by
  unfold lT
  rw [if_neg h]
  exact fun h => nomatch h
theorem app_ne {a b : List Int} (h : a ++ b = []) : a = [] ∧ b = [] := List.append_eq_nil_iff.mp h
theorem tT_ne {b : Bool} {x : Rat} {t : Nat} (hz : zT x.num ≠ []) : tT b x t ≠ [] := by
  unfold tT
  intro h
  obtain ⟨-, h⟩ := app_ne h
  obtain ⟨h1, h⟩ := app_ne h
  obtain ⟨h2, h⟩ := app_ne h
  obtain ⟨h3, h4⟩ := app_ne h
  by_cases hc : isOneT x ∧ tcode t ≠ 0
  · have e0 : tx0 t = 0 := Nat.eq_zero_of_not_pos fun q => lT_ne (by omega) h2
    have e1 : tx1 t = 0 := Nat.eq_zero_of_not_pos fun q => lT_ne (by omega) h3
    have e2 : tx2 t = 0 := Nat.eq_zero_of_not_pos fun q => lT_ne (by omega) h4
    exact hc.2 (by unfold tcode; omega)
  · rw [if_neg hc] at h1
    exact hz (app_ne h1).1
theorem zT_ne {kn ks : Int} {D : Dat} {w : Nat} {z : Int} (h : wD kn ks D w z) : zT z ≠ [] := by
  obtain ⟨n, -, -, -, a⟩ := zT_wD h
  rw [a]
  refine wtx_ne _ _ fun _ => tl_pos _ 8
theorem zT_len {kn ks : Int} {D : Dat} {w r : Nat} {z : Int} (h : wD kn ks D w z) (hz : (z.natAbs : Int) < 1000000000 ^ r) (hr : 1 ≤ r) : (zT z).length ≤ 9 * r := by
  obtain ⟨n, a1, a2, a3, a⟩ := zT_wD h
  rw [a]
  exact wtx_len _ (a2.size_le (by rw [← a3]; exact hz)) hr
theorem frT_len {x : Rat} {a b : Nat} (h1 : (zT x.num).length ≤ a) (h2 : (zT x.den).length ≤ b) : (frT x).length ≤ a + b + 1 := by
  unfold frT
  rw [List.length_append]
  split
  · simp; omega
  · rw [List.length_cons]; omega
theorem tT_len {b : Bool} {x : Rat} {t n : Nat} (h : (frT x).length ≤ n) : (tT b x t).length ≤ n + 13 := by
  unfold tT
  rw [List.length_append, List.length_append, List.length_append, List.length_append]
  have h0 : (if x.num < 0 then [(45 : Int)] else if b = true then [] else [43]).length ≤ 1 := by
    split
    · simp
    · split <;> simp
  have h1 : (if isOneT x ∧ tcode t ≠ 0 then [] else frT x).length ≤ n := by
    split
    · simp
    · exact h
  have a0 := lT_len 0 (tx0 t)
  have a1 := lT_len 1 (tx1 t)
  have a2 := lT_len 2 (tx2 t)
  omega
/-- text L stands: its length (place fs of object M), its letters (array T) -/
def txD (fs : Int) (D : Dat) (M T : Nat) (L : List Int) : Prop := D M fs = (L.length : Nat) ∧ ∀ i : Nat, i < L.length → D T i = L.getD i 0
def txO (fs : Int) (D D' : Dat) (M T : Nat) : Prop := ∀ c i, (c ≠ M ∨ i ≠ fs) → c ≠ T → D' c i = D c i
theorem txO.refl (fs : Int) (D : Dat) (M T : Nat) : txO fs D D M T := fun _ _ _ _ => rfl
theorem txO.trans {fs : Int} {D D' D'' : Dat} {M T : Nat} (h : txO fs D D' M T) (h' : txO fs D' D'' M T) : txO fs D D'' M T := fun c i a b => by rw [h' c i a b, h c i a b]
theorem txD.put {fs : Int} {D : Dat} {M T : Nat} {L : List Int} {c : Int} (h : txD fs D M T L) (n : M ≠ T) : txO fs D (pmu (pmu D T (L.length : Nat) c) M fs ((L.length : Nat) + 1)) M T ∧ txD fs (pmu (pmu D T (L.length : Nat) c) M fs ((L.length : Nat) + 1)) M T (L ++ [c]) := by
  refine ⟨fun a i h1 h2 => ?_, ?_, fun i hi => ?_⟩
  · rw [pmx_ne h1, pmx_ne (Or.inl h2)]
  · rw [pmx_eq]; simp
  · rw [pmx_ne (Or.inl (Ne.symm n))]
    rw [List.length_append, List.length_singleton] at hi
    by_cases e : i = L.length
    · subst e
      rw [pmx_eq]
      simp
    · rw [pmx_ne (Or.inr (by omega)), h.2 i (by omega)]
      rw [List.getD_eq_getElem?_getD, List.getD_eq_getElem?_getD, List.getElem?_append_left (by omega)]
theorem len_one {f : Int → Int} {n : Nat} {v : Int} (h : dcan f n) (hv : dv f n = v) : ((n : Int) = 1 ∧ f 0 = 1) ↔ v = 1 := by
  have e1 : dv f 1 = f 0 := by
    show (0 : Int) + f ((0 : Nat) : Int) * 1000000000 ^ 0 = f 0
    simp
  constructor
  · rintro ⟨h1, h2⟩
    have : n = 1 := by omega
    subst this
    rw [← hv, e1, h2]
  · intro h1
    have h2 : n ≤ 1 := h.size_le (r := 1) (by rw [hv, h1]; decide)
    have h3 : n ≠ 0 := fun q => by
      subst q
      have : dv f 0 = 0 := rfl
      omega
    have : n = 1 := by omega
    subst this
    exact ⟨rfl, by rw [← e1, hv, h1]⟩
/-- an end's text -/
noncomputable def eT (x : Rat) : List Int := (if x.num < 0 then [45] else []) ++ frT x
/-- a polynomial's text -/
noncomputable def pyT (φ : Nat → Rat) (l : List Nat) : List Int := if l = [] then [48] else lsT φ l true
theorem qf14 {x : Rat} (h : qfit x) : (x.num.natAbs : Int) < 1000000000 ^ 14 ∧ (x.den : Int) < 1000000000 ^ 14 := by
  unfold qfit qFb at h
  have e : (1000 : Int) * 1000000000 ^ 13 ≤ 1000000000 ^ 14 := by decide
  by_cases h1 : (x.num.natAbs : Int) < 1000 * 1000000000 ^ 13
  · rw [if_pos h1] at h
    by_cases h2 : (x.den : Int) < 1000 * 1000000000 ^ 13
    · omega
    · rw [if_neg h2] at h; exact absurd rfl h
  · rw [if_neg h1] at h; exact absurd rfl h
theorem remT_out {φ : Nat → Rat} {l : List Nat} {u : Nat} (h : φ u = 0) : remT φ l u = 0 := by
  rcases remT_or l φ u with e | e
  · rw [e, h]
  · exact e
