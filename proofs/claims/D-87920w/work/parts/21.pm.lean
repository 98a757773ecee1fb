/-! PM: a pure machine. Programs are predicate transformers over (locals, stack, budget, statics of the heap, data of the heap). -/
set_option maxRecDepth 100000
abbrev PV : Type := Int ⊕ Int ⊕ Option Nat
abbrev Stat : Type := (Nat → Option (Nat × Nat)) × (Nat → Int → Option Nat) × Nat
abbrev Dat : Type := Nat → Int → Int
abbrev Tm : Type := List (Option PV) → List PV → Nat × Nat → Stat → Dat → Prop
abbrev Ex : Type := (Option PV ⊕ Nat) → Nat × Nat → Stat → Dat → Prop
abbrev Prg : Type := (Nat → Tm) → Ex → Nat → Tm
def inI (z : Int) : Prop := -2147483648 ≤ z ∧ z < 2147483648
def inL (z : Int) : Prop := -9223372036854775808 ≤ z ∧ z < 9223372036854775808
def pm_le (f g : Tm) : Prop := ∀ ls st B S D, f ls st B S D → g ls st B S D
theorem pm_le.rfl {f : Tm} : pm_le f f := fun _ _ _ _ _ h => h
def Wp (P : Prg) (E : Ex) (b : Nat) : Tm := fun ls st B S D => ∀ X : Nat → Tm, (∀ (b' : Nat) (Y : Nat → Tm), (∀ b'', pm_le (Y b'') (X b'')) → pm_le (P Y E b') (X b')) → X b ls st B S D
theorem wp_in {P : Prg} {E : Ex} {b : Nat} {ls : List (Option PV)} {st : List PV} {B : Nat × Nat} {S : Stat} {D : Dat} (h : P (Wp P E) E b ls st B S D) : Wp P E b ls st B S D :=
  fun X hX => hX b (Wp P E) (fun b'' ls st B S D k => k X hX) ls st B S D h
/-- what a program does is what a closed family of predicates allows -/
theorem wp_sim {P : Prg} {E : Ex} {V : Nat → Tm} (h : ∀ (b' : Nat) (Y : Nat → Tm), (∀ b'', pm_le (Y b'') (V b'')) → pm_le (P Y E b') (V b')) (b : Nat) : pm_le (Wp P E b) (V b) :=
  fun _ _ _ _ _ k => k V h
def pmu (D : Dat) (a : Nat) (i z : Int) : Dat := fun a' i' => if a' = a ∧ i' = i then z else D a' i'
def pmur (R : Nat → Int → Option Nat) (a : Nat) (i : Int) (z : Option Nat) : Nat → Int → Option Nat := fun a' i' => if a' = a ∧ i' = i then z else R a' i'
def setR (S : Stat) (a : Nat) (i : Int) (z : Option Nat) : Stat := (S.1, pmur S.2.1 a i z, S.2.2)
def mkS (S : Stat) (k n : Nat) : Stat := (fun a => if a = S.2.2 then some (k, n) else S.1 a, fun a i => if a = S.2.2 then none else S.2.1 a i, S.2.2 + 1)
def mkD (S : Stat) (D : Dat) : Dat := fun a i => if a = S.2.2 then 0 else D a i
def isL : PV → Bool
  | .inr (.inl _) => true
  | _ => false
def lget : List (Option PV) → Nat → Option PV
  | [], _ => none
  | v :: _, 0 => v
  | _ :: r, k + 1 => lget r k
def lset : List (Option PV) → Nat → Option PV → List (Option PV)
  | [], 0, v => [v]
  | [], k + 1, v => none :: lset [] k v
  | _ :: r, 0, v => v :: r
  | w :: r, k + 1, v => w :: lset r k v
def lkil : List (Option PV) → List Nat → List (Option PV)
  | ls, [] => ls
  | ls, k :: r => lkil (lset ls k none) r
def ltrim : List (Option PV) → List (Option PV)
  | [] => []
  | some v :: r => some v :: ltrim r
  | none :: r => match ltrim r with
    | [] => []
    | w :: q => none :: w :: q
/-- a store of one word: what it clobbers goes -/
def lput1 (ls : List (Option PV)) (k : Nat) (v : PV) : List (Option PV) := match k with
  | 0 => lset ls 0 (some v)
  | k + 1 => match lget ls k with
    | some w => if isL w = true then lset (lset ls k none) (k + 1) (some v) else lset ls (k + 1) (some v)
    | none => lset ls (k + 1) (some v)
def lput2 (ls : List (Option PV)) (k : Nat) (v : PV) : List (Option PV) := lset (lput1 ls k v) (k + 1) none
def largs : List PV → List (Option PV)
  | [] => []
  | v :: r => if isL v = true then some v :: none :: largs r else some v :: largs r
/-- the kinds of arrays -/
def kI : Nat := 100
def kB : Nat := 101
def kS : Nat := 102
def kZ : Nat := 103
def kL : Nat := 104
section OPS
variable (K J : Tm)
def i_kil (ks : List Nat) : Tm := fun ls st B S D => K (ltrim (lkil ls ks)) st B S D
def i_icon (z : Int) : Tm := fun ls st B S D => K ls (.inl z :: st) B S D
def i_lcon (z : Int) : Tm := fun ls st B S D => K ls (.inr (.inl z) :: st) B S D
def i_null : Tm := fun ls st B S D => K ls (.inr (.inr none) :: st) B S D
def i_loadI (k : Nat) : Tm := fun ls st B S D => match lget ls k with
  | some (.inl x) => K ls (.inl x :: st) B S D
  | _ => False
def i_loadL (k : Nat) : Tm := fun ls st B S D => match lget ls k with
  | some (.inr (.inl x)) => K ls (.inr (.inl x) :: st) B S D
  | _ => False
def i_loadR (k : Nat) : Tm := fun ls st B S D => match lget ls k with
  | some (.inr (.inr x)) => K ls (.inr (.inr x) :: st) B S D
  | _ => False
def i_istore (k : Nat) : Tm := fun ls st B S D => match st with
  | .inl x :: r => K (lput1 ls k (.inl x)) r B S D
  | _ => False
def i_lstore (k : Nat) : Tm := fun ls st B S D => match st with
  | .inr (.inl x) :: r => K (lput2 ls k (.inr (.inl x))) r B S D
  | _ => False
def i_astore (k : Nat) : Tm := fun ls st B S D => match st with
  | .inr (.inr x) :: r => K (lput1 ls k (.inr (.inr x))) r B S D
  | _ => False
def i_iinc (k : Nat) (z : Int) : Tm := fun ls st B S D => match lget ls k with
  | some (.inl x) => inI (x + z) ∧ K (lput1 ls k (.inl (x + z))) st B S D
  | _ => False
def i_dup : Tm := fun ls st B S D => match st with
  | v :: r => isL v = false ∧ K ls (v :: v :: r) B S D
  | _ => False
def i_dup2 : Tm := fun ls st B S D => match st with
  | .inl y :: .inr (.inr a) :: r => K ls (.inl y :: .inr (.inr a) :: .inl y :: .inr (.inr a) :: r) B S D
  | _ => False
def i_pop : Tm := fun ls st B S D => match st with
  | v :: r => isL v = false ∧ K ls r B S D
  | _ => False
def i_iadd : Tm := fun ls st B S D => match st with
  | .inl y :: .inl x :: r => inI (x + y) ∧ K ls (.inl (x + y) :: r) B S D
  | _ => False
def i_isub : Tm := fun ls st B S D => match st with
  | .inl y :: .inl x :: r => inI (x - y) ∧ K ls (.inl (x - y) :: r) B S D
  | _ => False
def i_imul : Tm := fun ls st B S D => match st with
  | .inl y :: .inl x :: r => inI (x * y) ∧ K ls (.inl (x * y) :: r) B S D
  | _ => False
def i_idiv : Tm := fun ls st B S D => match st with
  | .inl y :: .inl x :: r => y ≠ 0 ∧ inI (x.tdiv y) ∧ K ls (.inl (x.tdiv y) :: r) B S D
  | _ => False
def i_irem : Tm := fun ls st B S D => match st with
  | .inl y :: .inl x :: r => y ≠ 0 ∧ inI (x.tmod y) ∧ K ls (.inl (x.tmod y) :: r) B S D
  | _ => False
def i_ineg : Tm := fun ls st B S D => match st with
  | .inl x :: r => inI (-x) ∧ K ls (.inl (-x) :: r) B S D
  | _ => False
def andI (x y : Int) : Int := (Int32.ofInt x &&& Int32.ofInt y).toInt
def orI (x y : Int) : Int := (Int32.ofInt x ||| Int32.ofInt y).toInt
def i_iand : Tm := fun ls st B S D => match st with
  | .inl y :: .inl x :: r => K ls (.inl (andI x y) :: r) B S D
  | _ => False
def i_ior : Tm := fun ls st B S D => match st with
  | .inl y :: .inl x :: r => K ls (.inl (orI x y) :: r) B S D
  | _ => False
def shlI (x y : Int) : Int := (Int32.ofInt x <<< (Int32.ofInt y &&& 31)).toInt
def shrI (x y : Int) : Int := (Int32.ofInt x >>> (Int32.ofInt y &&& 31)).toInt
def shlL (x y : Int) : Int := (Int64.ofInt x <<< ((Int32.ofInt y).toInt64 &&& 63)).toInt
def i_ishl : Tm := fun ls st B S D => match st with
  | .inl y :: .inl x :: r => K ls (.inl (shlI x y) :: r) B S D
  | _ => False
def i_ishr : Tm := fun ls st B S D => match st with
  | .inl y :: .inl x :: r => K ls (.inl (shrI x y) :: r) B S D
  | _ => False
def i_ladd : Tm := fun ls st B S D => match st with
  | .inr (.inl y) :: .inr (.inl x) :: r => inL (x + y) ∧ K ls (.inr (.inl (x + y)) :: r) B S D
  | _ => False
def i_lsub : Tm := fun ls st B S D => match st with
  | .inr (.inl y) :: .inr (.inl x) :: r => inL (x - y) ∧ K ls (.inr (.inl (x - y)) :: r) B S D
  | _ => False
def i_lmul : Tm := fun ls st B S D => match st with
  | .inr (.inl y) :: .inr (.inl x) :: r => inL (x * y) ∧ K ls (.inr (.inl (x * y)) :: r) B S D
  | _ => False
def i_ldiv : Tm := fun ls st B S D => match st with
  | .inr (.inl y) :: .inr (.inl x) :: r => y ≠ 0 ∧ inL (x.tdiv y) ∧ K ls (.inr (.inl (x.tdiv y)) :: r) B S D
  | _ => False
def i_lrem : Tm := fun ls st B S D => match st with
  | .inr (.inl y) :: .inr (.inl x) :: r => y ≠ 0 ∧ inL (x.tmod y) ∧ K ls (.inr (.inl (x.tmod y)) :: r) B S D
  | _ => False
def i_lneg : Tm := fun ls st B S D => match st with
  | .inr (.inl x) :: r => inL (-x) ∧ K ls (.inr (.inl (-x)) :: r) B S D
  | _ => False
def i_lshl : Tm := fun ls st B S D => match st with
  | .inl y :: .inr (.inl x) :: r => K ls (.inr (.inl (shlL x y)) :: r) B S D
  | _ => False
def xorL (x y : Int) : Int := (Int64.ofInt x ^^^ Int64.ofInt y).toInt
def i_lxor : Tm := fun ls st B S D => match st with
  | .inr (.inl y) :: .inr (.inl x) :: r => K ls (.inr (.inl (xorL x y)) :: r) B S D
  | _ => False
def lcmpI (x y : Int) : Int := if x < y then -1 else if x = y then 0 else 1
def i_lcmp : Tm := fun ls st B S D => match st with
  | .inr (.inl y) :: .inr (.inl x) :: r => K ls (.inl (lcmpI x y) :: r) B S D
  | _ => False
def i_i2l : Tm := fun ls st B S D => match st with
  | .inl x :: r => K ls (.inr (.inl x) :: r) B S D
  | _ => False
def i_l2i : Tm := fun ls st B S D => match st with
  | .inr (.inl x) :: r => inI x ∧ K ls (.inl x :: r) B S D
  | _ => False
def i_i2b : Tm := fun ls st B S D => match st with
  | .inl x :: r => -128 ≤ x ∧ x < 128 ∧ K ls (.inl x :: r) B S D
  | _ => False
def i_i2s : Tm := fun ls st B S D => match st with
  | .inl x :: r => -32768 ≤ x ∧ x < 32768 ∧ K ls (.inl x :: r) B S D
  | _ => False
/-- branches: J where the condition holds, K behind -/
def i_ifeq : Tm := fun ls st B S D => match st with
  | .inl x :: r => (x = 0 → J ls r B S D) ∧ (¬ x = 0 → K ls r B S D)
  | _ => False
def i_ifne : Tm := fun ls st B S D => match st with
  | .inl x :: r => (¬ x = 0 → J ls r B S D) ∧ (x = 0 → K ls r B S D)
  | _ => False
def i_iflt : Tm := fun ls st B S D => match st with
  | .inl x :: r => (x < 0 → J ls r B S D) ∧ (0 ≤ x → K ls r B S D)
  | _ => False
def i_ifge : Tm := fun ls st B S D => match st with
  | .inl x :: r => (0 ≤ x → J ls r B S D) ∧ (x < 0 → K ls r B S D)
  | _ => False
def i_ifgt : Tm := fun ls st B S D => match st with
  | .inl x :: r => (0 < x → J ls r B S D) ∧ (x ≤ 0 → K ls r B S D)
  | _ => False
def i_ifle : Tm := fun ls st B S D => match st with
  | .inl x :: r => (x ≤ 0 → J ls r B S D) ∧ (0 < x → K ls r B S D)
  | _ => False
def i_cmpeq : Tm := fun ls st B S D => match st with
  | .inl y :: .inl x :: r => (x = y → J ls r B S D) ∧ (¬ x = y → K ls r B S D)
  | _ => False
def i_cmpne : Tm := fun ls st B S D => match st with
  | .inl y :: .inl x :: r => (¬ x = y → J ls r B S D) ∧ (x = y → K ls r B S D)
  | _ => False
def i_cmplt : Tm := fun ls st B S D => match st with
  | .inl y :: .inl x :: r => (x < y → J ls r B S D) ∧ (y ≤ x → K ls r B S D)
  | _ => False
def i_cmpge : Tm := fun ls st B S D => match st with
  | .inl y :: .inl x :: r => (y ≤ x → J ls r B S D) ∧ (x < y → K ls r B S D)
  | _ => False
def i_cmpgt : Tm := fun ls st B S D => match st with
  | .inl y :: .inl x :: r => (y < x → J ls r B S D) ∧ (x ≤ y → K ls r B S D)
  | _ => False
def i_cmple : Tm := fun ls st B S D => match st with
  | .inl y :: .inl x :: r => (x ≤ y → J ls r B S D) ∧ (y < x → K ls r B S D)
  | _ => False
def i_acmpeq : Tm := fun ls st B S D => match st with
  | .inr (.inr y) :: .inr (.inr x) :: r => (x = y → J ls r B S D) ∧ (¬ x = y → K ls r B S D)
  | _ => False
def i_acmpne : Tm := fun ls st B S D => match st with
  | .inr (.inr y) :: .inr (.inr x) :: r => (¬ x = y → J ls r B S D) ∧ (x = y → K ls r B S D)
  | _ => False
def i_ifnull : Tm := fun ls st B S D => match st with
  | .inr (.inr x) :: r => (x = none → J ls r B S D) ∧ (¬ x = none → K ls r B S D)
  | _ => False
def i_ifnonnull : Tm := fun ls st B S D => match st with
  | .inr (.inr x) :: r => (¬ x = none → J ls r B S D) ∧ (x = none → K ls r B S D)
  | _ => False
/-- a switch over three -/
def i_tsw3 (lo : Int) (J0 J1 J2 : Tm) : Tm := fun ls st B S D => match st with
  | .inl x :: r => (x = lo → J0 ls r B S D) ∧ (x = lo + 1 → J1 ls r B S D) ∧ (x = lo + 2 → J2 ls r B S D) ∧ (x < lo ∨ lo + 2 < x → K ls r B S D)
  | _ => False
/-- fields: of an object of kind c -/
def i_getI (c : Nat) (k : Int) : Tm := fun ls st B S D => match st with
  | .inr (.inr (some a)) :: r => S.1 a = some (c, 0) ∧ K ls (.inl (D a k) :: r) B S D
  | _ => False
def i_getR (c : Nat) (k : Int) : Tm := fun ls st B S D => match st with
  | .inr (.inr (some a)) :: r => S.1 a = some (c, 0) ∧ K ls (.inr (.inr (S.2.1 a k)) :: r) B S D
  | _ => False
def i_putI (c : Nat) (k : Int) : Tm := fun ls st B S D => match st with
  | .inl x :: .inr (.inr (some a)) :: r => S.1 a = some (c, 0) ∧ K ls r B S (pmu D a k x)
  | _ => False
/-- a boolean's field -/
def i_putZ (c : Nat) (k : Int) : Tm := fun ls st B S D => match st with
  | .inl x :: .inr (.inr (some a)) :: r => (x = 0 ∨ x = 1) ∧ S.1 a = some (c, 0) ∧ K ls r B S (pmu D a k x)
  | _ => False
def i_putR (c : Nat) (k : Int) : Tm := fun ls st B S D => match st with
  | .inr (.inr x) :: .inr (.inr (some a)) :: r => S.1 a = some (c, 0) ∧ K ls r B (setR S a k x) D
  | _ => False
/-- arrays -/
def i_ald (t : Nat) : Tm := fun ls st B S D => match st with
  | .inl i :: .inr (.inr (some a)) :: r => ∃ n : Nat, S.1 a = some (t, n) ∧ 0 ≤ i ∧ i < n ∧ K ls (.inl (D a i) :: r) B S D
  | _ => False
def i_ldL : Tm := fun ls st B S D => match st with
  | .inl i :: .inr (.inr (some a)) :: r => ∃ n : Nat, S.1 a = some (104, n) ∧ 0 ≤ i ∧ i < n ∧ K ls (.inr (.inl (D a i)) :: r) B S D
  | _ => False
def i_ldR (t : Nat) : Tm := fun ls st B S D => match st with
  | .inl i :: .inr (.inr (some a)) :: r => ∃ n : Nat, S.1 a = some (t, n) ∧ 0 ≤ i ∧ i < n ∧ K ls (.inr (.inr (S.2.1 a i)) :: r) B S D
  | _ => False
def okT (t : Nat) (x : Int) : Prop := (t = 101 → -128 ≤ x ∧ x < 128) ∧ (t = 102 → -32768 ≤ x ∧ x < 32768) ∧ (t = 103 → x = 0 ∨ x = 1)
def i_ast (t : Nat) : Tm := fun ls st B S D => match st with
  | .inl x :: .inl i :: .inr (.inr (some a)) :: r => ∃ n : Nat, S.1 a = some (t, n) ∧ 0 ≤ i ∧ i < n ∧ okT t x ∧ K ls r B S (pmu D a i x)
  | _ => False
def i_stL : Tm := fun ls st B S D => match st with
  | .inr (.inl x) :: .inl i :: .inr (.inr (some a)) :: r => ∃ n : Nat, S.1 a = some (104, n) ∧ 0 ≤ i ∧ i < n ∧ K ls r B S (pmu D a i x)
  | _ => False
/-- a reference into an array of kind t: it holds cells of the kinds in cs -/
def i_stR (t : Nat) (cs : List Nat) : Tm := fun ls st B S D => match st with
  | .inr (.inr (some v)) :: .inl i :: .inr (.inr (some a)) :: r => ∃ n c m : Nat, S.1 a = some (t, n) ∧ S.1 v = some (c, m) ∧ c ∈ cs ∧ 0 ≤ i ∧ i < n ∧ K ls r B (setR S a i (some v)) D
  | _ => False
def i_alen (t : Nat) : Tm := fun ls st B S D => match st with
  | .inr (.inr (some a)) :: r => ∃ n : Nat, S.1 a = some (t, n) ∧ n < 60000000 ∧ K ls (.inl n :: r) B S D
  | _ => False
def i_new (c n : Nat) : Tm := fun ls st B S D => ∃ b1 b2, B = (b1 + 1, b2 + n) ∧ K ls (.inr (.inr (some S.2.2)) :: st) (b1, b2) (mkS S c 0) (mkD S D)
def i_newa (t : Nat) : Tm := fun ls st B S D => match st with
  | .inl x :: r => ∃ b1 b2 n : Nat, x = n ∧ n < 60000000 ∧ B = (b1 + 1, b2 + n) ∧ K ls (.inr (.inr (some S.2.2)) :: r) (b1, b2) (mkS S t n) (mkD S D)
  | _ => False
/-- ends -/
def i_iret (E : Ex) : Tm := fun _ st B S D => match st with
  | [.inl x] => E (.inl (some (.inl x))) B S D
  | _ => False
def i_zret (E : Ex) : Tm := fun _ st B S D => match st with
  | [.inl x] => (x = 0 ∨ x = 1) ∧ E (.inl (some (.inl x))) B S D
  | _ => False
def i_lret (E : Ex) : Tm := fun _ st B S D => match st with
  | [.inr (.inl x)] => E (.inl (some (.inr (.inl x)))) B S D
  | _ => False
def i_aret (E : Ex) : Tm := fun _ st B S D => match st with
  | [.inr (.inr x)] => E (.inl (some (.inr (.inr x)))) B S D
  | _ => False
def i_vret (E : Ex) : Tm := fun _ st B S D => match st with
  | [] => E (.inl none) B S D
  | _ => False
/-- a thrown cell that no handler here takes -/
def i_raise (E : Ex) : Tm := fun _ st B S D => match st with
  | .inr (.inr (some a)) :: _ => E (.inr a) B S D
  | _ => False
/-- athrow of a cell of kind c; H: where it goes on -/
def i_throw (c : Nat) (H : Tm) : Tm := fun ls st B S D => match st with
  | .inr (.inr (some a)) :: _ => S.1 a = some (c, 0) ∧ H ls [.inr (.inr (some a))] B S D
  | _ => False
/-- a call of a program with n arguments (the object among them); H: where what it throws goes on, with the thrown cell alone on the stack -/
def pushO (o : Option PV) (st : List PV) : List PV := match o with
  | some v => v :: st
  | none => st
def nthv : List PV → Nat → Option PV
  | [], _ => none
  | v :: _, 0 => some v
  | _ :: r, k + 1 => nthv r k
def dropv : List PV → Nat → List PV
  | st, 0 => st
  | [], _ => []
  | _ :: r, k + 1 => dropv r k
/-- the n topmost, the deepest first -/
def takev : List PV → Nat → List PV → List PV
  | _, 0, acc => acc
  | [], _, acc => acc
  | v :: r, k + 1, acc => takev r k (v :: acc)
def catv : List PV → Nat
  | [] => 0
  | v :: r => (if isL v = true then 2 else 1) + catv r
/-- n arguments of at most w words, at most 8 words below them -/
def gd (st : List PV) (n w : Nat) : Prop := n ≤ st.length ∧ catv (takev st n []) ≤ w ∧ catv (dropv st n) ≤ 8
/-- the root's constructor -/
def i_objinit : Tm := fun ls st B S D => match st with
  | .inr (.inr (some _)) :: r => catv r ≤ 8 ∧ K ls r B S D
  | _ => False
def i_call (P : Prg) (n w : Nat) (H : Tm) : Tm := fun ls st B S D => gd st n w ∧ ∃ b1 b2 m1 m2 : Nat, B = (b1 + m1, b2 + m2) ∧
  Wp P (fun o _ S' D' => match o with
    | .inl v => K ls (pushO v (dropv st n)) (b1, b2) S' D'
    | .inr a => H ls [.inr (.inr (some a))] (b1, b2) S' D') 0 (largs (takev st n [])) [] (m1, m2) S D
/-- the object at depth n is one of kind c -/
def i_recv (c n : Nat) : Tm := fun ls st B S D => (∃ b, nthv st n = some (.inr (.inr (some b))) ∧ S.1 b = some (c, 0)) ∧ K ls st B S D
end OPS
/-- no handler, nothing is thrown -/
def i_none : Tm := fun _ _ _ _ _ => False
