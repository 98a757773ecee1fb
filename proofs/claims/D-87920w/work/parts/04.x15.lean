/-! IdealCourt$Stand -/
set_option maxRecDepth 100000
def RX15 : String := "IdealCourt$Stand"
def TX15 : u_T := fun k => match k with
  | 0 => ("IdealCourt$Stand", "thing", "Ljava/lang/Object;", false)
  | 1 => ("IdealCourt$Stand", "poly", "LIdealCourt$Poly;", false)
  | _ => ("IdealCourt$Stand", "real", "LIdealCourt$Real;", false)
def tyX15 : Nat → FieldType := fun k => match k with
  | 0 => .object "java/lang/Object"
  | 1 => .object "IdealCourt$Poly"
  | _ => .object "IdealCourt$Real"
abbrev wsX150 : List Cond := u_ws RX15 TX15 3
theorem nmX15 : ∀ a, a < 3 → ∀ b, b < 3 → a ≠ b → (TX15 a).2.1 ≠ (TX15 b).2.1 := by decide +kernel
theorem tyX15_ok : ∀ k, k < 3 → parseFieldDescriptor (TX15 k).2.2.1 = some (tyX15 k) := by decide +kernel
abbrev cX15_init : ByteArray := prog_15_method_1_code
def yX15_init : MethodName := ⟨RX15, "<init>", "()V"⟩
theorem dX15_init_0 : decode cX15_init 0 = .ok (.aload_n 0, 1) := by decide +kernel
theorem dX15_init_1 : decode cX15_init 1 = .ok (.invokespecial 1, 3) := by decide +kernel
theorem dX15_init_4 : decode cX15_init 4 = .ok (.return_, 1) := by decide +kernel
theorem q117 : (Jvm.Cond.initialized "IdealCourt$Stand") ∈ lw_all := lw_g (lw_at lw_m1 19 rfl) rfl
theorem q592 : (Jvm.Cond.instantiable "IdealCourt$Stand" (3 : Nat)) ∈ lw_all := lw_g (lw_at lw_m3 14 rfl) rfl
theorem q594 : (Jvm.Cond.instanceMethod ({ cls := "IdealCourt$Stand", name := "<init>", desc := "()V" } : Jvm.MethodName)) ∈ lw_all := lw_g (lw_at lw_m3 16 rfl) rfl
theorem q595 : (Jvm.Cond.code ({ cls := "IdealCourt$Stand", name := "<init>", desc := "()V" } : Jvm.MethodName) prog_15_method_1_code (1 : Nat) (Option.none : Option Jvm.ClassFile.FieldType)) ∈ lw_all := lw_g (lw_at lw_m3 17 rfl) rfl
theorem q596 : (Jvm.Cond.methodLink "IdealCourt$Stand" (1 : Nat) ({ cls := "java/lang/Object", name := "<init>", desc := "()V" } : Jvm.MethodName)) ∈ lw_all := lw_g (lw_at lw_m3 18 rfl) rfl
theorem q600 : (Jvm.Cond.lays "IdealCourt$Stand" "IdealCourt$Stand" "thing" "Ljava/lang/Object;") ∈ lw_all := lw_g (lw_at lw_m3 22 rfl) rfl
theorem q601 : (Jvm.Cond.soleField "IdealCourt$Stand" "thing") ∈ lw_all := lw_g (lw_at lw_m3 23 rfl) rfl
theorem q602 : (Jvm.Cond.lays "IdealCourt$Stand" "IdealCourt$Stand" "poly" "LIdealCourt$Poly;") ∈ lw_all := lw_g (lw_at lw_m3 24 rfl) rfl
theorem q603 : (Jvm.Cond.soleField "IdealCourt$Stand" "poly") ∈ lw_all := lw_g (lw_at lw_m3 25 rfl) rfl
theorem q604 : (Jvm.Cond.lays "IdealCourt$Stand" "IdealCourt$Stand" "real" "LIdealCourt$Real;") ∈ lw_all := lw_g (lw_at lw_m3 26 rfl) rfl
theorem q605 : (Jvm.Cond.soleField "IdealCourt$Stand" "real") ∈ lw_all := lw_g (lw_at lw_m3 27 rfl) rfl
theorem q606 : (Jvm.Cond.superclass "IdealCourt$Stand" "java/lang/Object") ∈ lw_all := lw_g (lw_at lw_m3 28 rfl) rfl
theorem in_X15 : ∀ w ∈ wsX150, w ∈ lw_all := lw_in wsX150 [600, 602, 604] (by decide +kernel) (by decide +kernel)
