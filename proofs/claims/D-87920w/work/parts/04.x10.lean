/-! IdealCourt$Degree -/
set_option maxRecDepth 100000
def RX10 : String := "IdealCourt$Degree"
def TX10 : u_T := fun k => match k with
  | _ => ("IdealCourt$Lex", "terms", "LIdealCourt$Terms;", true)
def tyX10 : Nat → FieldType := fun k => match k with
  | _ => .object "IdealCourt$Terms"
abbrev wsX100 : List Cond := u_ws RX10 TX10 1
theorem nmX10 : ∀ a, a < 1 → ∀ b, b < 1 → a ≠ b → (TX10 a).2.1 ≠ (TX10 b).2.1 := by decide +kernel
theorem tyX10_ok : ∀ k, k < 1 → parseFieldDescriptor (TX10 k).2.2.1 = some (tyX10 k) := by decide +kernel
abbrev cX10_init : ByteArray := prog_4_method_1_code
def yX10_init : MethodName := ⟨RX10, "<init>", "(LIdealCourt$Terms;)V"⟩
def dkwX10_init_0 : List UInt8 := [42, 43, 183, 0, 1, 177]
abbrev dktX10_init_0 : List UInt8 := dkwX10_init_0 ++ []
theorem dksX10_init_0 : cX10_init.data.toList.drop 0 = dktX10_init_0 := by decide +kernel
theorem dX10_init_0 : decode cX10_init 0 = .ok (.aload_n 0, 1) := dk_42 (dk_at dksX10_init_0 0 rfl rfl)
theorem dX10_init_1 : decode cX10_init 1 = .ok (.aload_n 1, 1) := dk_43 (dk_at dksX10_init_0 1 rfl rfl)
theorem dX10_init_2 : decode cX10_init 2 = .ok (.invokespecial 1, 3) := dk_183 0 1 (dk_at dksX10_init_0 2 rfl rfl)
theorem dX10_init_5 : decode cX10_init 5 = .ok (.return_, 1) := dk_177 (dk_at dksX10_init_0 5 rfl rfl)
abbrev cX10_rank : ByteArray := prog_4_method_2_code
def yX10_rank : MethodName := ⟨RX10, "rank", "(II)I"⟩
def dkwX10_rank_0 : List UInt8 := [42, 3, 6, 27, 28, 182, 0, 7, 62, 29, 153, 0, 7, 29, 167, 0, 9, 42, 27, 28, 183, 0, 13, 172]
abbrev dktX10_rank_0 : List UInt8 := dkwX10_rank_0 ++ []
theorem dksX10_rank_0 : cX10_rank.data.toList.drop 0 = dktX10_rank_0 := by decide +kernel
theorem dX10_rank_0 : decode cX10_rank 0 = .ok (.aload_n 0, 1) := dk_42 (dk_at dksX10_rank_0 0 rfl rfl)
theorem dX10_rank_1 : decode cX10_rank 1 = .ok (.iconst 0, 1) := dk_3 (dk_at dksX10_rank_0 1 rfl rfl)
theorem dX10_rank_2 : decode cX10_rank 2 = .ok (.iconst 3, 1) := dk_6 (dk_at dksX10_rank_0 2 rfl rfl)
theorem dX10_rank_3 : decode cX10_rank 3 = .ok (.iload_n 1, 1) := dk_27 (dk_at dksX10_rank_0 3 rfl rfl)
theorem dX10_rank_4 : decode cX10_rank 4 = .ok (.iload_n 2, 1) := dk_28 (dk_at dksX10_rank_0 4 rfl rfl)
theorem dX10_rank_5 : decode cX10_rank 5 = .ok (.invokevirtual 7, 3) := dk_182 0 7 (dk_at dksX10_rank_0 5 rfl rfl)
theorem dX10_rank_8 : decode cX10_rank 8 = .ok (.istore_n 3, 1) := dk_62 (dk_at dksX10_rank_0 8 rfl rfl)
theorem dX10_rank_9 : decode cX10_rank 9 = .ok (.iload_n 3, 1) := dk_29 (dk_at dksX10_rank_0 9 rfl rfl)
theorem dX10_rank_10 : decode cX10_rank 10 = .ok (.ifCond .eq 7, 3) := dk_153 0 7 (dk_at dksX10_rank_0 10 rfl rfl)
theorem dX10_rank_13 : decode cX10_rank 13 = .ok (.iload_n 3, 1) := dk_29 (dk_at dksX10_rank_0 13 rfl rfl)
theorem dX10_rank_14 : decode cX10_rank 14 = .ok (.goto 9, 3) := dk_167 0 9 (dk_at dksX10_rank_0 14 rfl rfl)
theorem dX10_rank_17 : decode cX10_rank 17 = .ok (.aload_n 0, 1) := dk_42 (dk_at dksX10_rank_0 17 rfl rfl)
theorem dX10_rank_18 : decode cX10_rank 18 = .ok (.iload_n 1, 1) := dk_27 (dk_at dksX10_rank_0 18 rfl rfl)
theorem dX10_rank_19 : decode cX10_rank 19 = .ok (.iload_n 2, 1) := dk_28 (dk_at dksX10_rank_0 19 rfl rfl)
theorem dX10_rank_20 : decode cX10_rank 20 = .ok (.invokespecial 13, 3) := dk_183 0 13 (dk_at dksX10_rank_0 20 rfl rfl)
theorem dX10_rank_23 : decode cX10_rank 23 = .ok (.ireturn, 1) := dk_172 (dk_at dksX10_rank_0 23 rfl rfl)
abbrev cX10_name : ByteArray := prog_4_method_3_code
def yX10_name : MethodName := ⟨RX10, "name", "()Ljava/lang/String;"⟩
theorem dX10_name_0 : decode cX10_name 0 = .ok (.ldc 17, 2) := by decide +kernel
theorem dX10_name_2 : decode cX10_name 2 = .ok (.areturn, 1) := by decide +kernel
theorem q109 : (Jvm.Cond.initialized "IdealCourt$Degree") ∈ lw_all := lw_g (lw_at lw_m1 11 rfl) rfl
theorem q450 : (Jvm.Cond.instantiable "IdealCourt$Degree" (1 : Nat)) ∈ lw_all := lw_g (lw_at lw_m2 112 rfl) rfl
theorem q452 : (Jvm.Cond.instanceMethod ({ cls := "IdealCourt$Degree", name := "<init>", desc := "(LIdealCourt$Terms;)V" } : Jvm.MethodName)) ∈ lw_all := lw_g (lw_at lw_m2 114 rfl) rfl
theorem q453 : (Jvm.Cond.code ({ cls := "IdealCourt$Degree", name := "<init>", desc := "(LIdealCourt$Terms;)V" } : Jvm.MethodName) prog_4_method_1_code (2 : Nat) (Option.none : Option Jvm.ClassFile.FieldType)) ∈ lw_all := lw_g (lw_at lw_m2 115 rfl) rfl
theorem q454 : (Jvm.Cond.methodLink "IdealCourt$Degree" (1 : Nat) ({ cls := "IdealCourt$Lex", name := "<init>", desc := "(LIdealCourt$Terms;)V" } : Jvm.MethodName)) ∈ lw_all := lw_g (lw_at lw_m2 116 rfl) rfl
theorem q455 : (Jvm.Cond.laysFinal "IdealCourt$Degree" "IdealCourt$Lex" "terms" "LIdealCourt$Terms;") ∈ lw_all := lw_g (lw_at lw_m2 117 rfl) rfl
theorem q456 : (Jvm.Cond.superclass "IdealCourt$Degree" "IdealCourt$Lex") ∈ lw_all := lw_g (lw_at lw_m2 118 rfl) rfl
theorem q854 : (Jvm.Cond.castable "IdealCourt$Degree" "IdealCourt$Thing") ∈ lw_tbl := lw_at lw_m4 36 rfl
theorem q855 : (Jvm.Cond.selects "IdealCourt$Degree" ({ cls := "IdealCourt$Thing", name := "kind", desc := "()I" } : Jvm.MethodName) ({ cls := "IdealCourt$Lex", name := "kind", desc := "()I" } : Jvm.MethodName)) ∈ lw_all := lw_g (lw_at lw_m4 37 rfl) rfl
theorem q856 : (Jvm.Cond.unhidden "IdealCourt$Degree" "kind" "()I") ∈ lw_tbl := lw_at lw_m4 38 rfl
theorem q1105 : (Jvm.Cond.sameMethod "IdealCourt$Degree" "IdealCourt$Lex" "weight" "(IIII)I") ∈ lw_all := lw_g (lw_at lw_m5 47 rfl) rfl
theorem q1122 : (Jvm.Cond.castable "IdealCourt$Degree" "IdealCourt$Ranks") ∈ lw_tbl := lw_at lw_m5 64 rfl
theorem q1123 : (Jvm.Cond.selects "IdealCourt$Degree" ({ cls := "IdealCourt$Ranks", name := "rank", desc := "(II)I" } : Jvm.MethodName) ({ cls := "IdealCourt$Degree", name := "rank", desc := "(II)I" } : Jvm.MethodName)) ∈ lw_all := lw_g (lw_at lw_m5 65 rfl) rfl
theorem q1124 : (Jvm.Cond.unhidden "IdealCourt$Degree" "rank" "(II)I") ∈ lw_tbl := lw_at lw_m5 66 rfl
theorem q1125 : (Jvm.Cond.instanceMethod ({ cls := "IdealCourt$Degree", name := "rank", desc := "(II)I" } : Jvm.MethodName)) ∈ lw_all := lw_g (lw_at lw_m5 67 rfl) rfl
theorem q1126 : (Jvm.Cond.publicMethod ({ cls := "IdealCourt$Degree", name := "rank", desc := "(II)I" } : Jvm.MethodName)) ∈ lw_tbl := lw_at lw_m5 68 rfl
theorem q1127 : (Jvm.Cond.code ({ cls := "IdealCourt$Degree", name := "rank", desc := "(II)I" } : Jvm.MethodName) prog_4_method_2_code (4 : Nat) (Option.some Jvm.ClassFile.FieldType.int)) ∈ lw_all := lw_g (lw_at lw_m5 69 rfl) rfl
theorem q1128 : (Jvm.Cond.methodLink "IdealCourt$Degree" (7 : Nat) ({ cls := "IdealCourt$Degree", name := "weight", desc := "(IIII)I" } : Jvm.MethodName)) ∈ lw_all := lw_g (lw_at lw_m5 70 rfl) rfl
theorem q1130 : (Jvm.Cond.selects "IdealCourt$Degree" ({ cls := "IdealCourt$Degree", name := "weight", desc := "(IIII)I" } : Jvm.MethodName) ({ cls := "IdealCourt$Lex", name := "weight", desc := "(IIII)I" } : Jvm.MethodName)) ∈ lw_all := lw_g (lw_at lw_m5 72 rfl) rfl
theorem q1132 : (Jvm.Cond.methodLink "IdealCourt$Degree" (13 : Nat) ({ cls := "IdealCourt$Lex", name := "rank", desc := "(II)I" } : Jvm.MethodName)) ∈ lw_all := lw_g (lw_at lw_m5 74 rfl) rfl
theorem q1192 : (Jvm.Cond.castable "IdealCourt$Degree" "IdealCourt$Told") ∈ lw_tbl := lw_at lw_m5 134 rfl
theorem q1193 : (Jvm.Cond.selects "IdealCourt$Degree" ({ cls := "IdealCourt$Told", name := "name", desc := "()Ljava/lang/String;" } : Jvm.MethodName) ({ cls := "IdealCourt$Degree", name := "name", desc := "()Ljava/lang/String;" } : Jvm.MethodName)) ∈ lw_all := lw_g (lw_at lw_m5 135 rfl) rfl
theorem q1194 : (Jvm.Cond.unhidden "IdealCourt$Degree" "name" "()Ljava/lang/String;") ∈ lw_tbl := lw_at lw_m5 136 rfl
theorem q1195 : (Jvm.Cond.instanceMethod ({ cls := "IdealCourt$Degree", name := "name", desc := "()Ljava/lang/String;" } : Jvm.MethodName)) ∈ lw_all := lw_g (lw_at lw_m5 137 rfl) rfl
theorem q1196 : (Jvm.Cond.publicMethod ({ cls := "IdealCourt$Degree", name := "name", desc := "()Ljava/lang/String;" } : Jvm.MethodName)) ∈ lw_tbl := lw_at lw_m5 138 rfl
theorem q1197 : (Jvm.Cond.code ({ cls := "IdealCourt$Degree", name := "name", desc := "()Ljava/lang/String;" } : Jvm.MethodName) prog_4_method_3_code (1 : Nat) (Option.some (Jvm.ClassFile.FieldType.object "java/lang/String"))) ∈ lw_all := lw_g (lw_at lw_m5 139 rfl) rfl
theorem q1198 : (Jvm.Cond.stringRef "IdealCourt$Degree" (17 : Nat) "degree") ∈ lw_tbl := lw_at lw_m5 140 rfl
theorem q2486 : (Jvm.Cond.castable "IdealCourt$Degree" "IdealCourt$Lex") ∈ lw_tbl := lw_at lw_m10 228 rfl
theorem in_X10 : ∀ w ∈ wsX100, w ∈ lw_all := lw_in wsX100 [455] (by decide +kernel) (by decide +kernel)
