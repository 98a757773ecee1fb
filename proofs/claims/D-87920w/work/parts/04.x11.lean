/-! IdealCourt$Reverse -/
set_option maxRecDepth 100000
def RX11 : String := "IdealCourt$Reverse"
def TX11 : u_T := fun k => match k with
  | _ => ("IdealCourt$Lex", "terms", "LIdealCourt$Terms;", true)
def tyX11 : Nat → FieldType := fun k => match k with
  | _ => .object "IdealCourt$Terms"
abbrev wsX110 : List Cond := u_ws RX11 TX11 1
theorem nmX11 : ∀ a, a < 1 → ∀ b, b < 1 → a ≠ b → (TX11 a).2.1 ≠ (TX11 b).2.1 := by decide +kernel
theorem tyX11_ok : ∀ k, k < 1 → parseFieldDescriptor (TX11 k).2.2.1 = some (tyX11 k) := by decide +kernel
abbrev cX11_init : ByteArray := prog_13_method_1_code
def yX11_init : MethodName := ⟨RX11, "<init>", "(LIdealCourt$Terms;)V"⟩
def dkwX11_init_0 : List UInt8 := [42, 43, 183, 0, 1, 177]
abbrev dktX11_init_0 : List UInt8 := dkwX11_init_0 ++ []
theorem dksX11_init_0 : cX11_init.data.toList.drop 0 = dktX11_init_0 := by decide +kernel
theorem dX11_init_0 : decode cX11_init 0 = .ok (.aload_n 0, 1) := dk_42 (dk_at dksX11_init_0 0 rfl rfl)
theorem dX11_init_1 : decode cX11_init 1 = .ok (.aload_n 1, 1) := dk_43 (dk_at dksX11_init_0 1 rfl rfl)
theorem dX11_init_2 : decode cX11_init 2 = .ok (.invokespecial 1, 3) := dk_183 0 1 (dk_at dksX11_init_0 2 rfl rfl)
theorem dX11_init_5 : decode cX11_init 5 = .ok (.return_, 1) := dk_177 (dk_at dksX11_init_0 5 rfl rfl)
abbrev cX11_among : ByteArray := prog_13_method_4_code
def yX11_among : MethodName := ⟨RX11, "among", "(IIII)I"⟩
def dkwX11_among_2 : List UInt8 := [180, 0, 19, 21, 6, 29, 21, 4, 182, 0, 23, 116, 54, 5, 132, 6, 255, 167, 255, 227, 21, 5, 172]
abbrev dktX11_among_2 : List UInt8 := dkwX11_among_2 ++ []
def dkwX11_among_1 : List UInt8 := [21, 4, 182, 0, 18, 54, 5, 28, 4, 100, 54, 6, 21, 6, 27, 164, 0, 29, 21, 5, 154, 0, 24, 42]
abbrev dktX11_among_1 : List UInt8 := dkwX11_among_1 ++ dktX11_among_2
def dkwX11_among_0 : List UInt8 := [28, 27, 100, 6, 160, 0, 15, 42, 3, 6, 29, 21, 4, 183, 0, 15, 167, 0, 12, 42, 27, 28, 29]
abbrev dktX11_among_0 : List UInt8 := dkwX11_among_0 ++ dktX11_among_1
theorem dksX11_among_0 : cX11_among.data.toList.drop 0 = dktX11_among_0 := by decide +kernel
theorem dksX11_among_1 : cX11_among.data.toList.drop 23 = dktX11_among_1 := dk_seg dksX11_among_0 23 rfl rfl
theorem dksX11_among_2 : cX11_among.data.toList.drop 47 = dktX11_among_2 := dk_seg dksX11_among_1 24 rfl rfl
theorem dX11_among_0 : decode cX11_among 0 = .ok (.iload_n 2, 1) := dk_28 (dk_at dksX11_among_0 0 rfl rfl)
theorem dX11_among_1 : decode cX11_among 1 = .ok (.iload_n 1, 1) := dk_27 (dk_at dksX11_among_0 1 rfl rfl)
theorem dX11_among_2 : decode cX11_among 2 = .ok (.isub, 1) := dk_100 (dk_at dksX11_among_0 2 rfl rfl)
theorem dX11_among_3 : decode cX11_among 3 = .ok (.iconst 3, 1) := dk_6 (dk_at dksX11_among_0 3 rfl rfl)
theorem dX11_among_4 : decode cX11_among 4 = .ok (.if_icmp .ne 15, 3) := dk_160 0 15 (dk_at dksX11_among_0 4 rfl rfl)
theorem dX11_among_7 : decode cX11_among 7 = .ok (.aload_n 0, 1) := dk_42 (dk_at dksX11_among_0 7 rfl rfl)
theorem dX11_among_8 : decode cX11_among 8 = .ok (.iconst 0, 1) := dk_3 (dk_at dksX11_among_0 8 rfl rfl)
theorem dX11_among_9 : decode cX11_among 9 = .ok (.iconst 3, 1) := dk_6 (dk_at dksX11_among_0 9 rfl rfl)
theorem dX11_among_10 : decode cX11_among 10 = .ok (.iload_n 3, 1) := dk_29 (dk_at dksX11_among_0 10 rfl rfl)
theorem dX11_among_11 : decode cX11_among 11 = .ok (.iload 4, 2) := dk_21 4 (dk_at dksX11_among_0 11 rfl rfl)
theorem dX11_among_13 : decode cX11_among 13 = .ok (.invokespecial 15, 3) := dk_183 0 15 (dk_at dksX11_among_0 13 rfl rfl)
theorem dX11_among_16 : decode cX11_among 16 = .ok (.goto 12, 3) := dk_167 0 12 (dk_at dksX11_among_0 16 rfl rfl)
theorem dX11_among_19 : decode cX11_among 19 = .ok (.aload_n 0, 1) := dk_42 (dk_at dksX11_among_0 19 rfl rfl)
theorem dX11_among_20 : decode cX11_among 20 = .ok (.iload_n 1, 1) := dk_27 (dk_at dksX11_among_0 20 rfl rfl)
theorem dX11_among_21 : decode cX11_among 21 = .ok (.iload_n 2, 1) := dk_28 (dk_at dksX11_among_0 21 rfl rfl)
theorem dX11_among_22 : decode cX11_among 22 = .ok (.iload_n 3, 1) := dk_29 (dk_at dksX11_among_0 22 rfl rfl)
theorem dX11_among_23 : decode cX11_among 23 = .ok (.iload 4, 2) := dk_21 4 (dk_at dksX11_among_1 0 rfl rfl)
theorem dX11_among_25 : decode cX11_among 25 = .ok (.invokevirtual 18, 3) := dk_182 0 18 (dk_at dksX11_among_1 2 rfl rfl)
theorem dX11_among_28 : decode cX11_among 28 = .ok (.istore 5, 2) := dk_54 5 (dk_at dksX11_among_1 5 rfl rfl)
theorem dX11_among_30 : decode cX11_among 30 = .ok (.iload_n 2, 1) := dk_28 (dk_at dksX11_among_1 7 rfl rfl)
theorem dX11_among_31 : decode cX11_among 31 = .ok (.iconst 1, 1) := dk_4 (dk_at dksX11_among_1 8 rfl rfl)
theorem dX11_among_32 : decode cX11_among 32 = .ok (.isub, 1) := dk_100 (dk_at dksX11_among_1 9 rfl rfl)
theorem dX11_among_33 : decode cX11_among 33 = .ok (.istore 6, 2) := dk_54 6 (dk_at dksX11_among_1 10 rfl rfl)
theorem dX11_among_35 : decode cX11_among 35 = .ok (.iload 6, 2) := dk_21 6 (dk_at dksX11_among_1 12 rfl rfl)
theorem dX11_among_37 : decode cX11_among 37 = .ok (.iload_n 1, 1) := dk_27 (dk_at dksX11_among_1 14 rfl rfl)
theorem dX11_among_38 : decode cX11_among 38 = .ok (.if_icmp .le 29, 3) := dk_164 0 29 (dk_at dksX11_among_1 15 rfl rfl)
theorem dX11_among_41 : decode cX11_among 41 = .ok (.iload 5, 2) := dk_21 5 (dk_at dksX11_among_1 18 rfl rfl)
theorem dX11_among_43 : decode cX11_among 43 = .ok (.ifCond .ne 24, 3) := dk_154 0 24 (dk_at dksX11_among_1 20 rfl rfl)
theorem dX11_among_46 : decode cX11_among 46 = .ok (.aload_n 0, 1) := dk_42 (dk_at dksX11_among_1 23 rfl rfl)
theorem dX11_among_47 : decode cX11_among 47 = .ok (.getfield 19, 3) := dk_180 0 19 (dk_at dksX11_among_2 0 rfl rfl)
theorem dX11_among_50 : decode cX11_among 50 = .ok (.iload 6, 2) := dk_21 6 (dk_at dksX11_among_2 3 rfl rfl)
theorem dX11_among_52 : decode cX11_among 52 = .ok (.iload_n 3, 1) := dk_29 (dk_at dksX11_among_2 5 rfl rfl)
theorem dX11_among_53 : decode cX11_among 53 = .ok (.iload 4, 2) := dk_21 4 (dk_at dksX11_among_2 6 rfl rfl)
theorem dX11_among_55 : decode cX11_among 55 = .ok (.invokevirtual 23, 3) := dk_182 0 23 (dk_at dksX11_among_2 8 rfl rfl)
theorem dX11_among_58 : decode cX11_among 58 = .ok (.ineg, 1) := dk_116 (dk_at dksX11_among_2 11 rfl rfl)
theorem dX11_among_59 : decode cX11_among 59 = .ok (.istore 5, 2) := dk_54 5 (dk_at dksX11_among_2 12 rfl rfl)
theorem dX11_among_61 : decode cX11_among 61 = .ok (.iinc 6 (-1), 3) := dk_132 6 255 (dk_at dksX11_among_2 14 rfl rfl)
theorem dX11_among_64 : decode cX11_among 64 = .ok (.goto (-29), 3) := dk_167 255 227 (dk_at dksX11_among_2 17 rfl rfl)
theorem dX11_among_67 : decode cX11_among 67 = .ok (.iload 5, 2) := dk_21 5 (dk_at dksX11_among_2 20 rfl rfl)
theorem dX11_among_69 : decode cX11_among 69 = .ok (.ireturn, 1) := dk_172 (dk_at dksX11_among_2 22 rfl rfl)
abbrev cX11_rank : ByteArray := prog_13_method_2_code
def yX11_rank : MethodName := ⟨RX11, "rank", "(II)I"⟩
def dkwX11_rank_0 : List UInt8 := [42, 3, 6, 27, 28, 182, 0, 7, 172]
abbrev dktX11_rank_0 : List UInt8 := dkwX11_rank_0 ++ []
theorem dksX11_rank_0 : cX11_rank.data.toList.drop 0 = dktX11_rank_0 := by decide +kernel
theorem dX11_rank_0 : decode cX11_rank 0 = .ok (.aload_n 0, 1) := dk_42 (dk_at dksX11_rank_0 0 rfl rfl)
theorem dX11_rank_1 : decode cX11_rank 1 = .ok (.iconst 0, 1) := dk_3 (dk_at dksX11_rank_0 1 rfl rfl)
theorem dX11_rank_2 : decode cX11_rank 2 = .ok (.iconst 3, 1) := dk_6 (dk_at dksX11_rank_0 2 rfl rfl)
theorem dX11_rank_3 : decode cX11_rank 3 = .ok (.iload_n 1, 1) := dk_27 (dk_at dksX11_rank_0 3 rfl rfl)
theorem dX11_rank_4 : decode cX11_rank 4 = .ok (.iload_n 2, 1) := dk_28 (dk_at dksX11_rank_0 4 rfl rfl)
theorem dX11_rank_5 : decode cX11_rank 5 = .ok (.invokevirtual 7, 3) := dk_182 0 7 (dk_at dksX11_rank_0 5 rfl rfl)
theorem dX11_rank_8 : decode cX11_rank 8 = .ok (.ireturn, 1) := dk_172 (dk_at dksX11_rank_0 8 rfl rfl)
abbrev cX11_name : ByteArray := prog_13_method_3_code
def yX11_name : MethodName := ⟨RX11, "name", "()Ljava/lang/String;"⟩
theorem dX11_name_0 : decode cX11_name 0 = .ok (.ldc 13, 2) := by decide +kernel
theorem dX11_name_2 : decode cX11_name 2 = .ok (.areturn, 1) := by decide +kernel
theorem q110 : (Jvm.Cond.initialized "IdealCourt$Reverse") ∈ lw_all := lw_g (lw_at lw_m1 12 rfl) rfl
theorem q443 : (Jvm.Cond.fieldLink "IdealCourt$Reverse" (19 : Nat) "IdealCourt$Reverse" "terms" "LIdealCourt$Terms;") ∈ lw_all := lw_g (lw_at lw_m2 105 rfl) rfl
theorem q444 : (Jvm.Cond.sameField "IdealCourt$Reverse" "IdealCourt$Lex" "terms" "LIdealCourt$Terms;") ∈ lw_all := lw_g (lw_at lw_m2 106 rfl) rfl
theorem q458 : (Jvm.Cond.instantiable "IdealCourt$Reverse" (1 : Nat)) ∈ lw_all := lw_g (lw_at lw_m2 120 rfl) rfl
theorem q460 : (Jvm.Cond.instanceMethod ({ cls := "IdealCourt$Reverse", name := "<init>", desc := "(LIdealCourt$Terms;)V" } : Jvm.MethodName)) ∈ lw_all := lw_g (lw_at lw_m2 122 rfl) rfl
theorem q461 : (Jvm.Cond.code ({ cls := "IdealCourt$Reverse", name := "<init>", desc := "(LIdealCourt$Terms;)V" } : Jvm.MethodName) prog_13_method_1_code (2 : Nat) (Option.none : Option Jvm.ClassFile.FieldType)) ∈ lw_all := lw_g (lw_at lw_m2 123 rfl) rfl
theorem q462 : (Jvm.Cond.methodLink "IdealCourt$Reverse" (1 : Nat) ({ cls := "IdealCourt$Degree", name := "<init>", desc := "(LIdealCourt$Terms;)V" } : Jvm.MethodName)) ∈ lw_all := lw_g (lw_at lw_m2 124 rfl) rfl
theorem q463 : (Jvm.Cond.laysFinal "IdealCourt$Reverse" "IdealCourt$Lex" "terms" "LIdealCourt$Terms;") ∈ lw_all := lw_g (lw_at lw_m2 125 rfl) rfl
theorem q464 : (Jvm.Cond.superclass "IdealCourt$Reverse" "IdealCourt$Degree") ∈ lw_all := lw_g (lw_at lw_m2 126 rfl) rfl
theorem q878 : (Jvm.Cond.castable "IdealCourt$Reverse" "IdealCourt$Thing") ∈ lw_tbl := lw_at lw_m4 60 rfl
theorem q879 : (Jvm.Cond.selects "IdealCourt$Reverse" ({ cls := "IdealCourt$Thing", name := "kind", desc := "()I" } : Jvm.MethodName) ({ cls := "IdealCourt$Lex", name := "kind", desc := "()I" } : Jvm.MethodName)) ∈ lw_all := lw_g (lw_at lw_m4 61 rfl) rfl
theorem q880 : (Jvm.Cond.unhidden "IdealCourt$Reverse" "kind" "()I") ∈ lw_tbl := lw_at lw_m4 62 rfl
theorem q1102 : (Jvm.Cond.instanceMethod ({ cls := "IdealCourt$Reverse", name := "among", desc := "(IIII)I" } : Jvm.MethodName)) ∈ lw_all := lw_g (lw_at lw_m5 44 rfl) rfl
theorem q1103 : (Jvm.Cond.code ({ cls := "IdealCourt$Reverse", name := "among", desc := "(IIII)I" } : Jvm.MethodName) prog_13_method_4_code (7 : Nat) (Option.some Jvm.ClassFile.FieldType.int)) ∈ lw_all := lw_g (lw_at lw_m5 45 rfl) rfl
theorem q1104 : (Jvm.Cond.methodLink "IdealCourt$Reverse" (15 : Nat) ({ cls := "IdealCourt$Degree", name := "weight", desc := "(IIII)I" } : Jvm.MethodName)) ∈ lw_all := lw_g (lw_at lw_m5 46 rfl) rfl
theorem q1113 : (Jvm.Cond.methodLink "IdealCourt$Reverse" (18 : Nat) ({ cls := "IdealCourt$Reverse", name := "weight", desc := "(IIII)I" } : Jvm.MethodName)) ∈ lw_all := lw_g (lw_at lw_m5 55 rfl) rfl
theorem q1114 : (Jvm.Cond.sameMethod "IdealCourt$Reverse" "IdealCourt$Lex" "weight" "(IIII)I") ∈ lw_all := lw_g (lw_at lw_m5 56 rfl) rfl
theorem q1120 : (Jvm.Cond.selects "IdealCourt$Reverse" ({ cls := "IdealCourt$Reverse", name := "weight", desc := "(IIII)I" } : Jvm.MethodName) ({ cls := "IdealCourt$Lex", name := "weight", desc := "(IIII)I" } : Jvm.MethodName)) ∈ lw_all := lw_g (lw_at lw_m5 62 rfl) rfl
theorem q1121 : (Jvm.Cond.methodLink "IdealCourt$Reverse" (23 : Nat) ({ cls := "IdealCourt$Terms", name := "more", desc := "(III)I" } : Jvm.MethodName)) ∈ lw_all := lw_g (lw_at lw_m5 63 rfl) rfl
theorem q1131 : (Jvm.Cond.selects "IdealCourt$Reverse" ({ cls := "IdealCourt$Degree", name := "weight", desc := "(IIII)I" } : Jvm.MethodName) ({ cls := "IdealCourt$Lex", name := "weight", desc := "(IIII)I" } : Jvm.MethodName)) ∈ lw_all := lw_g (lw_at lw_m5 73 rfl) rfl
theorem q1139 : (Jvm.Cond.castable "IdealCourt$Reverse" "IdealCourt$Ranks") ∈ lw_tbl := lw_at lw_m5 81 rfl
theorem q1140 : (Jvm.Cond.selects "IdealCourt$Reverse" ({ cls := "IdealCourt$Ranks", name := "rank", desc := "(II)I" } : Jvm.MethodName) ({ cls := "IdealCourt$Reverse", name := "rank", desc := "(II)I" } : Jvm.MethodName)) ∈ lw_all := lw_g (lw_at lw_m5 82 rfl) rfl
theorem q1141 : (Jvm.Cond.unhidden "IdealCourt$Reverse" "rank" "(II)I") ∈ lw_tbl := lw_at lw_m5 83 rfl
theorem q1142 : (Jvm.Cond.instanceMethod ({ cls := "IdealCourt$Reverse", name := "rank", desc := "(II)I" } : Jvm.MethodName)) ∈ lw_all := lw_g (lw_at lw_m5 84 rfl) rfl
theorem q1143 : (Jvm.Cond.publicMethod ({ cls := "IdealCourt$Reverse", name := "rank", desc := "(II)I" } : Jvm.MethodName)) ∈ lw_tbl := lw_at lw_m5 85 rfl
theorem q1144 : (Jvm.Cond.code ({ cls := "IdealCourt$Reverse", name := "rank", desc := "(II)I" } : Jvm.MethodName) prog_13_method_2_code (3 : Nat) (Option.some Jvm.ClassFile.FieldType.int)) ∈ lw_all := lw_g (lw_at lw_m5 86 rfl) rfl
theorem q1145 : (Jvm.Cond.methodLink "IdealCourt$Reverse" (7 : Nat) ({ cls := "IdealCourt$Reverse", name := "among", desc := "(IIII)I" } : Jvm.MethodName)) ∈ lw_all := lw_g (lw_at lw_m5 87 rfl) rfl
theorem q1206 : (Jvm.Cond.castable "IdealCourt$Reverse" "IdealCourt$Told") ∈ lw_tbl := lw_at lw_m5 148 rfl
theorem q1207 : (Jvm.Cond.selects "IdealCourt$Reverse" ({ cls := "IdealCourt$Told", name := "name", desc := "()Ljava/lang/String;" } : Jvm.MethodName) ({ cls := "IdealCourt$Reverse", name := "name", desc := "()Ljava/lang/String;" } : Jvm.MethodName)) ∈ lw_all := lw_g (lw_at lw_m5 149 rfl) rfl
theorem q1208 : (Jvm.Cond.unhidden "IdealCourt$Reverse" "name" "()Ljava/lang/String;") ∈ lw_tbl := lw_at lw_m5 150 rfl
theorem q1209 : (Jvm.Cond.instanceMethod ({ cls := "IdealCourt$Reverse", name := "name", desc := "()Ljava/lang/String;" } : Jvm.MethodName)) ∈ lw_all := lw_g (lw_at lw_m5 151 rfl) rfl
theorem q1210 : (Jvm.Cond.publicMethod ({ cls := "IdealCourt$Reverse", name := "name", desc := "()Ljava/lang/String;" } : Jvm.MethodName)) ∈ lw_tbl := lw_at lw_m5 152 rfl
theorem q1211 : (Jvm.Cond.code ({ cls := "IdealCourt$Reverse", name := "name", desc := "()Ljava/lang/String;" } : Jvm.MethodName) prog_13_method_3_code (1 : Nat) (Option.some (Jvm.ClassFile.FieldType.object "java/lang/String"))) ∈ lw_all := lw_g (lw_at lw_m5 153 rfl) rfl
theorem q1212 : (Jvm.Cond.stringRef "IdealCourt$Reverse" (13 : Nat) "reverse") ∈ lw_tbl := lw_at lw_m5 154 rfl
theorem q2480 : (Jvm.Cond.sameMethod "IdealCourt$Reverse" "IdealCourt$Reverse" "among" "(IIII)I") ∈ lw_all := lw_g (lw_at lw_m10 222 rfl) rfl
theorem q2483 : (Jvm.Cond.selects "IdealCourt$Reverse" ({ cls := "IdealCourt$Reverse", name := "among", desc := "(IIII)I" } : Jvm.MethodName) ({ cls := "IdealCourt$Reverse", name := "among", desc := "(IIII)I" } : Jvm.MethodName)) ∈ lw_all := lw_g (lw_at lw_m10 225 rfl) rfl
theorem q2487 : (Jvm.Cond.castable "IdealCourt$Reverse" "IdealCourt$Lex") ∈ lw_tbl := lw_at lw_m10 229 rfl
theorem in_X11 : ∀ w ∈ wsX110, w ∈ lw_all := lw_in wsX110 [463] (by decide +kernel) (by decide +kernel)
