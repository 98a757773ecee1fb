/-! IdealCourt$Block -/
set_option maxRecDepth 100000
def RX12 : String := "IdealCourt$Block"
def TX12 : u_T := fun k => match k with
  | 0 => ("IdealCourt$Lex", "terms", "LIdealCourt$Terms;", true)
  | _ => ("IdealCourt$Block", "first", "I", true)
def tyX12 : Nat → FieldType := fun k => match k with
  | 0 => .object "IdealCourt$Terms"
  | _ => .int
abbrev wsX120 : List Cond := u_ws RX12 TX12 2
theorem nmX12 : ∀ a, a < 2 → ∀ b, b < 2 → a ≠ b → (TX12 a).2.1 ≠ (TX12 b).2.1 := by decide +kernel
theorem tyX12_ok : ∀ k, k < 2 → parseFieldDescriptor (TX12 k).2.2.1 = some (tyX12 k) := by decide +kernel
abbrev cX12_init : ByteArray := prog_2_method_1_code
def yX12_init : MethodName := ⟨RX12, "<init>", "(LIdealCourt$Terms;I)V"⟩
def dkwX12_init_0 : List UInt8 := [42, 43, 183, 0, 1, 42, 28, 181, 0, 7, 177]
abbrev dktX12_init_0 : List UInt8 := dkwX12_init_0 ++ []
theorem dksX12_init_0 : cX12_init.data.toList.drop 0 = dktX12_init_0 := by decide +kernel
theorem dX12_init_0 : decode cX12_init 0 = .ok (.aload_n 0, 1) := dk_42 (dk_at dksX12_init_0 0 rfl rfl)
theorem dX12_init_1 : decode cX12_init 1 = .ok (.aload_n 1, 1) := dk_43 (dk_at dksX12_init_0 1 rfl rfl)
theorem dX12_init_2 : decode cX12_init 2 = .ok (.invokespecial 1, 3) := dk_183 0 1 (dk_at dksX12_init_0 2 rfl rfl)
theorem dX12_init_5 : decode cX12_init 5 = .ok (.aload_n 0, 1) := dk_42 (dk_at dksX12_init_0 5 rfl rfl)
theorem dX12_init_6 : decode cX12_init 6 = .ok (.iload_n 2, 1) := dk_28 (dk_at dksX12_init_0 6 rfl rfl)
theorem dX12_init_7 : decode cX12_init 7 = .ok (.putfield 7, 3) := dk_181 0 7 (dk_at dksX12_init_0 7 rfl rfl)
theorem dX12_init_10 : decode cX12_init 10 = .ok (.return_, 1) := dk_177 (dk_at dksX12_init_0 10 rfl rfl)
abbrev cX12_rank : ByteArray := prog_2_method_2_code
def yX12_rank : MethodName := ⟨RX12, "rank", "(II)I"⟩
def dkwX12_rank_1 : List UInt8 := [180, 0, 7, 6, 27, 28, 183, 0, 13, 172]
abbrev dktX12_rank_1 : List UInt8 := dkwX12_rank_1 ++ []
def dkwX12_rank_0 : List UInt8 := [42, 3, 42, 180, 0, 7, 27, 28, 183, 0, 13, 62, 29, 153, 0, 7, 29, 167, 0, 14, 42, 42]
abbrev dktX12_rank_0 : List UInt8 := dkwX12_rank_0 ++ dktX12_rank_1
theorem dksX12_rank_0 : cX12_rank.data.toList.drop 0 = dktX12_rank_0 := by decide +kernel
theorem dksX12_rank_1 : cX12_rank.data.toList.drop 22 = dktX12_rank_1 := dk_seg dksX12_rank_0 22 rfl rfl
theorem dX12_rank_0 : decode cX12_rank 0 = .ok (.aload_n 0, 1) := dk_42 (dk_at dksX12_rank_0 0 rfl rfl)
theorem dX12_rank_1 : decode cX12_rank 1 = .ok (.iconst 0, 1) := dk_3 (dk_at dksX12_rank_0 1 rfl rfl)
theorem dX12_rank_2 : decode cX12_rank 2 = .ok (.aload_n 0, 1) := dk_42 (dk_at dksX12_rank_0 2 rfl rfl)
theorem dX12_rank_3 : decode cX12_rank 3 = .ok (.getfield 7, 3) := dk_180 0 7 (dk_at dksX12_rank_0 3 rfl rfl)
theorem dX12_rank_6 : decode cX12_rank 6 = .ok (.iload_n 1, 1) := dk_27 (dk_at dksX12_rank_0 6 rfl rfl)
theorem dX12_rank_7 : decode cX12_rank 7 = .ok (.iload_n 2, 1) := dk_28 (dk_at dksX12_rank_0 7 rfl rfl)
theorem dX12_rank_8 : decode cX12_rank 8 = .ok (.invokespecial 13, 3) := dk_183 0 13 (dk_at dksX12_rank_0 8 rfl rfl)
theorem dX12_rank_11 : decode cX12_rank 11 = .ok (.istore_n 3, 1) := dk_62 (dk_at dksX12_rank_0 11 rfl rfl)
theorem dX12_rank_12 : decode cX12_rank 12 = .ok (.iload_n 3, 1) := dk_29 (dk_at dksX12_rank_0 12 rfl rfl)
theorem dX12_rank_13 : decode cX12_rank 13 = .ok (.ifCond .eq 7, 3) := dk_153 0 7 (dk_at dksX12_rank_0 13 rfl rfl)
theorem dX12_rank_16 : decode cX12_rank 16 = .ok (.iload_n 3, 1) := dk_29 (dk_at dksX12_rank_0 16 rfl rfl)
theorem dX12_rank_17 : decode cX12_rank 17 = .ok (.goto 14, 3) := dk_167 0 14 (dk_at dksX12_rank_0 17 rfl rfl)
theorem dX12_rank_20 : decode cX12_rank 20 = .ok (.aload_n 0, 1) := dk_42 (dk_at dksX12_rank_0 20 rfl rfl)
theorem dX12_rank_21 : decode cX12_rank 21 = .ok (.aload_n 0, 1) := dk_42 (dk_at dksX12_rank_0 21 rfl rfl)
theorem dX12_rank_22 : decode cX12_rank 22 = .ok (.getfield 7, 3) := dk_180 0 7 (dk_at dksX12_rank_1 0 rfl rfl)
theorem dX12_rank_25 : decode cX12_rank 25 = .ok (.iconst 3, 1) := dk_6 (dk_at dksX12_rank_1 3 rfl rfl)
theorem dX12_rank_26 : decode cX12_rank 26 = .ok (.iload_n 1, 1) := dk_27 (dk_at dksX12_rank_1 4 rfl rfl)
theorem dX12_rank_27 : decode cX12_rank 27 = .ok (.iload_n 2, 1) := dk_28 (dk_at dksX12_rank_1 5 rfl rfl)
theorem dX12_rank_28 : decode cX12_rank 28 = .ok (.invokespecial 13, 3) := dk_183 0 13 (dk_at dksX12_rank_1 6 rfl rfl)
theorem dX12_rank_31 : decode cX12_rank 31 = .ok (.ireturn, 1) := dk_172 (dk_at dksX12_rank_1 9 rfl rfl)
abbrev cX12_weight : ByteArray := prog_2_method_4_code
def yX12_weight : MethodName := ⟨RX12, "weight", "(IIII)I"⟩
def dkwX12_weight_1 : List UInt8 := [29, 21, 4, 183, 0, 31, 172]
abbrev dktX12_weight_1 : List UInt8 := dkwX12_weight_1 ++ []
def dkwX12_weight_0 : List UInt8 := [28, 27, 100, 4, 160, 0, 17, 42, 180, 0, 21, 27, 29, 21, 4, 182, 0, 25, 167, 0, 12, 42, 27, 28]
abbrev dktX12_weight_0 : List UInt8 := dkwX12_weight_0 ++ dktX12_weight_1
theorem dksX12_weight_0 : cX12_weight.data.toList.drop 0 = dktX12_weight_0 := by decide +kernel
theorem dksX12_weight_1 : cX12_weight.data.toList.drop 24 = dktX12_weight_1 := dk_seg dksX12_weight_0 24 rfl rfl
theorem dX12_weight_0 : decode cX12_weight 0 = .ok (.iload_n 2, 1) := dk_28 (dk_at dksX12_weight_0 0 rfl rfl)
theorem dX12_weight_1 : decode cX12_weight 1 = .ok (.iload_n 1, 1) := dk_27 (dk_at dksX12_weight_0 1 rfl rfl)
theorem dX12_weight_2 : decode cX12_weight 2 = .ok (.isub, 1) := dk_100 (dk_at dksX12_weight_0 2 rfl rfl)
theorem dX12_weight_3 : decode cX12_weight 3 = .ok (.iconst 1, 1) := dk_4 (dk_at dksX12_weight_0 3 rfl rfl)
theorem dX12_weight_4 : decode cX12_weight 4 = .ok (.if_icmp .ne 17, 3) := dk_160 0 17 (dk_at dksX12_weight_0 4 rfl rfl)
theorem dX12_weight_7 : decode cX12_weight 7 = .ok (.aload_n 0, 1) := dk_42 (dk_at dksX12_weight_0 7 rfl rfl)
theorem dX12_weight_8 : decode cX12_weight 8 = .ok (.getfield 21, 3) := dk_180 0 21 (dk_at dksX12_weight_0 8 rfl rfl)
theorem dX12_weight_11 : decode cX12_weight 11 = .ok (.iload_n 1, 1) := dk_27 (dk_at dksX12_weight_0 11 rfl rfl)
theorem dX12_weight_12 : decode cX12_weight 12 = .ok (.iload_n 3, 1) := dk_29 (dk_at dksX12_weight_0 12 rfl rfl)
theorem dX12_weight_13 : decode cX12_weight 13 = .ok (.iload 4, 2) := dk_21 4 (dk_at dksX12_weight_0 13 rfl rfl)
theorem dX12_weight_15 : decode cX12_weight 15 = .ok (.invokevirtual 25, 3) := dk_182 0 25 (dk_at dksX12_weight_0 15 rfl rfl)
theorem dX12_weight_18 : decode cX12_weight 18 = .ok (.goto 12, 3) := dk_167 0 12 (dk_at dksX12_weight_0 18 rfl rfl)
theorem dX12_weight_21 : decode cX12_weight 21 = .ok (.aload_n 0, 1) := dk_42 (dk_at dksX12_weight_0 21 rfl rfl)
theorem dX12_weight_22 : decode cX12_weight 22 = .ok (.iload_n 1, 1) := dk_27 (dk_at dksX12_weight_0 22 rfl rfl)
theorem dX12_weight_23 : decode cX12_weight 23 = .ok (.iload_n 2, 1) := dk_28 (dk_at dksX12_weight_0 23 rfl rfl)
theorem dX12_weight_24 : decode cX12_weight 24 = .ok (.iload_n 3, 1) := dk_29 (dk_at dksX12_weight_1 0 rfl rfl)
theorem dX12_weight_25 : decode cX12_weight 25 = .ok (.iload 4, 2) := dk_21 4 (dk_at dksX12_weight_1 1 rfl rfl)
theorem dX12_weight_27 : decode cX12_weight 27 = .ok (.invokespecial 31, 3) := dk_183 0 31 (dk_at dksX12_weight_1 3 rfl rfl)
theorem dX12_weight_30 : decode cX12_weight 30 = .ok (.ireturn, 1) := dk_172 (dk_at dksX12_weight_1 6 rfl rfl)
abbrev cX12_name : ByteArray := prog_2_method_3_code
def yX12_name : MethodName := ⟨RX12, "name", "()Ljava/lang/String;"⟩
def dkwX12_name_0 : List UInt8 := [42, 180, 0, 7, 4, 160, 0, 8, 18, 17, 167, 0, 5, 18, 19, 176]
abbrev dktX12_name_0 : List UInt8 := dkwX12_name_0 ++ []
theorem dksX12_name_0 : cX12_name.data.toList.drop 0 = dktX12_name_0 := by decide +kernel
theorem dX12_name_0 : decode cX12_name 0 = .ok (.aload_n 0, 1) := dk_42 (dk_at dksX12_name_0 0 rfl rfl)
theorem dX12_name_1 : decode cX12_name 1 = .ok (.getfield 7, 3) := dk_180 0 7 (dk_at dksX12_name_0 1 rfl rfl)
theorem dX12_name_4 : decode cX12_name 4 = .ok (.iconst 1, 1) := dk_4 (dk_at dksX12_name_0 4 rfl rfl)
theorem dX12_name_5 : decode cX12_name 5 = .ok (.if_icmp .ne 8, 3) := dk_160 0 8 (dk_at dksX12_name_0 5 rfl rfl)
theorem dX12_name_8 : decode cX12_name 8 = .ok (.ldc 17, 2) := dk_18 17 (dk_at dksX12_name_0 8 rfl rfl)
theorem dX12_name_10 : decode cX12_name 10 = .ok (.goto 5, 3) := dk_167 0 5 (dk_at dksX12_name_0 10 rfl rfl)
theorem dX12_name_13 : decode cX12_name 13 = .ok (.ldc 19, 2) := dk_18 19 (dk_at dksX12_name_0 13 rfl rfl)
theorem dX12_name_15 : decode cX12_name 15 = .ok (.areturn, 1) := dk_176 (dk_at dksX12_name_0 15 rfl rfl)
theorem q111 : (Jvm.Cond.initialized "IdealCourt$Block") ∈ lw_all := lw_g (lw_at lw_m1 13 rfl) rfl
theorem q441 : (Jvm.Cond.fieldLink "IdealCourt$Block" (21 : Nat) "IdealCourt$Block" "terms" "LIdealCourt$Terms;") ∈ lw_all := lw_g (lw_at lw_m2 103 rfl) rfl
theorem q442 : (Jvm.Cond.sameField "IdealCourt$Block" "IdealCourt$Lex" "terms" "LIdealCourt$Terms;") ∈ lw_all := lw_g (lw_at lw_m2 104 rfl) rfl
theorem q466 : (Jvm.Cond.instantiable "IdealCourt$Block" (2 : Nat)) ∈ lw_all := lw_g (lw_at lw_m2 128 rfl) rfl
theorem q468 : (Jvm.Cond.instanceMethod ({ cls := "IdealCourt$Block", name := "<init>", desc := "(LIdealCourt$Terms;I)V" } : Jvm.MethodName)) ∈ lw_all := lw_g (lw_at lw_m2 130 rfl) rfl
theorem q469 : (Jvm.Cond.code ({ cls := "IdealCourt$Block", name := "<init>", desc := "(LIdealCourt$Terms;I)V" } : Jvm.MethodName) prog_2_method_1_code (3 : Nat) (Option.none : Option Jvm.ClassFile.FieldType)) ∈ lw_all := lw_g (lw_at lw_m2 131 rfl) rfl
theorem q470 : (Jvm.Cond.methodLink "IdealCourt$Block" (1 : Nat) ({ cls := "IdealCourt$Reverse", name := "<init>", desc := "(LIdealCourt$Terms;)V" } : Jvm.MethodName)) ∈ lw_all := lw_g (lw_at lw_m2 132 rfl) rfl
theorem q471 : (Jvm.Cond.fieldLink "IdealCourt$Block" (7 : Nat) "IdealCourt$Block" "first" "I") ∈ lw_all := lw_g (lw_at lw_m2 133 rfl) rfl
theorem q472 : (Jvm.Cond.laysFinal "IdealCourt$Block" "IdealCourt$Block" "first" "I") ∈ lw_all := lw_g (lw_at lw_m2 134 rfl) rfl
theorem q473 : (Jvm.Cond.soleField "IdealCourt$Block" "first") ∈ lw_all := lw_g (lw_at lw_m2 135 rfl) rfl
theorem q474 : (Jvm.Cond.laysFinal "IdealCourt$Block" "IdealCourt$Lex" "terms" "LIdealCourt$Terms;") ∈ lw_all := lw_g (lw_at lw_m2 136 rfl) rfl
theorem q475 : (Jvm.Cond.superclass "IdealCourt$Block" "IdealCourt$Reverse") ∈ lw_all := lw_g (lw_at lw_m2 137 rfl) rfl
theorem q848 : (Jvm.Cond.castable "IdealCourt$Block" "IdealCourt$Thing") ∈ lw_tbl := lw_at lw_m4 30 rfl
theorem q849 : (Jvm.Cond.selects "IdealCourt$Block" ({ cls := "IdealCourt$Thing", name := "kind", desc := "()I" } : Jvm.MethodName) ({ cls := "IdealCourt$Lex", name := "kind", desc := "()I" } : Jvm.MethodName)) ∈ lw_all := lw_g (lw_at lw_m4 31 rfl) rfl
theorem q850 : (Jvm.Cond.unhidden "IdealCourt$Block" "kind" "()I") ∈ lw_tbl := lw_at lw_m4 32 rfl
theorem q1095 : (Jvm.Cond.castable "IdealCourt$Block" "IdealCourt$Ranks") ∈ lw_tbl := lw_at lw_m5 37 rfl
theorem q1096 : (Jvm.Cond.selects "IdealCourt$Block" ({ cls := "IdealCourt$Ranks", name := "rank", desc := "(II)I" } : Jvm.MethodName) ({ cls := "IdealCourt$Block", name := "rank", desc := "(II)I" } : Jvm.MethodName)) ∈ lw_all := lw_g (lw_at lw_m5 38 rfl) rfl
theorem q1097 : (Jvm.Cond.unhidden "IdealCourt$Block" "rank" "(II)I") ∈ lw_tbl := lw_at lw_m5 39 rfl
theorem q1098 : (Jvm.Cond.instanceMethod ({ cls := "IdealCourt$Block", name := "rank", desc := "(II)I" } : Jvm.MethodName)) ∈ lw_all := lw_g (lw_at lw_m5 40 rfl) rfl
theorem q1099 : (Jvm.Cond.publicMethod ({ cls := "IdealCourt$Block", name := "rank", desc := "(II)I" } : Jvm.MethodName)) ∈ lw_tbl := lw_at lw_m5 41 rfl
theorem q1100 : (Jvm.Cond.code ({ cls := "IdealCourt$Block", name := "rank", desc := "(II)I" } : Jvm.MethodName) prog_2_method_2_code (4 : Nat) (Option.some Jvm.ClassFile.FieldType.int)) ∈ lw_all := lw_g (lw_at lw_m5 42 rfl) rfl
theorem q1101 : (Jvm.Cond.methodLink "IdealCourt$Block" (13 : Nat) ({ cls := "IdealCourt$Reverse", name := "among", desc := "(IIII)I" } : Jvm.MethodName)) ∈ lw_all := lw_g (lw_at lw_m5 43 rfl) rfl
theorem q1115 : (Jvm.Cond.selects "IdealCourt$Block" ({ cls := "IdealCourt$Reverse", name := "weight", desc := "(IIII)I" } : Jvm.MethodName) ({ cls := "IdealCourt$Block", name := "weight", desc := "(IIII)I" } : Jvm.MethodName)) ∈ lw_all := lw_g (lw_at lw_m5 57 rfl) rfl
theorem q1116 : (Jvm.Cond.instanceMethod ({ cls := "IdealCourt$Block", name := "weight", desc := "(IIII)I" } : Jvm.MethodName)) ∈ lw_all := lw_g (lw_at lw_m5 58 rfl) rfl
theorem q1117 : (Jvm.Cond.code ({ cls := "IdealCourt$Block", name := "weight", desc := "(IIII)I" } : Jvm.MethodName) prog_2_method_4_code (5 : Nat) (Option.some Jvm.ClassFile.FieldType.int)) ∈ lw_all := lw_g (lw_at lw_m5 59 rfl) rfl
theorem q1118 : (Jvm.Cond.methodLink "IdealCourt$Block" (25 : Nat) ({ cls := "IdealCourt$Terms", name := "more", desc := "(III)I" } : Jvm.MethodName)) ∈ lw_all := lw_g (lw_at lw_m5 60 rfl) rfl
theorem q1119 : (Jvm.Cond.methodLink "IdealCourt$Block" (31 : Nat) ({ cls := "IdealCourt$Reverse", name := "weight", desc := "(IIII)I" } : Jvm.MethodName)) ∈ lw_all := lw_g (lw_at lw_m5 61 rfl) rfl
theorem q1129 : (Jvm.Cond.selects "IdealCourt$Block" ({ cls := "IdealCourt$Degree", name := "weight", desc := "(IIII)I" } : Jvm.MethodName) ({ cls := "IdealCourt$Block", name := "weight", desc := "(IIII)I" } : Jvm.MethodName)) ∈ lw_all := lw_g (lw_at lw_m5 71 rfl) rfl
theorem q1184 : (Jvm.Cond.castable "IdealCourt$Block" "IdealCourt$Told") ∈ lw_tbl := lw_at lw_m5 126 rfl
theorem q1185 : (Jvm.Cond.selects "IdealCourt$Block" ({ cls := "IdealCourt$Told", name := "name", desc := "()Ljava/lang/String;" } : Jvm.MethodName) ({ cls := "IdealCourt$Block", name := "name", desc := "()Ljava/lang/String;" } : Jvm.MethodName)) ∈ lw_all := lw_g (lw_at lw_m5 127 rfl) rfl
theorem q1186 : (Jvm.Cond.unhidden "IdealCourt$Block" "name" "()Ljava/lang/String;") ∈ lw_tbl := lw_at lw_m5 128 rfl
theorem q1187 : (Jvm.Cond.instanceMethod ({ cls := "IdealCourt$Block", name := "name", desc := "()Ljava/lang/String;" } : Jvm.MethodName)) ∈ lw_all := lw_g (lw_at lw_m5 129 rfl) rfl
theorem q1188 : (Jvm.Cond.publicMethod ({ cls := "IdealCourt$Block", name := "name", desc := "()Ljava/lang/String;" } : Jvm.MethodName)) ∈ lw_tbl := lw_at lw_m5 130 rfl
theorem q1189 : (Jvm.Cond.code ({ cls := "IdealCourt$Block", name := "name", desc := "()Ljava/lang/String;" } : Jvm.MethodName) prog_2_method_3_code (1 : Nat) (Option.some (Jvm.ClassFile.FieldType.object "java/lang/String"))) ∈ lw_all := lw_g (lw_at lw_m5 131 rfl) rfl
theorem q1190 : (Jvm.Cond.stringRef "IdealCourt$Block" (17 : Nat) "block1") ∈ lw_tbl := lw_at lw_m5 132 rfl
theorem q1191 : (Jvm.Cond.stringRef "IdealCourt$Block" (19 : Nat) "block2") ∈ lw_tbl := lw_at lw_m5 133 rfl
theorem q2482 : (Jvm.Cond.selects "IdealCourt$Block" ({ cls := "IdealCourt$Reverse", name := "among", desc := "(IIII)I" } : Jvm.MethodName) ({ cls := "IdealCourt$Reverse", name := "among", desc := "(IIII)I" } : Jvm.MethodName)) ∈ lw_all := lw_g (lw_at lw_m10 224 rfl) rfl
theorem q2485 : (Jvm.Cond.castable "IdealCourt$Block" "IdealCourt$Lex") ∈ lw_tbl := lw_at lw_m10 227 rfl
theorem in_X12 : ∀ w ∈ wsX120, w ∈ lw_all := lw_in wsX120 [474, 472] (by decide +kernel) (by decide +kernel)
