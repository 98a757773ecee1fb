/-! IdealCourt$Lex -/
set_option maxRecDepth 100000
def RX9 : String := "IdealCourt$Lex"
def TX9 : u_T := fun k => match k with
  | _ => ("IdealCourt$Lex", "terms", "LIdealCourt$Terms;", true)
def tyX9 : Nat → FieldType := fun k => match k with
  | _ => .object "IdealCourt$Terms"
abbrev wsX90 : List Cond := u_ws RX9 TX9 1
theorem nmX9 : ∀ a, a < 1 → ∀ b, b < 1 → a ≠ b → (TX9 a).2.1 ≠ (TX9 b).2.1 := by decide +kernel
theorem tyX9_ok : ∀ k, k < 1 → parseFieldDescriptor (TX9 k).2.2.1 = some (tyX9 k) := by decide +kernel
abbrev cX9_init : ByteArray := prog_7_method_1_code
def yX9_init : MethodName := ⟨RX9, "<init>", "(LIdealCourt$Terms;)V"⟩
def dkwX9_init_0 : List UInt8 := [42, 183, 0, 3, 42, 43, 181, 0, 9, 177]
abbrev dktX9_init_0 : List UInt8 := dkwX9_init_0 ++ []
theorem dksX9_init_0 : cX9_init.data.toList.drop 0 = dktX9_init_0 := by decide +kernel
theorem dX9_init_0 : decode cX9_init 0 = .ok (.aload_n 0, 1) := dk_42 (dk_at dksX9_init_0 0 rfl rfl)
theorem dX9_init_1 : decode cX9_init 1 = .ok (.invokespecial 3, 3) := dk_183 0 3 (dk_at dksX9_init_0 1 rfl rfl)
theorem dX9_init_4 : decode cX9_init 4 = .ok (.aload_n 0, 1) := dk_42 (dk_at dksX9_init_0 4 rfl rfl)
theorem dX9_init_5 : decode cX9_init 5 = .ok (.aload_n 1, 1) := dk_43 (dk_at dksX9_init_0 5 rfl rfl)
theorem dX9_init_6 : decode cX9_init 6 = .ok (.putfield 9, 3) := dk_181 0 9 (dk_at dksX9_init_0 6 rfl rfl)
theorem dX9_init_9 : decode cX9_init 9 = .ok (.return_, 1) := dk_177 (dk_at dksX9_init_0 9 rfl rfl)
abbrev cX9_kind : ByteArray := prog_7_method_2_code
def yX9_kind : MethodName := ⟨RX9, "kind", "()I"⟩
theorem dX9_kind_0 : decode cX9_kind 0 = .ok (.iconst 2, 1) := by decide +kernel
theorem dX9_kind_1 : decode cX9_kind 1 = .ok (.ireturn, 1) := by decide +kernel
abbrev cX9_weight : ByteArray := prog_7_method_5_code
def yX9_weight : MethodName := ⟨RX9, "weight", "(IIII)I"⟩
def dkwX9_weight_1 : List UInt8 := [182, 0, 15, 96, 54, 5, 132, 6, 1, 167, 255, 230, 21, 5, 172]
abbrev dktX9_weight_1 : List UInt8 := dkwX9_weight_1 ++ []
def dkwX9_weight_0 : List UInt8 := [3, 54, 5, 27, 54, 6, 21, 6, 28, 162, 0, 26, 21, 5, 42, 180, 0, 9, 21, 6, 29, 21, 4]
abbrev dktX9_weight_0 : List UInt8 := dkwX9_weight_0 ++ dktX9_weight_1
theorem dksX9_weight_0 : cX9_weight.data.toList.drop 0 = dktX9_weight_0 := by decide +kernel
theorem dksX9_weight_1 : cX9_weight.data.toList.drop 23 = dktX9_weight_1 := dk_seg dksX9_weight_0 23 rfl rfl
theorem dX9_weight_0 : decode cX9_weight 0 = .ok (.iconst 0, 1) := dk_3 (dk_at dksX9_weight_0 0 rfl rfl)
theorem dX9_weight_1 : decode cX9_weight 1 = .ok (.istore 5, 2) := dk_54 5 (dk_at dksX9_weight_0 1 rfl rfl)
theorem dX9_weight_3 : decode cX9_weight 3 = .ok (.iload_n 1, 1) := dk_27 (dk_at dksX9_weight_0 3 rfl rfl)
theorem dX9_weight_4 : decode cX9_weight 4 = .ok (.istore 6, 2) := dk_54 6 (dk_at dksX9_weight_0 4 rfl rfl)
theorem dX9_weight_6 : decode cX9_weight 6 = .ok (.iload 6, 2) := dk_21 6 (dk_at dksX9_weight_0 6 rfl rfl)
theorem dX9_weight_8 : decode cX9_weight 8 = .ok (.iload_n 2, 1) := dk_28 (dk_at dksX9_weight_0 8 rfl rfl)
theorem dX9_weight_9 : decode cX9_weight 9 = .ok (.if_icmp .ge 26, 3) := dk_162 0 26 (dk_at dksX9_weight_0 9 rfl rfl)
theorem dX9_weight_12 : decode cX9_weight 12 = .ok (.iload 5, 2) := dk_21 5 (dk_at dksX9_weight_0 12 rfl rfl)
theorem dX9_weight_14 : decode cX9_weight 14 = .ok (.aload_n 0, 1) := dk_42 (dk_at dksX9_weight_0 14 rfl rfl)
theorem dX9_weight_15 : decode cX9_weight 15 = .ok (.getfield 9, 3) := dk_180 0 9 (dk_at dksX9_weight_0 15 rfl rfl)
theorem dX9_weight_18 : decode cX9_weight 18 = .ok (.iload 6, 2) := dk_21 6 (dk_at dksX9_weight_0 18 rfl rfl)
theorem dX9_weight_20 : decode cX9_weight 20 = .ok (.iload_n 3, 1) := dk_29 (dk_at dksX9_weight_0 20 rfl rfl)
theorem dX9_weight_21 : decode cX9_weight 21 = .ok (.iload 4, 2) := dk_21 4 (dk_at dksX9_weight_0 21 rfl rfl)
theorem dX9_weight_23 : decode cX9_weight 23 = .ok (.invokevirtual 15, 3) := dk_182 0 15 (dk_at dksX9_weight_1 0 rfl rfl)
theorem dX9_weight_26 : decode cX9_weight 26 = .ok (.iadd, 1) := dk_96 (dk_at dksX9_weight_1 3 rfl rfl)
theorem dX9_weight_27 : decode cX9_weight 27 = .ok (.istore 5, 2) := dk_54 5 (dk_at dksX9_weight_1 4 rfl rfl)
theorem dX9_weight_29 : decode cX9_weight 29 = .ok (.iinc 6 1, 3) := dk_132 6 1 (dk_at dksX9_weight_1 6 rfl rfl)
theorem dX9_weight_32 : decode cX9_weight 32 = .ok (.goto (-26), 3) := dk_167 255 230 (dk_at dksX9_weight_1 9 rfl rfl)
theorem dX9_weight_35 : decode cX9_weight 35 = .ok (.iload 5, 2) := dk_21 5 (dk_at dksX9_weight_1 12 rfl rfl)
theorem dX9_weight_37 : decode cX9_weight 37 = .ok (.ireturn, 1) := dk_172 (dk_at dksX9_weight_1 14 rfl rfl)
abbrev cX9_rank : ByteArray := prog_7_method_3_code
def yX9_rank : MethodName := ⟨RX9, "rank", "(II)I"⟩
def dkwX9_rank_1 : List UInt8 := [182, 0, 15, 62, 29, 153, 0, 7, 29, 167, 0, 13, 42, 180, 0, 9, 5, 27, 28, 182, 0, 15, 172]
abbrev dktX9_rank_1 : List UInt8 := dkwX9_rank_1 ++ []
def dkwX9_rank_0 : List UInt8 := [42, 180, 0, 9, 3, 27, 28, 182, 0, 15, 62, 29, 154, 0, 14, 42, 180, 0, 9, 4, 27, 28]
abbrev dktX9_rank_0 : List UInt8 := dkwX9_rank_0 ++ dktX9_rank_1
theorem dksX9_rank_0 : cX9_rank.data.toList.drop 0 = dktX9_rank_0 := by decide +kernel
theorem dksX9_rank_1 : cX9_rank.data.toList.drop 22 = dktX9_rank_1 := dk_seg dksX9_rank_0 22 rfl rfl
theorem dX9_rank_0 : decode cX9_rank 0 = .ok (.aload_n 0, 1) := dk_42 (dk_at dksX9_rank_0 0 rfl rfl)
theorem dX9_rank_1 : decode cX9_rank 1 = .ok (.getfield 9, 3) := dk_180 0 9 (dk_at dksX9_rank_0 1 rfl rfl)
theorem dX9_rank_4 : decode cX9_rank 4 = .ok (.iconst 0, 1) := dk_3 (dk_at dksX9_rank_0 4 rfl rfl)
theorem dX9_rank_5 : decode cX9_rank 5 = .ok (.iload_n 1, 1) := dk_27 (dk_at dksX9_rank_0 5 rfl rfl)
theorem dX9_rank_6 : decode cX9_rank 6 = .ok (.iload_n 2, 1) := dk_28 (dk_at dksX9_rank_0 6 rfl rfl)
theorem dX9_rank_7 : decode cX9_rank 7 = .ok (.invokevirtual 15, 3) := dk_182 0 15 (dk_at dksX9_rank_0 7 rfl rfl)
theorem dX9_rank_10 : decode cX9_rank 10 = .ok (.istore_n 3, 1) := dk_62 (dk_at dksX9_rank_0 10 rfl rfl)
theorem dX9_rank_11 : decode cX9_rank 11 = .ok (.iload_n 3, 1) := dk_29 (dk_at dksX9_rank_0 11 rfl rfl)
theorem dX9_rank_12 : decode cX9_rank 12 = .ok (.ifCond .ne 14, 3) := dk_154 0 14 (dk_at dksX9_rank_0 12 rfl rfl)
theorem dX9_rank_15 : decode cX9_rank 15 = .ok (.aload_n 0, 1) := dk_42 (dk_at dksX9_rank_0 15 rfl rfl)
theorem dX9_rank_16 : decode cX9_rank 16 = .ok (.getfield 9, 3) := dk_180 0 9 (dk_at dksX9_rank_0 16 rfl rfl)
theorem dX9_rank_19 : decode cX9_rank 19 = .ok (.iconst 1, 1) := dk_4 (dk_at dksX9_rank_0 19 rfl rfl)
theorem dX9_rank_20 : decode cX9_rank 20 = .ok (.iload_n 1, 1) := dk_27 (dk_at dksX9_rank_0 20 rfl rfl)
theorem dX9_rank_21 : decode cX9_rank 21 = .ok (.iload_n 2, 1) := dk_28 (dk_at dksX9_rank_0 21 rfl rfl)
theorem dX9_rank_22 : decode cX9_rank 22 = .ok (.invokevirtual 15, 3) := dk_182 0 15 (dk_at dksX9_rank_1 0 rfl rfl)
theorem dX9_rank_25 : decode cX9_rank 25 = .ok (.istore_n 3, 1) := dk_62 (dk_at dksX9_rank_1 3 rfl rfl)
theorem dX9_rank_26 : decode cX9_rank 26 = .ok (.iload_n 3, 1) := dk_29 (dk_at dksX9_rank_1 4 rfl rfl)
theorem dX9_rank_27 : decode cX9_rank 27 = .ok (.ifCond .eq 7, 3) := dk_153 0 7 (dk_at dksX9_rank_1 5 rfl rfl)
theorem dX9_rank_30 : decode cX9_rank 30 = .ok (.iload_n 3, 1) := dk_29 (dk_at dksX9_rank_1 8 rfl rfl)
theorem dX9_rank_31 : decode cX9_rank 31 = .ok (.goto 13, 3) := dk_167 0 13 (dk_at dksX9_rank_1 9 rfl rfl)
theorem dX9_rank_34 : decode cX9_rank 34 = .ok (.aload_n 0, 1) := dk_42 (dk_at dksX9_rank_1 12 rfl rfl)
theorem dX9_rank_35 : decode cX9_rank 35 = .ok (.getfield 9, 3) := dk_180 0 9 (dk_at dksX9_rank_1 13 rfl rfl)
theorem dX9_rank_38 : decode cX9_rank 38 = .ok (.iconst 2, 1) := dk_5 (dk_at dksX9_rank_1 16 rfl rfl)
theorem dX9_rank_39 : decode cX9_rank 39 = .ok (.iload_n 1, 1) := dk_27 (dk_at dksX9_rank_1 17 rfl rfl)
theorem dX9_rank_40 : decode cX9_rank 40 = .ok (.iload_n 2, 1) := dk_28 (dk_at dksX9_rank_1 18 rfl rfl)
theorem dX9_rank_41 : decode cX9_rank 41 = .ok (.invokevirtual 15, 3) := dk_182 0 15 (dk_at dksX9_rank_1 19 rfl rfl)
theorem dX9_rank_44 : decode cX9_rank 44 = .ok (.ireturn, 1) := dk_172 (dk_at dksX9_rank_1 22 rfl rfl)
abbrev cX9_name : ByteArray := prog_7_method_4_code
def yX9_name : MethodName := ⟨RX9, "name", "()Ljava/lang/String;"⟩
theorem dX9_name_0 : decode cX9_name 0 = .ok (.ldc 21, 2) := by decide +kernel
theorem dX9_name_2 : decode cX9_name 2 = .ok (.areturn, 1) := by decide +kernel
theorem q108 : (Jvm.Cond.initialized "IdealCourt$Lex") ∈ lw_all := lw_g (lw_at lw_m1 10 rfl) rfl
theorem q435 : (Jvm.Cond.instantiable "IdealCourt$Lex" (1 : Nat)) ∈ lw_all := lw_g (lw_at lw_m2 97 rfl) rfl
theorem q437 : (Jvm.Cond.instanceMethod ({ cls := "IdealCourt$Lex", name := "<init>", desc := "(LIdealCourt$Terms;)V" } : Jvm.MethodName)) ∈ lw_all := lw_g (lw_at lw_m2 99 rfl) rfl
theorem q438 : (Jvm.Cond.code ({ cls := "IdealCourt$Lex", name := "<init>", desc := "(LIdealCourt$Terms;)V" } : Jvm.MethodName) prog_7_method_1_code (2 : Nat) (Option.none : Option Jvm.ClassFile.FieldType)) ∈ lw_all := lw_g (lw_at lw_m2 100 rfl) rfl
theorem q439 : (Jvm.Cond.methodLink "IdealCourt$Lex" (3 : Nat) ({ cls := "java/lang/Object", name := "<init>", desc := "()V" } : Jvm.MethodName)) ∈ lw_all := lw_g (lw_at lw_m2 101 rfl) rfl
theorem q440 : (Jvm.Cond.fieldLink "IdealCourt$Lex" (9 : Nat) "IdealCourt$Lex" "terms" "LIdealCourt$Terms;") ∈ lw_all := lw_g (lw_at lw_m2 102 rfl) rfl
theorem q445 : (Jvm.Cond.laysFinal "IdealCourt$Lex" "IdealCourt$Lex" "terms" "LIdealCourt$Terms;") ∈ lw_all := lw_g (lw_at lw_m2 107 rfl) rfl
theorem q446 : (Jvm.Cond.soleField "IdealCourt$Lex" "terms") ∈ lw_all := lw_g (lw_at lw_m2 108 rfl) rfl
theorem q447 : (Jvm.Cond.superclass "IdealCourt$Lex" "java/lang/Object") ∈ lw_all := lw_g (lw_at lw_m2 109 rfl) rfl
theorem q851 : (Jvm.Cond.instanceMethod ({ cls := "IdealCourt$Lex", name := "kind", desc := "()I" } : Jvm.MethodName)) ∈ lw_all := lw_g (lw_at lw_m4 33 rfl) rfl
theorem q852 : (Jvm.Cond.publicMethod ({ cls := "IdealCourt$Lex", name := "kind", desc := "()I" } : Jvm.MethodName)) ∈ lw_tbl := lw_at lw_m4 34 rfl
theorem q853 : (Jvm.Cond.code ({ cls := "IdealCourt$Lex", name := "kind", desc := "()I" } : Jvm.MethodName) prog_7_method_2_code (1 : Nat) (Option.some Jvm.ClassFile.FieldType.int)) ∈ lw_all := lw_g (lw_at lw_m4 35 rfl) rfl
theorem q863 : (Jvm.Cond.castable "IdealCourt$Lex" "IdealCourt$Thing") ∈ lw_tbl := lw_at lw_m4 45 rfl
theorem q864 : (Jvm.Cond.selects "IdealCourt$Lex" ({ cls := "IdealCourt$Thing", name := "kind", desc := "()I" } : Jvm.MethodName) ({ cls := "IdealCourt$Lex", name := "kind", desc := "()I" } : Jvm.MethodName)) ∈ lw_all := lw_g (lw_at lw_m4 46 rfl) rfl
theorem q865 : (Jvm.Cond.unhidden "IdealCourt$Lex" "kind" "()I") ∈ lw_tbl := lw_at lw_m4 47 rfl
theorem q1106 : (Jvm.Cond.declares ({ cls := "IdealCourt$Lex", name := "weight", desc := "(IIII)I" } : Jvm.MethodName)) ∈ lw_tbl := lw_at lw_m5 48 rfl
theorem q1107 : (Jvm.Cond.instanceMethod ({ cls := "IdealCourt$Lex", name := "weight", desc := "(IIII)I" } : Jvm.MethodName)) ∈ lw_all := lw_g (lw_at lw_m5 49 rfl) rfl
theorem q1108 : (Jvm.Cond.code ({ cls := "IdealCourt$Lex", name := "weight", desc := "(IIII)I" } : Jvm.MethodName) prog_7_method_5_code (7 : Nat) (Option.some Jvm.ClassFile.FieldType.int)) ∈ lw_all := lw_g (lw_at lw_m5 50 rfl) rfl
theorem q1109 : (Jvm.Cond.methodLink "IdealCourt$Lex" (15 : Nat) ({ cls := "IdealCourt$Terms", name := "more", desc := "(III)I" } : Jvm.MethodName)) ∈ lw_all := lw_g (lw_at lw_m5 51 rfl) rfl
theorem q1133 : (Jvm.Cond.instanceMethod ({ cls := "IdealCourt$Lex", name := "rank", desc := "(II)I" } : Jvm.MethodName)) ∈ lw_all := lw_g (lw_at lw_m5 75 rfl) rfl
theorem q1134 : (Jvm.Cond.code ({ cls := "IdealCourt$Lex", name := "rank", desc := "(II)I" } : Jvm.MethodName) prog_7_method_3_code (4 : Nat) (Option.some Jvm.ClassFile.FieldType.int)) ∈ lw_all := lw_g (lw_at lw_m5 76 rfl) rfl
theorem q1135 : (Jvm.Cond.castable "IdealCourt$Lex" "IdealCourt$Ranks") ∈ lw_tbl := lw_at lw_m5 77 rfl
theorem q1136 : (Jvm.Cond.selects "IdealCourt$Lex" ({ cls := "IdealCourt$Ranks", name := "rank", desc := "(II)I" } : Jvm.MethodName) ({ cls := "IdealCourt$Lex", name := "rank", desc := "(II)I" } : Jvm.MethodName)) ∈ lw_all := lw_g (lw_at lw_m5 78 rfl) rfl
theorem q1137 : (Jvm.Cond.unhidden "IdealCourt$Lex" "rank" "(II)I") ∈ lw_tbl := lw_at lw_m5 79 rfl
theorem q1138 : (Jvm.Cond.publicMethod ({ cls := "IdealCourt$Lex", name := "rank", desc := "(II)I" } : Jvm.MethodName)) ∈ lw_tbl := lw_at lw_m5 80 rfl
theorem q1199 : (Jvm.Cond.castable "IdealCourt$Lex" "IdealCourt$Told") ∈ lw_tbl := lw_at lw_m5 141 rfl
theorem q1200 : (Jvm.Cond.selects "IdealCourt$Lex" ({ cls := "IdealCourt$Told", name := "name", desc := "()Ljava/lang/String;" } : Jvm.MethodName) ({ cls := "IdealCourt$Lex", name := "name", desc := "()Ljava/lang/String;" } : Jvm.MethodName)) ∈ lw_all := lw_g (lw_at lw_m5 142 rfl) rfl
theorem q1201 : (Jvm.Cond.unhidden "IdealCourt$Lex" "name" "()Ljava/lang/String;") ∈ lw_tbl := lw_at lw_m5 143 rfl
theorem q1202 : (Jvm.Cond.instanceMethod ({ cls := "IdealCourt$Lex", name := "name", desc := "()Ljava/lang/String;" } : Jvm.MethodName)) ∈ lw_all := lw_g (lw_at lw_m5 144 rfl) rfl
theorem q1203 : (Jvm.Cond.publicMethod ({ cls := "IdealCourt$Lex", name := "name", desc := "()Ljava/lang/String;" } : Jvm.MethodName)) ∈ lw_tbl := lw_at lw_m5 145 rfl
theorem q1204 : (Jvm.Cond.code ({ cls := "IdealCourt$Lex", name := "name", desc := "()Ljava/lang/String;" } : Jvm.MethodName) prog_7_method_4_code (1 : Nat) (Option.some (Jvm.ClassFile.FieldType.object "java/lang/String"))) ∈ lw_all := lw_g (lw_at lw_m5 146 rfl) rfl
theorem q1205 : (Jvm.Cond.stringRef "IdealCourt$Lex" (21 : Nat) "lex") ∈ lw_tbl := lw_at lw_m5 147 rfl
theorem q2481 : (Jvm.Cond.sameMethod "IdealCourt$Lex" "IdealCourt$Lex" "rank" "(II)I") ∈ lw_all := lw_g (lw_at lw_m10 223 rfl) rfl
theorem in_X9 : ∀ w ∈ wsX90, w ∈ lw_all := lw_in wsX90 [445] (by decide +kernel) (by decide +kernel)
