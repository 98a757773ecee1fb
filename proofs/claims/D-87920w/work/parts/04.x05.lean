/-! IdealCourt$Poly -/
set_option maxRecDepth 100000
def RX5 : String := "IdealCourt$Poly"
def TX5 : u_T := fun k => match k with
  | 0 => ("IdealCourt$Poly", "of", "[I", true)
  | _ => ("IdealCourt$Poly", "many", "I", false)
def tyX5 : Nat → FieldType := fun k => match k with
  | 0 => .array .int
  | _ => .int
abbrev wsX50 : List Cond := u_ws RX5 TX5 2
theorem nmX5 : ∀ a, a < 2 → ∀ b, b < 2 → a ≠ b → (TX5 a).2.1 ≠ (TX5 b).2.1 := by decide +kernel
theorem tyX5_ok : ∀ k, k < 2 → parseFieldDescriptor (TX5 k).2.2.1 = some (tyX5 k) := by decide +kernel
abbrev cX5_init : ByteArray := prog_8_method_1_code
def yX5_init : MethodName := ⟨RX5, "<init>", "()V"⟩
def dkwX5_init_0 : List UInt8 := [42, 183, 0, 3, 42, 17, 53, 82, 188, 10, 181, 0, 11, 177]
abbrev dktX5_init_0 : List UInt8 := dkwX5_init_0 ++ []
theorem dksX5_init_0 : cX5_init.data.toList.drop 0 = dktX5_init_0 := by decide +kernel
theorem dX5_init_0 : decode cX5_init 0 = .ok (.aload_n 0, 1) := dk_42 (dk_at dksX5_init_0 0 rfl rfl)
theorem dX5_init_1 : decode cX5_init 1 = .ok (.invokespecial 3, 3) := dk_183 0 3 (dk_at dksX5_init_0 1 rfl rfl)
theorem dX5_init_4 : decode cX5_init 4 = .ok (.aload_n 0, 1) := dk_42 (dk_at dksX5_init_0 4 rfl rfl)
theorem dX5_init_5 : decode cX5_init 5 = .ok (.sipush 13650, 3) := dk_17 53 82 (dk_at dksX5_init_0 5 rfl rfl)
theorem dX5_init_8 : decode cX5_init 8 = .ok (.newarray .int, 2) := dk_188_10 (dk_at dksX5_init_0 8 rfl rfl)
theorem dX5_init_10 : decode cX5_init 10 = .ok (.putfield 11, 3) := dk_181 0 11 (dk_at dksX5_init_0 10 rfl rfl)
theorem dX5_init_13 : decode cX5_init 13 = .ok (.return_, 1) := dk_177 (dk_at dksX5_init_0 13 rfl rfl)
abbrev cX5_clear : ByteArray := prog_8_method_4_code
def yX5_clear : MethodName := ⟨RX5, "clear", "()V"⟩
def dkwX5_clear_1 : List UInt8 := [167, 255, 234, 177]
abbrev dktX5_clear_1 : List UInt8 := dkwX5_clear_1 ++ []
def dkwX5_clear_0 : List UInt8 := [3, 60, 27, 17, 1, 199, 162, 0, 21, 42, 180, 0, 15, 158, 0, 14, 42, 27, 182, 0, 19, 132, 1, 1]
abbrev dktX5_clear_0 : List UInt8 := dkwX5_clear_0 ++ dktX5_clear_1
theorem dksX5_clear_0 : cX5_clear.data.toList.drop 0 = dktX5_clear_0 := by decide +kernel
theorem dksX5_clear_1 : cX5_clear.data.toList.drop 24 = dktX5_clear_1 := dk_seg dksX5_clear_0 24 rfl rfl
theorem dX5_clear_0 : decode cX5_clear 0 = .ok (.iconst 0, 1) := dk_3 (dk_at dksX5_clear_0 0 rfl rfl)
theorem dX5_clear_1 : decode cX5_clear 1 = .ok (.istore_n 1, 1) := dk_60 (dk_at dksX5_clear_0 1 rfl rfl)
theorem dX5_clear_2 : decode cX5_clear 2 = .ok (.iload_n 1, 1) := dk_27 (dk_at dksX5_clear_0 2 rfl rfl)
theorem dX5_clear_3 : decode cX5_clear 3 = .ok (.sipush 455, 3) := dk_17 1 199 (dk_at dksX5_clear_0 3 rfl rfl)
theorem dX5_clear_6 : decode cX5_clear 6 = .ok (.if_icmp .ge 21, 3) := dk_162 0 21 (dk_at dksX5_clear_0 6 rfl rfl)
theorem dX5_clear_9 : decode cX5_clear 9 = .ok (.aload_n 0, 1) := dk_42 (dk_at dksX5_clear_0 9 rfl rfl)
theorem dX5_clear_10 : decode cX5_clear 10 = .ok (.getfield 15, 3) := dk_180 0 15 (dk_at dksX5_clear_0 10 rfl rfl)
theorem dX5_clear_13 : decode cX5_clear 13 = .ok (.ifCond .le 14, 3) := dk_158 0 14 (dk_at dksX5_clear_0 13 rfl rfl)
theorem dX5_clear_16 : decode cX5_clear 16 = .ok (.aload_n 0, 1) := dk_42 (dk_at dksX5_clear_0 16 rfl rfl)
theorem dX5_clear_17 : decode cX5_clear 17 = .ok (.iload_n 1, 1) := dk_27 (dk_at dksX5_clear_0 17 rfl rfl)
theorem dX5_clear_18 : decode cX5_clear 18 = .ok (.invokevirtual 19, 3) := dk_182 0 19 (dk_at dksX5_clear_0 18 rfl rfl)
theorem dX5_clear_21 : decode cX5_clear 21 = .ok (.iinc 1 1, 3) := dk_132 1 1 (dk_at dksX5_clear_0 21 rfl rfl)
theorem dX5_clear_24 : decode cX5_clear 24 = .ok (.goto (-22), 3) := dk_167 255 234 (dk_at dksX5_clear_1 0 rfl rfl)
theorem dX5_clear_27 : decode cX5_clear 27 = .ok (.return_, 1) := dk_177 (dk_at dksX5_clear_1 3 rfl rfl)
abbrev cX5_drop : ByteArray := prog_8_method_5_code
def yX5_drop : MethodName := ⟨RX5, "drop", "(I)V"⟩
def dkwX5_drop_1 : List UInt8 := [27, 104, 3, 79, 177]
abbrev dktX5_drop_1 : List UInt8 := dkwX5_drop_1 ++ []
def dkwX5_drop_0 : List UInt8 := [42, 27, 182, 0, 23, 153, 0, 13, 42, 89, 180, 0, 15, 4, 100, 181, 0, 15, 42, 180, 0, 11, 16, 30]
abbrev dktX5_drop_0 : List UInt8 := dkwX5_drop_0 ++ dktX5_drop_1
theorem dksX5_drop_0 : cX5_drop.data.toList.drop 0 = dktX5_drop_0 := by decide +kernel
theorem dksX5_drop_1 : cX5_drop.data.toList.drop 24 = dktX5_drop_1 := dk_seg dksX5_drop_0 24 rfl rfl
theorem dX5_drop_0 : decode cX5_drop 0 = .ok (.aload_n 0, 1) := dk_42 (dk_at dksX5_drop_0 0 rfl rfl)
theorem dX5_drop_1 : decode cX5_drop 1 = .ok (.iload_n 1, 1) := dk_27 (dk_at dksX5_drop_0 1 rfl rfl)
theorem dX5_drop_2 : decode cX5_drop 2 = .ok (.invokevirtual 23, 3) := dk_182 0 23 (dk_at dksX5_drop_0 2 rfl rfl)
theorem dX5_drop_5 : decode cX5_drop 5 = .ok (.ifCond .eq 13, 3) := dk_153 0 13 (dk_at dksX5_drop_0 5 rfl rfl)
theorem dX5_drop_8 : decode cX5_drop 8 = .ok (.aload_n 0, 1) := dk_42 (dk_at dksX5_drop_0 8 rfl rfl)
theorem dX5_drop_9 : decode cX5_drop 9 = .ok (.dup, 1) := dk_89 (dk_at dksX5_drop_0 9 rfl rfl)
theorem dX5_drop_10 : decode cX5_drop 10 = .ok (.getfield 15, 3) := dk_180 0 15 (dk_at dksX5_drop_0 10 rfl rfl)
theorem dX5_drop_13 : decode cX5_drop 13 = .ok (.iconst 1, 1) := dk_4 (dk_at dksX5_drop_0 13 rfl rfl)
theorem dX5_drop_14 : decode cX5_drop 14 = .ok (.isub, 1) := dk_100 (dk_at dksX5_drop_0 14 rfl rfl)
theorem dX5_drop_15 : decode cX5_drop 15 = .ok (.putfield 15, 3) := dk_181 0 15 (dk_at dksX5_drop_0 15 rfl rfl)
theorem dX5_drop_18 : decode cX5_drop 18 = .ok (.aload_n 0, 1) := dk_42 (dk_at dksX5_drop_0 18 rfl rfl)
theorem dX5_drop_19 : decode cX5_drop 19 = .ok (.getfield 11, 3) := dk_180 0 11 (dk_at dksX5_drop_0 19 rfl rfl)
theorem dX5_drop_22 : decode cX5_drop 22 = .ok (.bipush 30, 2) := dk_16 30 (dk_at dksX5_drop_0 22 rfl rfl)
theorem dX5_drop_24 : decode cX5_drop 24 = .ok (.iload_n 1, 1) := dk_27 (dk_at dksX5_drop_1 0 rfl rfl)
theorem dX5_drop_25 : decode cX5_drop 25 = .ok (.imul, 1) := dk_104 (dk_at dksX5_drop_1 1 rfl rfl)
theorem dX5_drop_26 : decode cX5_drop 26 = .ok (.iconst 0, 1) := dk_3 (dk_at dksX5_drop_1 2 rfl rfl)
theorem dX5_drop_27 : decode cX5_drop 27 = .ok (.iastore, 1) := dk_79 (dk_at dksX5_drop_1 3 rfl rfl)
theorem dX5_drop_28 : decode cX5_drop 28 = .ok (.return_, 1) := dk_177 (dk_at dksX5_drop_1 4 rfl rfl)
abbrev cX5_has : ByteArray := prog_8_method_3_code
def yX5_has : MethodName := ⟨RX5, "has", "(I)Z"⟩
def dkwX5_has_0 : List UInt8 := [42, 180, 0, 11, 16, 30, 27, 104, 46, 153, 0, 7, 4, 167, 0, 4, 3, 172]
abbrev dktX5_has_0 : List UInt8 := dkwX5_has_0 ++ []
theorem dksX5_has_0 : cX5_has.data.toList.drop 0 = dktX5_has_0 := by decide +kernel
theorem dX5_has_0 : decode cX5_has 0 = .ok (.aload_n 0, 1) := dk_42 (dk_at dksX5_has_0 0 rfl rfl)
theorem dX5_has_1 : decode cX5_has 1 = .ok (.getfield 11, 3) := dk_180 0 11 (dk_at dksX5_has_0 1 rfl rfl)
theorem dX5_has_4 : decode cX5_has 4 = .ok (.bipush 30, 2) := dk_16 30 (dk_at dksX5_has_0 4 rfl rfl)
theorem dX5_has_6 : decode cX5_has 6 = .ok (.iload_n 1, 1) := dk_27 (dk_at dksX5_has_0 6 rfl rfl)
theorem dX5_has_7 : decode cX5_has 7 = .ok (.imul, 1) := dk_104 (dk_at dksX5_has_0 7 rfl rfl)
theorem dX5_has_8 : decode cX5_has 8 = .ok (.iaload, 1) := dk_46 (dk_at dksX5_has_0 8 rfl rfl)
theorem dX5_has_9 : decode cX5_has 9 = .ok (.ifCond .eq 7, 3) := dk_153 0 7 (dk_at dksX5_has_0 9 rfl rfl)
theorem dX5_has_12 : decode cX5_has 12 = .ok (.iconst 1, 1) := dk_4 (dk_at dksX5_has_0 12 rfl rfl)
theorem dX5_has_13 : decode cX5_has 13 = .ok (.goto 4, 3) := dk_167 0 4 (dk_at dksX5_has_0 13 rfl rfl)
theorem dX5_has_16 : decode cX5_has 16 = .ok (.iconst 0, 1) := dk_3 (dk_at dksX5_has_0 16 rfl rfl)
theorem dX5_has_17 : decode cX5_has 17 = .ok (.ireturn, 1) := dk_172 (dk_at dksX5_has_0 17 rfl rfl)
abbrev cX5_kind : ByteArray := prog_8_method_2_code
def yX5_kind : MethodName := ⟨RX5, "kind", "()I"⟩
theorem dX5_kind_0 : decode cX5_kind 0 = .ok (.iconst 1, 1) := by decide +kernel
theorem dX5_kind_1 : decode cX5_kind 1 = .ok (.ireturn, 1) := by decide +kernel
abbrev cX5_get : ByteArray := prog_8_method_7_code
def yX5_get : MethodName := ⟨RX5, "get", "(ILIdealCourt$Ratio;)V"⟩
def dkwX5_get_1 : List UInt8 := [104, 16, 15, 96, 44, 180, 0, 43, 182, 0, 39, 167, 0, 11, 44, 180, 0, 43, 10, 182, 0, 46, 177]
abbrev dktX5_get_1 : List UInt8 := dkwX5_get_1 ++ []
def dkwX5_get_0 : List UInt8 := [42, 16, 30, 27, 104, 44, 180, 0, 33, 182, 0, 39, 42, 27, 182, 0, 23, 153, 0, 21, 42, 16, 30, 27]
abbrev dktX5_get_0 : List UInt8 := dkwX5_get_0 ++ dktX5_get_1
theorem dksX5_get_0 : cX5_get.data.toList.drop 0 = dktX5_get_0 := by decide +kernel
theorem dksX5_get_1 : cX5_get.data.toList.drop 24 = dktX5_get_1 := dk_seg dksX5_get_0 24 rfl rfl
theorem dX5_get_0 : decode cX5_get 0 = .ok (.aload_n 0, 1) := dk_42 (dk_at dksX5_get_0 0 rfl rfl)
theorem dX5_get_1 : decode cX5_get 1 = .ok (.bipush 30, 2) := dk_16 30 (dk_at dksX5_get_0 1 rfl rfl)
theorem dX5_get_3 : decode cX5_get 3 = .ok (.iload_n 1, 1) := dk_27 (dk_at dksX5_get_0 3 rfl rfl)
theorem dX5_get_4 : decode cX5_get 4 = .ok (.imul, 1) := dk_104 (dk_at dksX5_get_0 4 rfl rfl)
theorem dX5_get_5 : decode cX5_get 5 = .ok (.aload_n 2, 1) := dk_44 (dk_at dksX5_get_0 5 rfl rfl)
theorem dX5_get_6 : decode cX5_get 6 = .ok (.getfield 33, 3) := dk_180 0 33 (dk_at dksX5_get_0 6 rfl rfl)
theorem dX5_get_9 : decode cX5_get 9 = .ok (.invokevirtual 39, 3) := dk_182 0 39 (dk_at dksX5_get_0 9 rfl rfl)
theorem dX5_get_12 : decode cX5_get 12 = .ok (.aload_n 0, 1) := dk_42 (dk_at dksX5_get_0 12 rfl rfl)
theorem dX5_get_13 : decode cX5_get 13 = .ok (.iload_n 1, 1) := dk_27 (dk_at dksX5_get_0 13 rfl rfl)
theorem dX5_get_14 : decode cX5_get 14 = .ok (.invokevirtual 23, 3) := dk_182 0 23 (dk_at dksX5_get_0 14 rfl rfl)
theorem dX5_get_17 : decode cX5_get 17 = .ok (.ifCond .eq 21, 3) := dk_153 0 21 (dk_at dksX5_get_0 17 rfl rfl)
theorem dX5_get_20 : decode cX5_get 20 = .ok (.aload_n 0, 1) := dk_42 (dk_at dksX5_get_0 20 rfl rfl)
theorem dX5_get_21 : decode cX5_get 21 = .ok (.bipush 30, 2) := dk_16 30 (dk_at dksX5_get_0 21 rfl rfl)
theorem dX5_get_23 : decode cX5_get 23 = .ok (.iload_n 1, 1) := dk_27 (dk_at dksX5_get_0 23 rfl rfl)
theorem dX5_get_24 : decode cX5_get 24 = .ok (.imul, 1) := dk_104 (dk_at dksX5_get_1 0 rfl rfl)
theorem dX5_get_25 : decode cX5_get 25 = .ok (.bipush 15, 2) := dk_16 15 (dk_at dksX5_get_1 1 rfl rfl)
theorem dX5_get_27 : decode cX5_get 27 = .ok (.iadd, 1) := dk_96 (dk_at dksX5_get_1 3 rfl rfl)
theorem dX5_get_28 : decode cX5_get 28 = .ok (.aload_n 2, 1) := dk_44 (dk_at dksX5_get_1 4 rfl rfl)
theorem dX5_get_29 : decode cX5_get 29 = .ok (.getfield 43, 3) := dk_180 0 43 (dk_at dksX5_get_1 5 rfl rfl)
theorem dX5_get_32 : decode cX5_get 32 = .ok (.invokevirtual 39, 3) := dk_182 0 39 (dk_at dksX5_get_1 8 rfl rfl)
theorem dX5_get_35 : decode cX5_get 35 = .ok (.goto 11, 3) := dk_167 0 11 (dk_at dksX5_get_1 11 rfl rfl)
theorem dX5_get_38 : decode cX5_get 38 = .ok (.aload_n 2, 1) := dk_44 (dk_at dksX5_get_1 14 rfl rfl)
theorem dX5_get_39 : decode cX5_get 39 = .ok (.getfield 43, 3) := dk_180 0 43 (dk_at dksX5_get_1 15 rfl rfl)
theorem dX5_get_42 : decode cX5_get 42 = .ok (.lconst 1, 1) := dk_10 (dk_at dksX5_get_1 18 rfl rfl)
theorem dX5_get_43 : decode cX5_get 43 = .ok (.invokevirtual 46, 3) := dk_182 0 46 (dk_at dksX5_get_1 19 rfl rfl)
theorem dX5_get_46 : decode cX5_get 46 = .ok (.return_, 1) := dk_177 (dk_at dksX5_get_1 22 rfl rfl)
abbrev cX5_load : ByteArray := prog_8_method_8_code
def yX5_load : MethodName := ⟨RX5, "load", "(ILIdealCourt$Whole;)V"⟩
def dkwX5_load_3 : List UInt8 := [132, 3, 1, 167, 255, 229, 177]
abbrev dktX5_load_3 : List UInt8 := dkwX5_load_3 ++ []
def dkwX5_load_2 : List UInt8 := [180, 0, 58, 162, 0, 25, 44, 180, 0, 64, 29, 42, 180, 0, 11, 27, 4, 96, 29, 96, 46, 79]
abbrev dktX5_load_2 : List UInt8 := dkwX5_load_2 ++ dktX5_load_3
def dkwX5_load_1 : List UInt8 := [167, 0, 17, 42, 180, 0, 11, 27, 46, 158, 0, 7, 4, 167, 0, 4, 3, 181, 0, 61, 3, 62, 29, 44]
abbrev dktX5_load_1 : List UInt8 := dkwX5_load_1 ++ dktX5_load_2
def dkwX5_load_0 : List UInt8 := [44, 42, 180, 0, 11, 27, 46, 184, 0, 52, 181, 0, 58, 44, 42, 180, 0, 11, 27, 46, 156, 0, 7, 2]
abbrev dktX5_load_0 : List UInt8 := dkwX5_load_0 ++ dktX5_load_1
theorem dksX5_load_0 : cX5_load.data.toList.drop 0 = dktX5_load_0 := by decide +kernel
theorem dksX5_load_1 : cX5_load.data.toList.drop 24 = dktX5_load_1 := dk_seg dksX5_load_0 24 rfl rfl
theorem dksX5_load_2 : cX5_load.data.toList.drop 48 = dktX5_load_2 := dk_seg dksX5_load_1 24 rfl rfl
theorem dksX5_load_3 : cX5_load.data.toList.drop 70 = dktX5_load_3 := dk_seg dksX5_load_2 22 rfl rfl
theorem dX5_load_0 : decode cX5_load 0 = .ok (.aload_n 2, 1) := dk_44 (dk_at dksX5_load_0 0 rfl rfl)
theorem dX5_load_1 : decode cX5_load 1 = .ok (.aload_n 0, 1) := dk_42 (dk_at dksX5_load_0 1 rfl rfl)
theorem dX5_load_2 : decode cX5_load 2 = .ok (.getfield 11, 3) := dk_180 0 11 (dk_at dksX5_load_0 2 rfl rfl)
theorem dX5_load_5 : decode cX5_load 5 = .ok (.iload_n 1, 1) := dk_27 (dk_at dksX5_load_0 5 rfl rfl)
theorem dX5_load_6 : decode cX5_load 6 = .ok (.iaload, 1) := dk_46 (dk_at dksX5_load_0 6 rfl rfl)
theorem dX5_load_7 : decode cX5_load 7 = .ok (.invokestatic 52, 3) := dk_184 0 52 (dk_at dksX5_load_0 7 rfl rfl)
theorem dX5_load_10 : decode cX5_load 10 = .ok (.putfield 58, 3) := dk_181 0 58 (dk_at dksX5_load_0 10 rfl rfl)
theorem dX5_load_13 : decode cX5_load 13 = .ok (.aload_n 2, 1) := dk_44 (dk_at dksX5_load_0 13 rfl rfl)
theorem dX5_load_14 : decode cX5_load 14 = .ok (.aload_n 0, 1) := dk_42 (dk_at dksX5_load_0 14 rfl rfl)
theorem dX5_load_15 : decode cX5_load 15 = .ok (.getfield 11, 3) := dk_180 0 11 (dk_at dksX5_load_0 15 rfl rfl)
theorem dX5_load_18 : decode cX5_load 18 = .ok (.iload_n 1, 1) := dk_27 (dk_at dksX5_load_0 18 rfl rfl)
theorem dX5_load_19 : decode cX5_load 19 = .ok (.iaload, 1) := dk_46 (dk_at dksX5_load_0 19 rfl rfl)
theorem dX5_load_20 : decode cX5_load 20 = .ok (.ifCond .ge 7, 3) := dk_156 0 7 (dk_at dksX5_load_0 20 rfl rfl)
theorem dX5_load_23 : decode cX5_load 23 = .ok (.iconst (-1), 1) := dk_2 (dk_at dksX5_load_0 23 rfl rfl)
theorem dX5_load_24 : decode cX5_load 24 = .ok (.goto 17, 3) := dk_167 0 17 (dk_at dksX5_load_1 0 rfl rfl)
theorem dX5_load_27 : decode cX5_load 27 = .ok (.aload_n 0, 1) := dk_42 (dk_at dksX5_load_1 3 rfl rfl)
theorem dX5_load_28 : decode cX5_load 28 = .ok (.getfield 11, 3) := dk_180 0 11 (dk_at dksX5_load_1 4 rfl rfl)
theorem dX5_load_31 : decode cX5_load 31 = .ok (.iload_n 1, 1) := dk_27 (dk_at dksX5_load_1 7 rfl rfl)
theorem dX5_load_32 : decode cX5_load 32 = .ok (.iaload, 1) := dk_46 (dk_at dksX5_load_1 8 rfl rfl)
theorem dX5_load_33 : decode cX5_load 33 = .ok (.ifCond .le 7, 3) := dk_158 0 7 (dk_at dksX5_load_1 9 rfl rfl)
theorem dX5_load_36 : decode cX5_load 36 = .ok (.iconst 1, 1) := dk_4 (dk_at dksX5_load_1 12 rfl rfl)
theorem dX5_load_37 : decode cX5_load 37 = .ok (.goto 4, 3) := dk_167 0 4 (dk_at dksX5_load_1 13 rfl rfl)
theorem dX5_load_40 : decode cX5_load 40 = .ok (.iconst 0, 1) := dk_3 (dk_at dksX5_load_1 16 rfl rfl)
theorem dX5_load_41 : decode cX5_load 41 = .ok (.putfield 61, 3) := dk_181 0 61 (dk_at dksX5_load_1 17 rfl rfl)
theorem dX5_load_44 : decode cX5_load 44 = .ok (.iconst 0, 1) := dk_3 (dk_at dksX5_load_1 20 rfl rfl)
theorem dX5_load_45 : decode cX5_load 45 = .ok (.istore_n 3, 1) := dk_62 (dk_at dksX5_load_1 21 rfl rfl)
theorem dX5_load_46 : decode cX5_load 46 = .ok (.iload_n 3, 1) := dk_29 (dk_at dksX5_load_1 22 rfl rfl)
theorem dX5_load_47 : decode cX5_load 47 = .ok (.aload_n 2, 1) := dk_44 (dk_at dksX5_load_1 23 rfl rfl)
theorem dX5_load_48 : decode cX5_load 48 = .ok (.getfield 58, 3) := dk_180 0 58 (dk_at dksX5_load_2 0 rfl rfl)
theorem dX5_load_51 : decode cX5_load 51 = .ok (.if_icmp .ge 25, 3) := dk_162 0 25 (dk_at dksX5_load_2 3 rfl rfl)
theorem dX5_load_54 : decode cX5_load 54 = .ok (.aload_n 2, 1) := dk_44 (dk_at dksX5_load_2 6 rfl rfl)
theorem dX5_load_55 : decode cX5_load 55 = .ok (.getfield 64, 3) := dk_180 0 64 (dk_at dksX5_load_2 7 rfl rfl)
theorem dX5_load_58 : decode cX5_load 58 = .ok (.iload_n 3, 1) := dk_29 (dk_at dksX5_load_2 10 rfl rfl)
theorem dX5_load_59 : decode cX5_load 59 = .ok (.aload_n 0, 1) := dk_42 (dk_at dksX5_load_2 11 rfl rfl)
theorem dX5_load_60 : decode cX5_load 60 = .ok (.getfield 11, 3) := dk_180 0 11 (dk_at dksX5_load_2 12 rfl rfl)
theorem dX5_load_63 : decode cX5_load 63 = .ok (.iload_n 1, 1) := dk_27 (dk_at dksX5_load_2 15 rfl rfl)
theorem dX5_load_64 : decode cX5_load 64 = .ok (.iconst 1, 1) := dk_4 (dk_at dksX5_load_2 16 rfl rfl)
theorem dX5_load_65 : decode cX5_load 65 = .ok (.iadd, 1) := dk_96 (dk_at dksX5_load_2 17 rfl rfl)
theorem dX5_load_66 : decode cX5_load 66 = .ok (.iload_n 3, 1) := dk_29 (dk_at dksX5_load_2 18 rfl rfl)
theorem dX5_load_67 : decode cX5_load 67 = .ok (.iadd, 1) := dk_96 (dk_at dksX5_load_2 19 rfl rfl)
theorem dX5_load_68 : decode cX5_load 68 = .ok (.iaload, 1) := dk_46 (dk_at dksX5_load_2 20 rfl rfl)
theorem dX5_load_69 : decode cX5_load 69 = .ok (.iastore, 1) := dk_79 (dk_at dksX5_load_2 21 rfl rfl)
theorem dX5_load_70 : decode cX5_load 70 = .ok (.iinc 3 1, 3) := dk_132 3 1 (dk_at dksX5_load_3 0 rfl rfl)
theorem dX5_load_73 : decode cX5_load 73 = .ok (.goto (-27), 3) := dk_167 255 229 (dk_at dksX5_load_3 3 rfl rfl)
theorem dX5_load_76 : decode cX5_load 76 = .ok (.return_, 1) := dk_177 (dk_at dksX5_load_3 6 rfl rfl)
abbrev cX5_put : ByteArray := prog_8_method_9_code
def yX5_put : MethodName := ⟨RX5, "put", "(ILIdealCourt$Ratio;)Z"⟩
def dkwX5_put_2 : List UInt8 := [180, 0, 43, 182, 0, 71, 42, 89, 180, 0, 15, 4, 96, 181, 0, 15, 4, 172]
abbrev dktX5_put_2 : List UInt8 := dkwX5_put_2 ++ []
def dkwX5_put_1 : List UInt8 := [4, 172, 42, 16, 30, 27, 104, 44, 180, 0, 33, 182, 0, 71, 42, 16, 30, 27, 104, 16, 15, 96, 44]
abbrev dktX5_put_1 : List UInt8 := dkwX5_put_1 ++ dktX5_put_2
def dkwX5_put_0 : List UInt8 := [44, 182, 0, 67, 154, 0, 5, 3, 172, 42, 27, 182, 0, 19, 44, 180, 0, 33, 180, 0, 61, 154, 0, 5]
abbrev dktX5_put_0 : List UInt8 := dkwX5_put_0 ++ dktX5_put_1
theorem dksX5_put_0 : cX5_put.data.toList.drop 0 = dktX5_put_0 := by decide +kernel
theorem dksX5_put_1 : cX5_put.data.toList.drop 24 = dktX5_put_1 := dk_seg dksX5_put_0 24 rfl rfl
theorem dksX5_put_2 : cX5_put.data.toList.drop 47 = dktX5_put_2 := dk_seg dksX5_put_1 23 rfl rfl
theorem dX5_put_0 : decode cX5_put 0 = .ok (.aload_n 2, 1) := dk_44 (dk_at dksX5_put_0 0 rfl rfl)
theorem dX5_put_1 : decode cX5_put 1 = .ok (.invokevirtual 67, 3) := dk_182 0 67 (dk_at dksX5_put_0 1 rfl rfl)
theorem dX5_put_4 : decode cX5_put 4 = .ok (.ifCond .ne 5, 3) := dk_154 0 5 (dk_at dksX5_put_0 4 rfl rfl)
theorem dX5_put_7 : decode cX5_put 7 = .ok (.iconst 0, 1) := dk_3 (dk_at dksX5_put_0 7 rfl rfl)
theorem dX5_put_8 : decode cX5_put 8 = .ok (.ireturn, 1) := dk_172 (dk_at dksX5_put_0 8 rfl rfl)
theorem dX5_put_9 : decode cX5_put 9 = .ok (.aload_n 0, 1) := dk_42 (dk_at dksX5_put_0 9 rfl rfl)
theorem dX5_put_10 : decode cX5_put 10 = .ok (.iload_n 1, 1) := dk_27 (dk_at dksX5_put_0 10 rfl rfl)
theorem dX5_put_11 : decode cX5_put 11 = .ok (.invokevirtual 19, 3) := dk_182 0 19 (dk_at dksX5_put_0 11 rfl rfl)
theorem dX5_put_14 : decode cX5_put 14 = .ok (.aload_n 2, 1) := dk_44 (dk_at dksX5_put_0 14 rfl rfl)
theorem dX5_put_15 : decode cX5_put 15 = .ok (.getfield 33, 3) := dk_180 0 33 (dk_at dksX5_put_0 15 rfl rfl)
theorem dX5_put_18 : decode cX5_put 18 = .ok (.getfield 61, 3) := dk_180 0 61 (dk_at dksX5_put_0 18 rfl rfl)
theorem dX5_put_21 : decode cX5_put 21 = .ok (.ifCond .ne 5, 3) := dk_154 0 5 (dk_at dksX5_put_0 21 rfl rfl)
theorem dX5_put_24 : decode cX5_put 24 = .ok (.iconst 1, 1) := dk_4 (dk_at dksX5_put_1 0 rfl rfl)
theorem dX5_put_25 : decode cX5_put 25 = .ok (.ireturn, 1) := dk_172 (dk_at dksX5_put_1 1 rfl rfl)
theorem dX5_put_26 : decode cX5_put 26 = .ok (.aload_n 0, 1) := dk_42 (dk_at dksX5_put_1 2 rfl rfl)
theorem dX5_put_27 : decode cX5_put 27 = .ok (.bipush 30, 2) := dk_16 30 (dk_at dksX5_put_1 3 rfl rfl)
theorem dX5_put_29 : decode cX5_put 29 = .ok (.iload_n 1, 1) := dk_27 (dk_at dksX5_put_1 5 rfl rfl)
theorem dX5_put_30 : decode cX5_put 30 = .ok (.imul, 1) := dk_104 (dk_at dksX5_put_1 6 rfl rfl)
theorem dX5_put_31 : decode cX5_put 31 = .ok (.aload_n 2, 1) := dk_44 (dk_at dksX5_put_1 7 rfl rfl)
theorem dX5_put_32 : decode cX5_put 32 = .ok (.getfield 33, 3) := dk_180 0 33 (dk_at dksX5_put_1 8 rfl rfl)
theorem dX5_put_35 : decode cX5_put 35 = .ok (.invokevirtual 71, 3) := dk_182 0 71 (dk_at dksX5_put_1 11 rfl rfl)
theorem dX5_put_38 : decode cX5_put 38 = .ok (.aload_n 0, 1) := dk_42 (dk_at dksX5_put_1 14 rfl rfl)
theorem dX5_put_39 : decode cX5_put 39 = .ok (.bipush 30, 2) := dk_16 30 (dk_at dksX5_put_1 15 rfl rfl)
theorem dX5_put_41 : decode cX5_put 41 = .ok (.iload_n 1, 1) := dk_27 (dk_at dksX5_put_1 17 rfl rfl)
theorem dX5_put_42 : decode cX5_put 42 = .ok (.imul, 1) := dk_104 (dk_at dksX5_put_1 18 rfl rfl)
theorem dX5_put_43 : decode cX5_put 43 = .ok (.bipush 15, 2) := dk_16 15 (dk_at dksX5_put_1 19 rfl rfl)
theorem dX5_put_45 : decode cX5_put 45 = .ok (.iadd, 1) := dk_96 (dk_at dksX5_put_1 21 rfl rfl)
theorem dX5_put_46 : decode cX5_put 46 = .ok (.aload_n 2, 1) := dk_44 (dk_at dksX5_put_1 22 rfl rfl)
theorem dX5_put_47 : decode cX5_put 47 = .ok (.getfield 43, 3) := dk_180 0 43 (dk_at dksX5_put_2 0 rfl rfl)
theorem dX5_put_50 : decode cX5_put 50 = .ok (.invokevirtual 71, 3) := dk_182 0 71 (dk_at dksX5_put_2 3 rfl rfl)
theorem dX5_put_53 : decode cX5_put 53 = .ok (.aload_n 0, 1) := dk_42 (dk_at dksX5_put_2 6 rfl rfl)
theorem dX5_put_54 : decode cX5_put 54 = .ok (.dup, 1) := dk_89 (dk_at dksX5_put_2 7 rfl rfl)
theorem dX5_put_55 : decode cX5_put 55 = .ok (.getfield 15, 3) := dk_180 0 15 (dk_at dksX5_put_2 8 rfl rfl)
theorem dX5_put_58 : decode cX5_put 58 = .ok (.iconst 1, 1) := dk_4 (dk_at dksX5_put_2 11 rfl rfl)
theorem dX5_put_59 : decode cX5_put 59 = .ok (.iadd, 1) := dk_96 (dk_at dksX5_put_2 12 rfl rfl)
theorem dX5_put_60 : decode cX5_put 60 = .ok (.putfield 15, 3) := dk_181 0 15 (dk_at dksX5_put_2 13 rfl rfl)
theorem dX5_put_63 : decode cX5_put 63 = .ok (.iconst 1, 1) := dk_4 (dk_at dksX5_put_2 16 rfl rfl)
theorem dX5_put_64 : decode cX5_put 64 = .ok (.ireturn, 1) := dk_172 (dk_at dksX5_put_2 17 rfl rfl)
abbrev cX5_save : ByteArray := prog_8_method_10_code
def yX5_save : MethodName := ⟨RX5, "save", "(ILIdealCourt$Whole;)V"⟩
def dkwX5_save_2 : List UInt8 := [167, 255, 229, 177]
abbrev dktX5_save_2 : List UInt8 := dkwX5_save_2 ++ []
def dkwX5_save_1 : List UInt8 := [162, 0, 25, 42, 180, 0, 11, 27, 4, 96, 29, 96, 44, 180, 0, 64, 29, 46, 79, 132, 3, 1]
abbrev dktX5_save_1 : List UInt8 := dkwX5_save_1 ++ dktX5_save_2
def dkwX5_save_0 : List UInt8 := [42, 180, 0, 11, 27, 44, 180, 0, 61, 44, 180, 0, 58, 104, 79, 3, 62, 29, 44, 180, 0, 58]
abbrev dktX5_save_0 : List UInt8 := dkwX5_save_0 ++ dktX5_save_1
theorem dksX5_save_0 : cX5_save.data.toList.drop 0 = dktX5_save_0 := by decide +kernel
theorem dksX5_save_1 : cX5_save.data.toList.drop 22 = dktX5_save_1 := dk_seg dksX5_save_0 22 rfl rfl
theorem dksX5_save_2 : cX5_save.data.toList.drop 44 = dktX5_save_2 := dk_seg dksX5_save_1 22 rfl rfl
theorem dX5_save_0 : decode cX5_save 0 = .ok (.aload_n 0, 1) := dk_42 (dk_at dksX5_save_0 0 rfl rfl)
theorem dX5_save_1 : decode cX5_save 1 = .ok (.getfield 11, 3) := dk_180 0 11 (dk_at dksX5_save_0 1 rfl rfl)
theorem dX5_save_4 : decode cX5_save 4 = .ok (.iload_n 1, 1) := dk_27 (dk_at dksX5_save_0 4 rfl rfl)
theorem dX5_save_5 : decode cX5_save 5 = .ok (.aload_n 2, 1) := dk_44 (dk_at dksX5_save_0 5 rfl rfl)
theorem dX5_save_6 : decode cX5_save 6 = .ok (.getfield 61, 3) := dk_180 0 61 (dk_at dksX5_save_0 6 rfl rfl)
theorem dX5_save_9 : decode cX5_save 9 = .ok (.aload_n 2, 1) := dk_44 (dk_at dksX5_save_0 9 rfl rfl)
theorem dX5_save_10 : decode cX5_save 10 = .ok (.getfield 58, 3) := dk_180 0 58 (dk_at dksX5_save_0 10 rfl rfl)
theorem dX5_save_13 : decode cX5_save 13 = .ok (.imul, 1) := dk_104 (dk_at dksX5_save_0 13 rfl rfl)
theorem dX5_save_14 : decode cX5_save 14 = .ok (.iastore, 1) := dk_79 (dk_at dksX5_save_0 14 rfl rfl)
theorem dX5_save_15 : decode cX5_save 15 = .ok (.iconst 0, 1) := dk_3 (dk_at dksX5_save_0 15 rfl rfl)
theorem dX5_save_16 : decode cX5_save 16 = .ok (.istore_n 3, 1) := dk_62 (dk_at dksX5_save_0 16 rfl rfl)
theorem dX5_save_17 : decode cX5_save 17 = .ok (.iload_n 3, 1) := dk_29 (dk_at dksX5_save_0 17 rfl rfl)
theorem dX5_save_18 : decode cX5_save 18 = .ok (.aload_n 2, 1) := dk_44 (dk_at dksX5_save_0 18 rfl rfl)
theorem dX5_save_19 : decode cX5_save 19 = .ok (.getfield 58, 3) := dk_180 0 58 (dk_at dksX5_save_0 19 rfl rfl)
theorem dX5_save_22 : decode cX5_save 22 = .ok (.if_icmp .ge 25, 3) := dk_162 0 25 (dk_at dksX5_save_1 0 rfl rfl)
theorem dX5_save_25 : decode cX5_save 25 = .ok (.aload_n 0, 1) := dk_42 (dk_at dksX5_save_1 3 rfl rfl)
theorem dX5_save_26 : decode cX5_save 26 = .ok (.getfield 11, 3) := dk_180 0 11 (dk_at dksX5_save_1 4 rfl rfl)
theorem dX5_save_29 : decode cX5_save 29 = .ok (.iload_n 1, 1) := dk_27 (dk_at dksX5_save_1 7 rfl rfl)
theorem dX5_save_30 : decode cX5_save 30 = .ok (.iconst 1, 1) := dk_4 (dk_at dksX5_save_1 8 rfl rfl)
theorem dX5_save_31 : decode cX5_save 31 = .ok (.iadd, 1) := dk_96 (dk_at dksX5_save_1 9 rfl rfl)
theorem dX5_save_32 : decode cX5_save 32 = .ok (.iload_n 3, 1) := dk_29 (dk_at dksX5_save_1 10 rfl rfl)
theorem dX5_save_33 : decode cX5_save 33 = .ok (.iadd, 1) := dk_96 (dk_at dksX5_save_1 11 rfl rfl)
theorem dX5_save_34 : decode cX5_save 34 = .ok (.aload_n 2, 1) := dk_44 (dk_at dksX5_save_1 12 rfl rfl)
theorem dX5_save_35 : decode cX5_save 35 = .ok (.getfield 64, 3) := dk_180 0 64 (dk_at dksX5_save_1 13 rfl rfl)
theorem dX5_save_38 : decode cX5_save 38 = .ok (.iload_n 3, 1) := dk_29 (dk_at dksX5_save_1 16 rfl rfl)
theorem dX5_save_39 : decode cX5_save 39 = .ok (.iaload, 1) := dk_46 (dk_at dksX5_save_1 17 rfl rfl)
theorem dX5_save_40 : decode cX5_save 40 = .ok (.iastore, 1) := dk_79 (dk_at dksX5_save_1 18 rfl rfl)
theorem dX5_save_41 : decode cX5_save 41 = .ok (.iinc 3 1, 3) := dk_132 3 1 (dk_at dksX5_save_1 19 rfl rfl)
theorem dX5_save_44 : decode cX5_save 44 = .ok (.goto (-27), 3) := dk_167 255 229 (dk_at dksX5_save_2 0 rfl rfl)
theorem dX5_save_47 : decode cX5_save 47 = .ok (.return_, 1) := dk_177 (dk_at dksX5_save_2 3 rfl rfl)
abbrev cX5_be : ByteArray := prog_8_method_6_code
def yX5_be : MethodName := ⟨RX5, "be", "(LIdealCourt$Poly;)V"⟩
def dkwX5_be_1 : List UInt8 := [181, 0, 15, 177]
abbrev dktX5_be_1 : List UInt8 := dkwX5_be_1 ++ []
def dkwX5_be_0 : List UInt8 := [43, 180, 0, 11, 3, 42, 180, 0, 11, 3, 42, 180, 0, 11, 190, 184, 0, 27, 42, 43, 180, 0, 15]
abbrev dktX5_be_0 : List UInt8 := dkwX5_be_0 ++ dktX5_be_1
theorem dksX5_be_0 : cX5_be.data.toList.drop 0 = dktX5_be_0 := by decide +kernel
theorem dksX5_be_1 : cX5_be.data.toList.drop 23 = dktX5_be_1 := dk_seg dksX5_be_0 23 rfl rfl
theorem dX5_be_0 : decode cX5_be 0 = .ok (.aload_n 1, 1) := dk_43 (dk_at dksX5_be_0 0 rfl rfl)
theorem dX5_be_1 : decode cX5_be 1 = .ok (.getfield 11, 3) := dk_180 0 11 (dk_at dksX5_be_0 1 rfl rfl)
theorem dX5_be_4 : decode cX5_be 4 = .ok (.iconst 0, 1) := dk_3 (dk_at dksX5_be_0 4 rfl rfl)
theorem dX5_be_5 : decode cX5_be 5 = .ok (.aload_n 0, 1) := dk_42 (dk_at dksX5_be_0 5 rfl rfl)
theorem dX5_be_6 : decode cX5_be 6 = .ok (.getfield 11, 3) := dk_180 0 11 (dk_at dksX5_be_0 6 rfl rfl)
theorem dX5_be_9 : decode cX5_be 9 = .ok (.iconst 0, 1) := dk_3 (dk_at dksX5_be_0 9 rfl rfl)
theorem dX5_be_10 : decode cX5_be 10 = .ok (.aload_n 0, 1) := dk_42 (dk_at dksX5_be_0 10 rfl rfl)
theorem dX5_be_11 : decode cX5_be 11 = .ok (.getfield 11, 3) := dk_180 0 11 (dk_at dksX5_be_0 11 rfl rfl)
theorem dX5_be_14 : decode cX5_be 14 = .ok (.arraylength, 1) := dk_190 (dk_at dksX5_be_0 14 rfl rfl)
theorem dX5_be_15 : decode cX5_be 15 = .ok (.invokestatic 27, 3) := dk_184 0 27 (dk_at dksX5_be_0 15 rfl rfl)
theorem dX5_be_18 : decode cX5_be 18 = .ok (.aload_n 0, 1) := dk_42 (dk_at dksX5_be_0 18 rfl rfl)
theorem dX5_be_19 : decode cX5_be 19 = .ok (.aload_n 1, 1) := dk_43 (dk_at dksX5_be_0 19 rfl rfl)
theorem dX5_be_20 : decode cX5_be 20 = .ok (.getfield 15, 3) := dk_180 0 15 (dk_at dksX5_be_0 20 rfl rfl)
theorem dX5_be_23 : decode cX5_be 23 = .ok (.putfield 15, 3) := dk_181 0 15 (dk_at dksX5_be_1 0 rfl rfl)
theorem dX5_be_26 : decode cX5_be 26 = .ok (.return_, 1) := dk_177 (dk_at dksX5_be_1 3 rfl rfl)
abbrev cX5_isRight : ByteArray := prog_8_method_11_code
def yX5_isRight : MethodName := ⟨RX5, "isRight", "()Z"⟩
def dkwX5_isRight_0 : List UInt8 := [42, 180, 0, 15, 16, 60, 163, 0, 7, 4, 167, 0, 4, 3, 172]
abbrev dktX5_isRight_0 : List UInt8 := dkwX5_isRight_0 ++ []
theorem dksX5_isRight_0 : cX5_isRight.data.toList.drop 0 = dktX5_isRight_0 := by decide +kernel
theorem dX5_isRight_0 : decode cX5_isRight 0 = .ok (.aload_n 0, 1) := dk_42 (dk_at dksX5_isRight_0 0 rfl rfl)
theorem dX5_isRight_1 : decode cX5_isRight 1 = .ok (.getfield 15, 3) := dk_180 0 15 (dk_at dksX5_isRight_0 1 rfl rfl)
theorem dX5_isRight_4 : decode cX5_isRight 4 = .ok (.bipush 60, 2) := dk_16 60 (dk_at dksX5_isRight_0 4 rfl rfl)
theorem dX5_isRight_6 : decode cX5_isRight 6 = .ok (.if_icmp .gt 7, 3) := dk_163 0 7 (dk_at dksX5_isRight_0 6 rfl rfl)
theorem dX5_isRight_9 : decode cX5_isRight 9 = .ok (.iconst 1, 1) := dk_4 (dk_at dksX5_isRight_0 9 rfl rfl)
theorem dX5_isRight_10 : decode cX5_isRight 10 = .ok (.goto 4, 3) := dk_167 0 4 (dk_at dksX5_isRight_0 10 rfl rfl)
theorem dX5_isRight_13 : decode cX5_isRight 13 = .ok (.iconst 0, 1) := dk_3 (dk_at dksX5_isRight_0 13 rfl rfl)
theorem dX5_isRight_14 : decode cX5_isRight 14 = .ok (.ireturn, 1) := dk_172 (dk_at dksX5_isRight_0 14 rfl rfl)
abbrev cX5_degree : ByteArray := prog_8_method_13_code
def yX5_degree : MethodName := ⟨RX5, "degree", "(LIdealCourt$Terms;)I"⟩
def dkwX5_degree_1 : List UInt8 := [182, 0, 80, 184, 0, 85, 61, 132, 3, 1, 167, 255, 228, 28, 172]
abbrev dktX5_degree_1 : List UInt8 := dkwX5_degree_1 ++ []
def dkwX5_degree_0 : List UInt8 := [16, 249, 61, 3, 62, 29, 17, 1, 199, 162, 0, 27, 42, 29, 182, 0, 23, 153, 0, 13, 28, 43, 29]
abbrev dktX5_degree_0 : List UInt8 := dkwX5_degree_0 ++ dktX5_degree_1
theorem dksX5_degree_0 : cX5_degree.data.toList.drop 0 = dktX5_degree_0 := by decide +kernel
theorem dksX5_degree_1 : cX5_degree.data.toList.drop 23 = dktX5_degree_1 := dk_seg dksX5_degree_0 23 rfl rfl
theorem dX5_degree_0 : decode cX5_degree 0 = .ok (.bipush (-7), 2) := dk_16 249 (dk_at dksX5_degree_0 0 rfl rfl)
theorem dX5_degree_2 : decode cX5_degree 2 = .ok (.istore_n 2, 1) := dk_61 (dk_at dksX5_degree_0 2 rfl rfl)
theorem dX5_degree_3 : decode cX5_degree 3 = .ok (.iconst 0, 1) := dk_3 (dk_at dksX5_degree_0 3 rfl rfl)
theorem dX5_degree_4 : decode cX5_degree 4 = .ok (.istore_n 3, 1) := dk_62 (dk_at dksX5_degree_0 4 rfl rfl)
theorem dX5_degree_5 : decode cX5_degree 5 = .ok (.iload_n 3, 1) := dk_29 (dk_at dksX5_degree_0 5 rfl rfl)
theorem dX5_degree_6 : decode cX5_degree 6 = .ok (.sipush 455, 3) := dk_17 1 199 (dk_at dksX5_degree_0 6 rfl rfl)
theorem dX5_degree_9 : decode cX5_degree 9 = .ok (.if_icmp .ge 27, 3) := dk_162 0 27 (dk_at dksX5_degree_0 9 rfl rfl)
theorem dX5_degree_12 : decode cX5_degree 12 = .ok (.aload_n 0, 1) := dk_42 (dk_at dksX5_degree_0 12 rfl rfl)
theorem dX5_degree_13 : decode cX5_degree 13 = .ok (.iload_n 3, 1) := dk_29 (dk_at dksX5_degree_0 13 rfl rfl)
theorem dX5_degree_14 : decode cX5_degree 14 = .ok (.invokevirtual 23, 3) := dk_182 0 23 (dk_at dksX5_degree_0 14 rfl rfl)
theorem dX5_degree_17 : decode cX5_degree 17 = .ok (.ifCond .eq 13, 3) := dk_153 0 13 (dk_at dksX5_degree_0 17 rfl rfl)
theorem dX5_degree_20 : decode cX5_degree 20 = .ok (.iload_n 2, 1) := dk_28 (dk_at dksX5_degree_0 20 rfl rfl)
theorem dX5_degree_21 : decode cX5_degree 21 = .ok (.aload_n 1, 1) := dk_43 (dk_at dksX5_degree_0 21 rfl rfl)
theorem dX5_degree_22 : decode cX5_degree 22 = .ok (.iload_n 3, 1) := dk_29 (dk_at dksX5_degree_0 22 rfl rfl)
theorem dX5_degree_23 : decode cX5_degree 23 = .ok (.invokevirtual 80, 3) := dk_182 0 80 (dk_at dksX5_degree_1 0 rfl rfl)
theorem dX5_degree_26 : decode cX5_degree 26 = .ok (.invokestatic 85, 3) := dk_184 0 85 (dk_at dksX5_degree_1 3 rfl rfl)
theorem dX5_degree_29 : decode cX5_degree 29 = .ok (.istore_n 2, 1) := dk_61 (dk_at dksX5_degree_1 6 rfl rfl)
theorem dX5_degree_30 : decode cX5_degree 30 = .ok (.iinc 3 1, 3) := dk_132 3 1 (dk_at dksX5_degree_1 7 rfl rfl)
theorem dX5_degree_33 : decode cX5_degree 33 = .ok (.goto (-28), 3) := dk_167 255 228 (dk_at dksX5_degree_1 10 rfl rfl)
theorem dX5_degree_36 : decode cX5_degree 36 = .ok (.iload_n 2, 1) := dk_28 (dk_at dksX5_degree_1 13 rfl rfl)
theorem dX5_degree_37 : decode cX5_degree 37 = .ok (.ireturn, 1) := dk_172 (dk_at dksX5_degree_1 14 rfl rfl)
abbrev cX5_lead : ByteArray := prog_8_method_12_code
def yX5_lead : MethodName := ⟨RX5, "lead", "(LIdealCourt$Ranks;)I"⟩
def dkwX5_lead_1 : List UInt8 := [159, 0, 14, 43, 29, 28, 185, 0, 74, 3, 0, 158, 0, 5, 29, 61, 132, 3, 1, 167, 255, 219, 28, 172]
abbrev dktX5_lead_1 : List UInt8 := dkwX5_lead_1 ++ []
def dkwX5_lead_0 : List UInt8 := [16, 249, 61, 3, 62, 29, 17, 1, 199, 162, 0, 36, 42, 29, 182, 0, 23, 153, 0, 22, 28, 16, 249]
abbrev dktX5_lead_0 : List UInt8 := dkwX5_lead_0 ++ dktX5_lead_1
theorem dksX5_lead_0 : cX5_lead.data.toList.drop 0 = dktX5_lead_0 := by decide +kernel
theorem dksX5_lead_1 : cX5_lead.data.toList.drop 23 = dktX5_lead_1 := dk_seg dksX5_lead_0 23 rfl rfl
theorem dX5_lead_0 : decode cX5_lead 0 = .ok (.bipush (-7), 2) := dk_16 249 (dk_at dksX5_lead_0 0 rfl rfl)
theorem dX5_lead_2 : decode cX5_lead 2 = .ok (.istore_n 2, 1) := dk_61 (dk_at dksX5_lead_0 2 rfl rfl)
theorem dX5_lead_3 : decode cX5_lead 3 = .ok (.iconst 0, 1) := dk_3 (dk_at dksX5_lead_0 3 rfl rfl)
theorem dX5_lead_4 : decode cX5_lead 4 = .ok (.istore_n 3, 1) := dk_62 (dk_at dksX5_lead_0 4 rfl rfl)
theorem dX5_lead_5 : decode cX5_lead 5 = .ok (.iload_n 3, 1) := dk_29 (dk_at dksX5_lead_0 5 rfl rfl)
theorem dX5_lead_6 : decode cX5_lead 6 = .ok (.sipush 455, 3) := dk_17 1 199 (dk_at dksX5_lead_0 6 rfl rfl)
theorem dX5_lead_9 : decode cX5_lead 9 = .ok (.if_icmp .ge 36, 3) := dk_162 0 36 (dk_at dksX5_lead_0 9 rfl rfl)
theorem dX5_lead_12 : decode cX5_lead 12 = .ok (.aload_n 0, 1) := dk_42 (dk_at dksX5_lead_0 12 rfl rfl)
theorem dX5_lead_13 : decode cX5_lead 13 = .ok (.iload_n 3, 1) := dk_29 (dk_at dksX5_lead_0 13 rfl rfl)
theorem dX5_lead_14 : decode cX5_lead 14 = .ok (.invokevirtual 23, 3) := dk_182 0 23 (dk_at dksX5_lead_0 14 rfl rfl)
theorem dX5_lead_17 : decode cX5_lead 17 = .ok (.ifCond .eq 22, 3) := dk_153 0 22 (dk_at dksX5_lead_0 17 rfl rfl)
theorem dX5_lead_20 : decode cX5_lead 20 = .ok (.iload_n 2, 1) := dk_28 (dk_at dksX5_lead_0 20 rfl rfl)
theorem dX5_lead_21 : decode cX5_lead 21 = .ok (.bipush (-7), 2) := dk_16 249 (dk_at dksX5_lead_0 21 rfl rfl)
theorem dX5_lead_23 : decode cX5_lead 23 = .ok (.if_icmp .eq 14, 3) := dk_159 0 14 (dk_at dksX5_lead_1 0 rfl rfl)
theorem dX5_lead_26 : decode cX5_lead 26 = .ok (.aload_n 1, 1) := dk_43 (dk_at dksX5_lead_1 3 rfl rfl)
theorem dX5_lead_27 : decode cX5_lead 27 = .ok (.iload_n 3, 1) := dk_29 (dk_at dksX5_lead_1 4 rfl rfl)
theorem dX5_lead_28 : decode cX5_lead 28 = .ok (.iload_n 2, 1) := dk_28 (dk_at dksX5_lead_1 5 rfl rfl)
theorem dX5_lead_29 : decode cX5_lead 29 = .ok (.invokeinterface 74 3, 5) := by decide +kernel
theorem dX5_lead_34 : decode cX5_lead 34 = .ok (.ifCond .le 5, 3) := dk_158 0 5 (dk_at dksX5_lead_1 11 rfl rfl)
theorem dX5_lead_37 : decode cX5_lead 37 = .ok (.iload_n 3, 1) := dk_29 (dk_at dksX5_lead_1 14 rfl rfl)
theorem dX5_lead_38 : decode cX5_lead 38 = .ok (.istore_n 2, 1) := dk_61 (dk_at dksX5_lead_1 15 rfl rfl)
theorem dX5_lead_39 : decode cX5_lead 39 = .ok (.iinc 3 1, 3) := dk_132 3 1 (dk_at dksX5_lead_1 16 rfl rfl)
theorem dX5_lead_42 : decode cX5_lead 42 = .ok (.goto (-37), 3) := dk_167 255 219 (dk_at dksX5_lead_1 19 rfl rfl)
theorem dX5_lead_45 : decode cX5_lead 45 = .ok (.iload_n 2, 1) := dk_28 (dk_at dksX5_lead_1 22 rfl rfl)
theorem dX5_lead_46 : decode cX5_lead 46 = .ok (.ireturn, 1) := dk_172 (dk_at dksX5_lead_1 23 rfl rfl)
abbrev cX5_isLike : ByteArray := prog_8_method_14_code
def yX5_isLike : MethodName := ⟨RX5, "isLike", "(LIdealCourt$Poly;)Z"⟩
def dkwX5_isLike_1 : List UInt8 := [162, 0, 20, 28, 153, 0, 16, 42, 43, 29, 182, 0, 88, 61, 132, 3, 1, 167, 255, 235, 28, 172]
abbrev dktX5_isLike_1 : List UInt8 := dkwX5_isLike_1 ++ []
def dkwX5_isLike_0 : List UInt8 := [42, 180, 0, 15, 43, 180, 0, 15, 160, 0, 7, 4, 167, 0, 4, 3, 61, 3, 62, 29, 17, 1, 199]
abbrev dktX5_isLike_0 : List UInt8 := dkwX5_isLike_0 ++ dktX5_isLike_1
theorem dksX5_isLike_0 : cX5_isLike.data.toList.drop 0 = dktX5_isLike_0 := by decide +kernel
theorem dksX5_isLike_1 : cX5_isLike.data.toList.drop 23 = dktX5_isLike_1 := dk_seg dksX5_isLike_0 23 rfl rfl
theorem dX5_isLike_0 : decode cX5_isLike 0 = .ok (.aload_n 0, 1) := dk_42 (dk_at dksX5_isLike_0 0 rfl rfl)
theorem dX5_isLike_1 : decode cX5_isLike 1 = .ok (.getfield 15, 3) := dk_180 0 15 (dk_at dksX5_isLike_0 1 rfl rfl)
theorem dX5_isLike_4 : decode cX5_isLike 4 = .ok (.aload_n 1, 1) := dk_43 (dk_at dksX5_isLike_0 4 rfl rfl)
theorem dX5_isLike_5 : decode cX5_isLike 5 = .ok (.getfield 15, 3) := dk_180 0 15 (dk_at dksX5_isLike_0 5 rfl rfl)
theorem dX5_isLike_8 : decode cX5_isLike 8 = .ok (.if_icmp .ne 7, 3) := dk_160 0 7 (dk_at dksX5_isLike_0 8 rfl rfl)
theorem dX5_isLike_11 : decode cX5_isLike 11 = .ok (.iconst 1, 1) := dk_4 (dk_at dksX5_isLike_0 11 rfl rfl)
theorem dX5_isLike_12 : decode cX5_isLike 12 = .ok (.goto 4, 3) := dk_167 0 4 (dk_at dksX5_isLike_0 12 rfl rfl)
theorem dX5_isLike_15 : decode cX5_isLike 15 = .ok (.iconst 0, 1) := dk_3 (dk_at dksX5_isLike_0 15 rfl rfl)
theorem dX5_isLike_16 : decode cX5_isLike 16 = .ok (.istore_n 2, 1) := dk_61 (dk_at dksX5_isLike_0 16 rfl rfl)
theorem dX5_isLike_17 : decode cX5_isLike 17 = .ok (.iconst 0, 1) := dk_3 (dk_at dksX5_isLike_0 17 rfl rfl)
theorem dX5_isLike_18 : decode cX5_isLike 18 = .ok (.istore_n 3, 1) := dk_62 (dk_at dksX5_isLike_0 18 rfl rfl)
theorem dX5_isLike_19 : decode cX5_isLike 19 = .ok (.iload_n 3, 1) := dk_29 (dk_at dksX5_isLike_0 19 rfl rfl)
theorem dX5_isLike_20 : decode cX5_isLike 20 = .ok (.sipush 455, 3) := dk_17 1 199 (dk_at dksX5_isLike_0 20 rfl rfl)
theorem dX5_isLike_23 : decode cX5_isLike 23 = .ok (.if_icmp .ge 20, 3) := dk_162 0 20 (dk_at dksX5_isLike_1 0 rfl rfl)
theorem dX5_isLike_26 : decode cX5_isLike 26 = .ok (.iload_n 2, 1) := dk_28 (dk_at dksX5_isLike_1 3 rfl rfl)
theorem dX5_isLike_27 : decode cX5_isLike 27 = .ok (.ifCond .eq 16, 3) := dk_153 0 16 (dk_at dksX5_isLike_1 4 rfl rfl)
theorem dX5_isLike_30 : decode cX5_isLike 30 = .ok (.aload_n 0, 1) := dk_42 (dk_at dksX5_isLike_1 7 rfl rfl)
theorem dX5_isLike_31 : decode cX5_isLike 31 = .ok (.aload_n 1, 1) := dk_43 (dk_at dksX5_isLike_1 8 rfl rfl)
theorem dX5_isLike_32 : decode cX5_isLike 32 = .ok (.iload_n 3, 1) := dk_29 (dk_at dksX5_isLike_1 9 rfl rfl)
theorem dX5_isLike_33 : decode cX5_isLike 33 = .ok (.invokevirtual 88, 3) := dk_182 0 88 (dk_at dksX5_isLike_1 10 rfl rfl)
theorem dX5_isLike_36 : decode cX5_isLike 36 = .ok (.istore_n 2, 1) := dk_61 (dk_at dksX5_isLike_1 13 rfl rfl)
theorem dX5_isLike_37 : decode cX5_isLike 37 = .ok (.iinc 3 1, 3) := dk_132 3 1 (dk_at dksX5_isLike_1 14 rfl rfl)
theorem dX5_isLike_40 : decode cX5_isLike 40 = .ok (.goto (-21), 3) := dk_167 255 235 (dk_at dksX5_isLike_1 17 rfl rfl)
theorem dX5_isLike_43 : decode cX5_isLike 43 = .ok (.iload_n 2, 1) := dk_28 (dk_at dksX5_isLike_1 20 rfl rfl)
theorem dX5_isLike_44 : decode cX5_isLike 44 = .ok (.ireturn, 1) := dk_172 (dk_at dksX5_isLike_1 21 rfl rfl)
abbrev cX5_isLikeAt : ByteArray := prog_8_method_15_code
def yX5_isLikeAt : MethodName := ⟨RX5, "isLikeAt", "(LIdealCourt$Poly;I)Z"⟩
def dkwX5_isLikeAt_7 : List UInt8 := [21, 6, 96, 46, 160, 0, 7, 4, 167, 0, 4, 3, 54, 4, 132, 6, 1, 167, 255, 195, 21, 4, 172]
abbrev dktX5_isLikeAt_7 : List UInt8 := dkwX5_isLikeAt_7 ++ []
def dkwX5_isLikeAt_6 : List UInt8 := [153, 0, 43, 42, 180, 0, 11, 29, 16, 15, 96, 21, 6, 96, 46, 43, 180, 0, 11, 29, 16, 15, 96]
abbrev dktX5_isLikeAt_6 : List UInt8 := dkwX5_isLikeAt_6 ++ dktX5_isLikeAt_7
def dkwX5_isLikeAt_5 : List UInt8 := [4, 54, 6, 21, 5, 158, 0, 62, 21, 6, 42, 180, 0, 11, 29, 16, 15, 96, 46, 163, 0, 48, 21, 4]
abbrev dktX5_isLikeAt_5 : List UInt8 := dkwX5_isLikeAt_5 ++ dktX5_isLikeAt_6
def dkwX5_isLikeAt_4 : List UInt8 := [180, 0, 11, 29, 21, 6, 96, 46, 160, 0, 7, 4, 167, 0, 4, 3, 54, 4, 132, 6, 1, 167, 255, 213]
abbrev dktX5_isLikeAt_4 : List UInt8 := dkwX5_isLikeAt_4 ++ dktX5_isLikeAt_5
def dkwX5_isLikeAt_3 : List UInt8 := [21, 6, 21, 5, 163, 0, 42, 21, 4, 153, 0, 37, 42, 180, 0, 11, 29, 21, 6, 96, 46, 43]
abbrev dktX5_isLikeAt_3 : List UInt8 := dkwX5_isLikeAt_3 ++ dktX5_isLikeAt_4
def dkwX5_isLikeAt_2 : List UInt8 := [160, 0, 7, 4, 167, 0, 4, 3, 54, 4, 42, 180, 0, 11, 29, 46, 184, 0, 52, 54, 5, 4, 54, 6]
abbrev dktX5_isLikeAt_2 : List UInt8 := dkwX5_isLikeAt_2 ++ dktX5_isLikeAt_3
def dkwX5_isLikeAt_1 : List UInt8 := [29, 46, 153, 0, 24, 42, 180, 0, 11, 29, 16, 15, 96, 46, 43, 180, 0, 11, 29, 16, 15, 96, 46]
abbrev dktX5_isLikeAt_1 : List UInt8 := dkwX5_isLikeAt_1 ++ dktX5_isLikeAt_2
def dkwX5_isLikeAt_0 : List UInt8 := [16, 30, 28, 104, 62, 42, 180, 0, 11, 29, 46, 43, 180, 0, 11, 29, 46, 160, 0, 37, 42, 180, 0, 11]
abbrev dktX5_isLikeAt_0 : List UInt8 := dkwX5_isLikeAt_0 ++ dktX5_isLikeAt_1
theorem dksX5_isLikeAt_0 : cX5_isLikeAt.data.toList.drop 0 = dktX5_isLikeAt_0 := by decide +kernel
theorem dksX5_isLikeAt_1 : cX5_isLikeAt.data.toList.drop 24 = dktX5_isLikeAt_1 := dk_seg dksX5_isLikeAt_0 24 rfl rfl
theorem dksX5_isLikeAt_2 : cX5_isLikeAt.data.toList.drop 47 = dktX5_isLikeAt_2 := dk_seg dksX5_isLikeAt_1 23 rfl rfl
theorem dksX5_isLikeAt_3 : cX5_isLikeAt.data.toList.drop 71 = dktX5_isLikeAt_3 := dk_seg dksX5_isLikeAt_2 24 rfl rfl
theorem dksX5_isLikeAt_4 : cX5_isLikeAt.data.toList.drop 93 = dktX5_isLikeAt_4 := dk_seg dksX5_isLikeAt_3 22 rfl rfl
theorem dksX5_isLikeAt_5 : cX5_isLikeAt.data.toList.drop 117 = dktX5_isLikeAt_5 := dk_seg dksX5_isLikeAt_4 24 rfl rfl
theorem dksX5_isLikeAt_6 : cX5_isLikeAt.data.toList.drop 141 = dktX5_isLikeAt_6 := dk_seg dksX5_isLikeAt_5 24 rfl rfl
theorem dksX5_isLikeAt_7 : cX5_isLikeAt.data.toList.drop 164 = dktX5_isLikeAt_7 := dk_seg dksX5_isLikeAt_6 23 rfl rfl
theorem dX5_isLikeAt_0 : decode cX5_isLikeAt 0 = .ok (.bipush 30, 2) := dk_16 30 (dk_at dksX5_isLikeAt_0 0 rfl rfl)
theorem dX5_isLikeAt_2 : decode cX5_isLikeAt 2 = .ok (.iload_n 2, 1) := dk_28 (dk_at dksX5_isLikeAt_0 2 rfl rfl)
theorem dX5_isLikeAt_3 : decode cX5_isLikeAt 3 = .ok (.imul, 1) := dk_104 (dk_at dksX5_isLikeAt_0 3 rfl rfl)
theorem dX5_isLikeAt_4 : decode cX5_isLikeAt 4 = .ok (.istore_n 3, 1) := dk_62 (dk_at dksX5_isLikeAt_0 4 rfl rfl)
theorem dX5_isLikeAt_5 : decode cX5_isLikeAt 5 = .ok (.aload_n 0, 1) := dk_42 (dk_at dksX5_isLikeAt_0 5 rfl rfl)
theorem dX5_isLikeAt_6 : decode cX5_isLikeAt 6 = .ok (.getfield 11, 3) := dk_180 0 11 (dk_at dksX5_isLikeAt_0 6 rfl rfl)
theorem dX5_isLikeAt_9 : decode cX5_isLikeAt 9 = .ok (.iload_n 3, 1) := dk_29 (dk_at dksX5_isLikeAt_0 9 rfl rfl)
theorem dX5_isLikeAt_10 : decode cX5_isLikeAt 10 = .ok (.iaload, 1) := dk_46 (dk_at dksX5_isLikeAt_0 10 rfl rfl)
theorem dX5_isLikeAt_11 : decode cX5_isLikeAt 11 = .ok (.aload_n 1, 1) := dk_43 (dk_at dksX5_isLikeAt_0 11 rfl rfl)
theorem dX5_isLikeAt_12 : decode cX5_isLikeAt 12 = .ok (.getfield 11, 3) := dk_180 0 11 (dk_at dksX5_isLikeAt_0 12 rfl rfl)
theorem dX5_isLikeAt_15 : decode cX5_isLikeAt 15 = .ok (.iload_n 3, 1) := dk_29 (dk_at dksX5_isLikeAt_0 15 rfl rfl)
theorem dX5_isLikeAt_16 : decode cX5_isLikeAt 16 = .ok (.iaload, 1) := dk_46 (dk_at dksX5_isLikeAt_0 16 rfl rfl)
theorem dX5_isLikeAt_17 : decode cX5_isLikeAt 17 = .ok (.if_icmp .ne 37, 3) := dk_160 0 37 (dk_at dksX5_isLikeAt_0 17 rfl rfl)
theorem dX5_isLikeAt_20 : decode cX5_isLikeAt 20 = .ok (.aload_n 0, 1) := dk_42 (dk_at dksX5_isLikeAt_0 20 rfl rfl)
theorem dX5_isLikeAt_21 : decode cX5_isLikeAt 21 = .ok (.getfield 11, 3) := dk_180 0 11 (dk_at dksX5_isLikeAt_0 21 rfl rfl)
theorem dX5_isLikeAt_24 : decode cX5_isLikeAt 24 = .ok (.iload_n 3, 1) := dk_29 (dk_at dksX5_isLikeAt_1 0 rfl rfl)
theorem dX5_isLikeAt_25 : decode cX5_isLikeAt 25 = .ok (.iaload, 1) := dk_46 (dk_at dksX5_isLikeAt_1 1 rfl rfl)
theorem dX5_isLikeAt_26 : decode cX5_isLikeAt 26 = .ok (.ifCond .eq 24, 3) := dk_153 0 24 (dk_at dksX5_isLikeAt_1 2 rfl rfl)
theorem dX5_isLikeAt_29 : decode cX5_isLikeAt 29 = .ok (.aload_n 0, 1) := dk_42 (dk_at dksX5_isLikeAt_1 5 rfl rfl)
theorem dX5_isLikeAt_30 : decode cX5_isLikeAt 30 = .ok (.getfield 11, 3) := dk_180 0 11 (dk_at dksX5_isLikeAt_1 6 rfl rfl)
theorem dX5_isLikeAt_33 : decode cX5_isLikeAt 33 = .ok (.iload_n 3, 1) := dk_29 (dk_at dksX5_isLikeAt_1 9 rfl rfl)
theorem dX5_isLikeAt_34 : decode cX5_isLikeAt 34 = .ok (.bipush 15, 2) := dk_16 15 (dk_at dksX5_isLikeAt_1 10 rfl rfl)
theorem dX5_isLikeAt_36 : decode cX5_isLikeAt 36 = .ok (.iadd, 1) := dk_96 (dk_at dksX5_isLikeAt_1 12 rfl rfl)
theorem dX5_isLikeAt_37 : decode cX5_isLikeAt 37 = .ok (.iaload, 1) := dk_46 (dk_at dksX5_isLikeAt_1 13 rfl rfl)
theorem dX5_isLikeAt_38 : decode cX5_isLikeAt 38 = .ok (.aload_n 1, 1) := dk_43 (dk_at dksX5_isLikeAt_1 14 rfl rfl)
theorem dX5_isLikeAt_39 : decode cX5_isLikeAt 39 = .ok (.getfield 11, 3) := dk_180 0 11 (dk_at dksX5_isLikeAt_1 15 rfl rfl)
theorem dX5_isLikeAt_42 : decode cX5_isLikeAt 42 = .ok (.iload_n 3, 1) := dk_29 (dk_at dksX5_isLikeAt_1 18 rfl rfl)
theorem dX5_isLikeAt_43 : decode cX5_isLikeAt 43 = .ok (.bipush 15, 2) := dk_16 15 (dk_at dksX5_isLikeAt_1 19 rfl rfl)
theorem dX5_isLikeAt_45 : decode cX5_isLikeAt 45 = .ok (.iadd, 1) := dk_96 (dk_at dksX5_isLikeAt_1 21 rfl rfl)
theorem dX5_isLikeAt_46 : decode cX5_isLikeAt 46 = .ok (.iaload, 1) := dk_46 (dk_at dksX5_isLikeAt_1 22 rfl rfl)
theorem dX5_isLikeAt_47 : decode cX5_isLikeAt 47 = .ok (.if_icmp .ne 7, 3) := dk_160 0 7 (dk_at dksX5_isLikeAt_2 0 rfl rfl)
theorem dX5_isLikeAt_50 : decode cX5_isLikeAt 50 = .ok (.iconst 1, 1) := dk_4 (dk_at dksX5_isLikeAt_2 3 rfl rfl)
theorem dX5_isLikeAt_51 : decode cX5_isLikeAt 51 = .ok (.goto 4, 3) := dk_167 0 4 (dk_at dksX5_isLikeAt_2 4 rfl rfl)
theorem dX5_isLikeAt_54 : decode cX5_isLikeAt 54 = .ok (.iconst 0, 1) := dk_3 (dk_at dksX5_isLikeAt_2 7 rfl rfl)
theorem dX5_isLikeAt_55 : decode cX5_isLikeAt 55 = .ok (.istore 4, 2) := dk_54 4 (dk_at dksX5_isLikeAt_2 8 rfl rfl)
theorem dX5_isLikeAt_57 : decode cX5_isLikeAt 57 = .ok (.aload_n 0, 1) := dk_42 (dk_at dksX5_isLikeAt_2 10 rfl rfl)
theorem dX5_isLikeAt_58 : decode cX5_isLikeAt 58 = .ok (.getfield 11, 3) := dk_180 0 11 (dk_at dksX5_isLikeAt_2 11 rfl rfl)
theorem dX5_isLikeAt_61 : decode cX5_isLikeAt 61 = .ok (.iload_n 3, 1) := dk_29 (dk_at dksX5_isLikeAt_2 14 rfl rfl)
theorem dX5_isLikeAt_62 : decode cX5_isLikeAt 62 = .ok (.iaload, 1) := dk_46 (dk_at dksX5_isLikeAt_2 15 rfl rfl)
theorem dX5_isLikeAt_63 : decode cX5_isLikeAt 63 = .ok (.invokestatic 52, 3) := dk_184 0 52 (dk_at dksX5_isLikeAt_2 16 rfl rfl)
theorem dX5_isLikeAt_66 : decode cX5_isLikeAt 66 = .ok (.istore 5, 2) := dk_54 5 (dk_at dksX5_isLikeAt_2 19 rfl rfl)
theorem dX5_isLikeAt_68 : decode cX5_isLikeAt 68 = .ok (.iconst 1, 1) := dk_4 (dk_at dksX5_isLikeAt_2 21 rfl rfl)
theorem dX5_isLikeAt_69 : decode cX5_isLikeAt 69 = .ok (.istore 6, 2) := dk_54 6 (dk_at dksX5_isLikeAt_2 22 rfl rfl)
theorem dX5_isLikeAt_71 : decode cX5_isLikeAt 71 = .ok (.iload 6, 2) := dk_21 6 (dk_at dksX5_isLikeAt_3 0 rfl rfl)
theorem dX5_isLikeAt_73 : decode cX5_isLikeAt 73 = .ok (.iload 5, 2) := dk_21 5 (dk_at dksX5_isLikeAt_3 2 rfl rfl)
theorem dX5_isLikeAt_75 : decode cX5_isLikeAt 75 = .ok (.if_icmp .gt 42, 3) := dk_163 0 42 (dk_at dksX5_isLikeAt_3 4 rfl rfl)
theorem dX5_isLikeAt_78 : decode cX5_isLikeAt 78 = .ok (.iload 4, 2) := dk_21 4 (dk_at dksX5_isLikeAt_3 7 rfl rfl)
theorem dX5_isLikeAt_80 : decode cX5_isLikeAt 80 = .ok (.ifCond .eq 37, 3) := dk_153 0 37 (dk_at dksX5_isLikeAt_3 9 rfl rfl)
theorem dX5_isLikeAt_83 : decode cX5_isLikeAt 83 = .ok (.aload_n 0, 1) := dk_42 (dk_at dksX5_isLikeAt_3 12 rfl rfl)
theorem dX5_isLikeAt_84 : decode cX5_isLikeAt 84 = .ok (.getfield 11, 3) := dk_180 0 11 (dk_at dksX5_isLikeAt_3 13 rfl rfl)
theorem dX5_isLikeAt_87 : decode cX5_isLikeAt 87 = .ok (.iload_n 3, 1) := dk_29 (dk_at dksX5_isLikeAt_3 16 rfl rfl)
theorem dX5_isLikeAt_88 : decode cX5_isLikeAt 88 = .ok (.iload 6, 2) := dk_21 6 (dk_at dksX5_isLikeAt_3 17 rfl rfl)
theorem dX5_isLikeAt_90 : decode cX5_isLikeAt 90 = .ok (.iadd, 1) := dk_96 (dk_at dksX5_isLikeAt_3 19 rfl rfl)
theorem dX5_isLikeAt_91 : decode cX5_isLikeAt 91 = .ok (.iaload, 1) := dk_46 (dk_at dksX5_isLikeAt_3 20 rfl rfl)
theorem dX5_isLikeAt_92 : decode cX5_isLikeAt 92 = .ok (.aload_n 1, 1) := dk_43 (dk_at dksX5_isLikeAt_3 21 rfl rfl)
theorem dX5_isLikeAt_93 : decode cX5_isLikeAt 93 = .ok (.getfield 11, 3) := dk_180 0 11 (dk_at dksX5_isLikeAt_4 0 rfl rfl)
theorem dX5_isLikeAt_96 : decode cX5_isLikeAt 96 = .ok (.iload_n 3, 1) := dk_29 (dk_at dksX5_isLikeAt_4 3 rfl rfl)
theorem dX5_isLikeAt_97 : decode cX5_isLikeAt 97 = .ok (.iload 6, 2) := dk_21 6 (dk_at dksX5_isLikeAt_4 4 rfl rfl)
theorem dX5_isLikeAt_99 : decode cX5_isLikeAt 99 = .ok (.iadd, 1) := dk_96 (dk_at dksX5_isLikeAt_4 6 rfl rfl)
theorem dX5_isLikeAt_100 : decode cX5_isLikeAt 100 = .ok (.iaload, 1) := dk_46 (dk_at dksX5_isLikeAt_4 7 rfl rfl)
theorem dX5_isLikeAt_101 : decode cX5_isLikeAt 101 = .ok (.if_icmp .ne 7, 3) := dk_160 0 7 (dk_at dksX5_isLikeAt_4 8 rfl rfl)
theorem dX5_isLikeAt_104 : decode cX5_isLikeAt 104 = .ok (.iconst 1, 1) := dk_4 (dk_at dksX5_isLikeAt_4 11 rfl rfl)
theorem dX5_isLikeAt_105 : decode cX5_isLikeAt 105 = .ok (.goto 4, 3) := dk_167 0 4 (dk_at dksX5_isLikeAt_4 12 rfl rfl)
theorem dX5_isLikeAt_108 : decode cX5_isLikeAt 108 = .ok (.iconst 0, 1) := dk_3 (dk_at dksX5_isLikeAt_4 15 rfl rfl)
theorem dX5_isLikeAt_109 : decode cX5_isLikeAt 109 = .ok (.istore 4, 2) := dk_54 4 (dk_at dksX5_isLikeAt_4 16 rfl rfl)
theorem dX5_isLikeAt_111 : decode cX5_isLikeAt 111 = .ok (.iinc 6 1, 3) := dk_132 6 1 (dk_at dksX5_isLikeAt_4 18 rfl rfl)
theorem dX5_isLikeAt_114 : decode cX5_isLikeAt 114 = .ok (.goto (-43), 3) := dk_167 255 213 (dk_at dksX5_isLikeAt_4 21 rfl rfl)
theorem dX5_isLikeAt_117 : decode cX5_isLikeAt 117 = .ok (.iconst 1, 1) := dk_4 (dk_at dksX5_isLikeAt_5 0 rfl rfl)
theorem dX5_isLikeAt_118 : decode cX5_isLikeAt 118 = .ok (.istore 6, 2) := dk_54 6 (dk_at dksX5_isLikeAt_5 1 rfl rfl)
theorem dX5_isLikeAt_120 : decode cX5_isLikeAt 120 = .ok (.iload 5, 2) := dk_21 5 (dk_at dksX5_isLikeAt_5 3 rfl rfl)
theorem dX5_isLikeAt_122 : decode cX5_isLikeAt 122 = .ok (.ifCond .le 62, 3) := dk_158 0 62 (dk_at dksX5_isLikeAt_5 5 rfl rfl)
theorem dX5_isLikeAt_125 : decode cX5_isLikeAt 125 = .ok (.iload 6, 2) := dk_21 6 (dk_at dksX5_isLikeAt_5 8 rfl rfl)
theorem dX5_isLikeAt_127 : decode cX5_isLikeAt 127 = .ok (.aload_n 0, 1) := dk_42 (dk_at dksX5_isLikeAt_5 10 rfl rfl)
theorem dX5_isLikeAt_128 : decode cX5_isLikeAt 128 = .ok (.getfield 11, 3) := dk_180 0 11 (dk_at dksX5_isLikeAt_5 11 rfl rfl)
theorem dX5_isLikeAt_131 : decode cX5_isLikeAt 131 = .ok (.iload_n 3, 1) := dk_29 (dk_at dksX5_isLikeAt_5 14 rfl rfl)
theorem dX5_isLikeAt_132 : decode cX5_isLikeAt 132 = .ok (.bipush 15, 2) := dk_16 15 (dk_at dksX5_isLikeAt_5 15 rfl rfl)
theorem dX5_isLikeAt_134 : decode cX5_isLikeAt 134 = .ok (.iadd, 1) := dk_96 (dk_at dksX5_isLikeAt_5 17 rfl rfl)
theorem dX5_isLikeAt_135 : decode cX5_isLikeAt 135 = .ok (.iaload, 1) := dk_46 (dk_at dksX5_isLikeAt_5 18 rfl rfl)
theorem dX5_isLikeAt_136 : decode cX5_isLikeAt 136 = .ok (.if_icmp .gt 48, 3) := dk_163 0 48 (dk_at dksX5_isLikeAt_5 19 rfl rfl)
theorem dX5_isLikeAt_139 : decode cX5_isLikeAt 139 = .ok (.iload 4, 2) := dk_21 4 (dk_at dksX5_isLikeAt_5 22 rfl rfl)
theorem dX5_isLikeAt_141 : decode cX5_isLikeAt 141 = .ok (.ifCond .eq 43, 3) := dk_153 0 43 (dk_at dksX5_isLikeAt_6 0 rfl rfl)
theorem dX5_isLikeAt_144 : decode cX5_isLikeAt 144 = .ok (.aload_n 0, 1) := dk_42 (dk_at dksX5_isLikeAt_6 3 rfl rfl)
theorem dX5_isLikeAt_145 : decode cX5_isLikeAt 145 = .ok (.getfield 11, 3) := dk_180 0 11 (dk_at dksX5_isLikeAt_6 4 rfl rfl)
theorem dX5_isLikeAt_148 : decode cX5_isLikeAt 148 = .ok (.iload_n 3, 1) := dk_29 (dk_at dksX5_isLikeAt_6 7 rfl rfl)
theorem dX5_isLikeAt_149 : decode cX5_isLikeAt 149 = .ok (.bipush 15, 2) := dk_16 15 (dk_at dksX5_isLikeAt_6 8 rfl rfl)
theorem dX5_isLikeAt_151 : decode cX5_isLikeAt 151 = .ok (.iadd, 1) := dk_96 (dk_at dksX5_isLikeAt_6 10 rfl rfl)
theorem dX5_isLikeAt_152 : decode cX5_isLikeAt 152 = .ok (.iload 6, 2) := dk_21 6 (dk_at dksX5_isLikeAt_6 11 rfl rfl)
theorem dX5_isLikeAt_154 : decode cX5_isLikeAt 154 = .ok (.iadd, 1) := dk_96 (dk_at dksX5_isLikeAt_6 13 rfl rfl)
theorem dX5_isLikeAt_155 : decode cX5_isLikeAt 155 = .ok (.iaload, 1) := dk_46 (dk_at dksX5_isLikeAt_6 14 rfl rfl)
theorem dX5_isLikeAt_156 : decode cX5_isLikeAt 156 = .ok (.aload_n 1, 1) := dk_43 (dk_at dksX5_isLikeAt_6 15 rfl rfl)
theorem dX5_isLikeAt_157 : decode cX5_isLikeAt 157 = .ok (.getfield 11, 3) := dk_180 0 11 (dk_at dksX5_isLikeAt_6 16 rfl rfl)
theorem dX5_isLikeAt_160 : decode cX5_isLikeAt 160 = .ok (.iload_n 3, 1) := dk_29 (dk_at dksX5_isLikeAt_6 19 rfl rfl)
theorem dX5_isLikeAt_161 : decode cX5_isLikeAt 161 = .ok (.bipush 15, 2) := dk_16 15 (dk_at dksX5_isLikeAt_6 20 rfl rfl)
theorem dX5_isLikeAt_163 : decode cX5_isLikeAt 163 = .ok (.iadd, 1) := dk_96 (dk_at dksX5_isLikeAt_6 22 rfl rfl)
theorem dX5_isLikeAt_164 : decode cX5_isLikeAt 164 = .ok (.iload 6, 2) := dk_21 6 (dk_at dksX5_isLikeAt_7 0 rfl rfl)
theorem dX5_isLikeAt_166 : decode cX5_isLikeAt 166 = .ok (.iadd, 1) := dk_96 (dk_at dksX5_isLikeAt_7 2 rfl rfl)
theorem dX5_isLikeAt_167 : decode cX5_isLikeAt 167 = .ok (.iaload, 1) := dk_46 (dk_at dksX5_isLikeAt_7 3 rfl rfl)
theorem dX5_isLikeAt_168 : decode cX5_isLikeAt 168 = .ok (.if_icmp .ne 7, 3) := dk_160 0 7 (dk_at dksX5_isLikeAt_7 4 rfl rfl)
theorem dX5_isLikeAt_171 : decode cX5_isLikeAt 171 = .ok (.iconst 1, 1) := dk_4 (dk_at dksX5_isLikeAt_7 7 rfl rfl)
theorem dX5_isLikeAt_172 : decode cX5_isLikeAt 172 = .ok (.goto 4, 3) := dk_167 0 4 (dk_at dksX5_isLikeAt_7 8 rfl rfl)
theorem dX5_isLikeAt_175 : decode cX5_isLikeAt 175 = .ok (.iconst 0, 1) := dk_3 (dk_at dksX5_isLikeAt_7 11 rfl rfl)
theorem dX5_isLikeAt_176 : decode cX5_isLikeAt 176 = .ok (.istore 4, 2) := dk_54 4 (dk_at dksX5_isLikeAt_7 12 rfl rfl)
theorem dX5_isLikeAt_178 : decode cX5_isLikeAt 178 = .ok (.iinc 6 1, 3) := dk_132 6 1 (dk_at dksX5_isLikeAt_7 14 rfl rfl)
theorem dX5_isLikeAt_181 : decode cX5_isLikeAt 181 = .ok (.goto (-61), 3) := dk_167 255 195 (dk_at dksX5_isLikeAt_7 17 rfl rfl)
theorem dX5_isLikeAt_184 : decode cX5_isLikeAt 184 = .ok (.iload 4, 2) := dk_21 4 (dk_at dksX5_isLikeAt_7 20 rfl rfl)
theorem dX5_isLikeAt_186 : decode cX5_isLikeAt 186 = .ok (.ireturn, 1) := dk_172 (dk_at dksX5_isLikeAt_7 22 rfl rfl)
theorem q104 : (Jvm.Cond.initialized "IdealCourt$Poly") ∈ lw_all := lw_g (lw_at lw_m1 6 rfl) rfl
theorem q181 : (Jvm.Cond.fieldLinkNest "IdealCourt$Poly" (64 : Nat) "IdealCourt$Whole" "digits" "[I" "IdealCourt") ∈ lw_tbl := lw_at lw_m1 83 rfl
theorem q187 : (Jvm.Cond.fieldLinkNest "IdealCourt$Poly" (58 : Nat) "IdealCourt$Whole" "size" "I" "IdealCourt") ∈ lw_tbl := lw_at lw_m1 89 rfl
theorem q195 : (Jvm.Cond.fieldLinkNest "IdealCourt$Poly" (61 : Nat) "IdealCourt$Whole" "sign" "I" "IdealCourt") ∈ lw_tbl := lw_at lw_m1 97 rfl
theorem q230 : (Jvm.Cond.instantiable "IdealCourt$Poly" (2 : Nat)) ∈ lw_all := lw_g (lw_at lw_m1 132 rfl) rfl
theorem q232 : (Jvm.Cond.instanceMethod ({ cls := "IdealCourt$Poly", name := "<init>", desc := "()V" } : Jvm.MethodName)) ∈ lw_all := lw_g (lw_at lw_m1 134 rfl) rfl
theorem q233 : (Jvm.Cond.code ({ cls := "IdealCourt$Poly", name := "<init>", desc := "()V" } : Jvm.MethodName) prog_8_method_1_code (1 : Nat) (Option.none : Option Jvm.ClassFile.FieldType)) ∈ lw_all := lw_g (lw_at lw_m1 135 rfl) rfl
theorem q234 : (Jvm.Cond.methodLink "IdealCourt$Poly" (3 : Nat) ({ cls := "java/lang/Object", name := "<init>", desc := "()V" } : Jvm.MethodName)) ∈ lw_all := lw_g (lw_at lw_m1 136 rfl) rfl
theorem q235 : (Jvm.Cond.fieldLink "IdealCourt$Poly" (11 : Nat) "IdealCourt$Poly" "of" "[I") ∈ lw_all := lw_g (lw_at lw_m1 137 rfl) rfl
theorem q237 : (Jvm.Cond.fieldLink "IdealCourt$Poly" (15 : Nat) "IdealCourt$Poly" "many" "I") ∈ lw_all := lw_g (lw_at lw_m1 139 rfl) rfl
theorem q240 : (Jvm.Cond.laysFinal "IdealCourt$Poly" "IdealCourt$Poly" "of" "[I") ∈ lw_all := lw_g (lw_at lw_m1 142 rfl) rfl
theorem q241 : (Jvm.Cond.soleField "IdealCourt$Poly" "of") ∈ lw_all := lw_g (lw_at lw_m1 143 rfl) rfl
theorem q242 : (Jvm.Cond.lays "IdealCourt$Poly" "IdealCourt$Poly" "many" "I") ∈ lw_all := lw_g (lw_at lw_m1 144 rfl) rfl
theorem q243 : (Jvm.Cond.soleField "IdealCourt$Poly" "many") ∈ lw_all := lw_g (lw_at lw_m1 145 rfl) rfl
theorem q244 : (Jvm.Cond.superclass "IdealCourt$Poly" "java/lang/Object") ∈ lw_all := lw_g (lw_at lw_m1 146 rfl) rfl
theorem q260 : (Jvm.Cond.fieldLinkNest "IdealCourt$Poly" (33 : Nat) "IdealCourt$Ratio" "top" "LIdealCourt$Whole;" "IdealCourt") ∈ lw_tbl := lw_at lw_m1 162 rfl
theorem q264 : (Jvm.Cond.fieldLinkNest "IdealCourt$Poly" (43 : Nat) "IdealCourt$Ratio" "under" "LIdealCourt$Whole;" "IdealCourt") ∈ lw_tbl := lw_at lw_m1 166 rfl
theorem q783 : (Jvm.Cond.instanceMethod ({ cls := "IdealCourt$Poly", name := "clear", desc := "()V" } : Jvm.MethodName)) ∈ lw_all := lw_g (lw_at lw_m3 205 rfl) rfl
theorem q784 : (Jvm.Cond.selects "IdealCourt$Poly" ({ cls := "IdealCourt$Poly", name := "clear", desc := "()V" } : Jvm.MethodName) ({ cls := "IdealCourt$Poly", name := "clear", desc := "()V" } : Jvm.MethodName)) ∈ lw_all := lw_g (lw_at lw_m3 206 rfl) rfl
theorem q785 : (Jvm.Cond.code ({ cls := "IdealCourt$Poly", name := "clear", desc := "()V" } : Jvm.MethodName) prog_8_method_4_code (2 : Nat) (Option.none : Option Jvm.ClassFile.FieldType)) ∈ lw_all := lw_g (lw_at lw_m3 207 rfl) rfl
theorem q786 : (Jvm.Cond.methodLink "IdealCourt$Poly" (19 : Nat) ({ cls := "IdealCourt$Poly", name := "drop", desc := "(I)V" } : Jvm.MethodName)) ∈ lw_all := lw_g (lw_at lw_m3 208 rfl) rfl
theorem q787 : (Jvm.Cond.privateMethod ({ cls := "IdealCourt$Poly", name := "drop", desc := "(I)V" } : Jvm.MethodName)) ∈ lw_tbl := lw_at lw_m3 209 rfl
theorem q788 : (Jvm.Cond.instanceMethod ({ cls := "IdealCourt$Poly", name := "drop", desc := "(I)V" } : Jvm.MethodName)) ∈ lw_all := lw_g (lw_at lw_m3 210 rfl) rfl
theorem q789 : (Jvm.Cond.code ({ cls := "IdealCourt$Poly", name := "drop", desc := "(I)V" } : Jvm.MethodName) prog_8_method_5_code (2 : Nat) (Option.none : Option Jvm.ClassFile.FieldType)) ∈ lw_all := lw_g (lw_at lw_m3 211 rfl) rfl
theorem q790 : (Jvm.Cond.methodLink "IdealCourt$Poly" (23 : Nat) ({ cls := "IdealCourt$Poly", name := "has", desc := "(I)Z" } : Jvm.MethodName)) ∈ lw_all := lw_g (lw_at lw_m3 212 rfl) rfl
theorem q791 : (Jvm.Cond.instanceMethod ({ cls := "IdealCourt$Poly", name := "has", desc := "(I)Z" } : Jvm.MethodName)) ∈ lw_all := lw_g (lw_at lw_m3 213 rfl) rfl
theorem q792 : (Jvm.Cond.selects "IdealCourt$Poly" ({ cls := "IdealCourt$Poly", name := "has", desc := "(I)Z" } : Jvm.MethodName) ({ cls := "IdealCourt$Poly", name := "has", desc := "(I)Z" } : Jvm.MethodName)) ∈ lw_all := lw_g (lw_at lw_m3 214 rfl) rfl
theorem q793 : (Jvm.Cond.code ({ cls := "IdealCourt$Poly", name := "has", desc := "(I)Z" } : Jvm.MethodName) prog_8_method_3_code (2 : Nat) (Option.some Jvm.ClassFile.FieldType.boolean)) ∈ lw_all := lw_g (lw_at lw_m3 215 rfl) rfl
theorem q866 : (Jvm.Cond.castable "IdealCourt$Poly" "IdealCourt$Thing") ∈ lw_tbl := lw_at lw_m4 48 rfl
theorem q867 : (Jvm.Cond.selects "IdealCourt$Poly" ({ cls := "IdealCourt$Thing", name := "kind", desc := "()I" } : Jvm.MethodName) ({ cls := "IdealCourt$Poly", name := "kind", desc := "()I" } : Jvm.MethodName)) ∈ lw_all := lw_g (lw_at lw_m4 49 rfl) rfl
theorem q868 : (Jvm.Cond.unhidden "IdealCourt$Poly" "kind" "()I") ∈ lw_tbl := lw_at lw_m4 50 rfl
theorem q869 : (Jvm.Cond.instanceMethod ({ cls := "IdealCourt$Poly", name := "kind", desc := "()I" } : Jvm.MethodName)) ∈ lw_all := lw_g (lw_at lw_m4 51 rfl) rfl
theorem q870 : (Jvm.Cond.publicMethod ({ cls := "IdealCourt$Poly", name := "kind", desc := "()I" } : Jvm.MethodName)) ∈ lw_tbl := lw_at lw_m4 52 rfl
theorem q871 : (Jvm.Cond.code ({ cls := "IdealCourt$Poly", name := "kind", desc := "()I" } : Jvm.MethodName) prog_8_method_2_code (1 : Nat) (Option.some Jvm.ClassFile.FieldType.int)) ∈ lw_all := lw_g (lw_at lw_m4 53 rfl) rfl
theorem q904 : (Jvm.Cond.instanceMethod ({ cls := "IdealCourt$Poly", name := "get", desc := "(ILIdealCourt$Ratio;)V" } : Jvm.MethodName)) ∈ lw_all := lw_g (lw_at lw_m4 86 rfl) rfl
theorem q905 : (Jvm.Cond.selects "IdealCourt$Poly" ({ cls := "IdealCourt$Poly", name := "get", desc := "(ILIdealCourt$Ratio;)V" } : Jvm.MethodName) ({ cls := "IdealCourt$Poly", name := "get", desc := "(ILIdealCourt$Ratio;)V" } : Jvm.MethodName)) ∈ lw_all := lw_g (lw_at lw_m4 87 rfl) rfl
theorem q906 : (Jvm.Cond.code ({ cls := "IdealCourt$Poly", name := "get", desc := "(ILIdealCourt$Ratio;)V" } : Jvm.MethodName) prog_8_method_7_code (3 : Nat) (Option.none : Option Jvm.ClassFile.FieldType)) ∈ lw_all := lw_g (lw_at lw_m4 88 rfl) rfl
theorem q907 : (Jvm.Cond.methodLink "IdealCourt$Poly" (39 : Nat) ({ cls := "IdealCourt$Poly", name := "load", desc := "(ILIdealCourt$Whole;)V" } : Jvm.MethodName)) ∈ lw_all := lw_g (lw_at lw_m4 89 rfl) rfl
theorem q908 : (Jvm.Cond.privateMethod ({ cls := "IdealCourt$Poly", name := "load", desc := "(ILIdealCourt$Whole;)V" } : Jvm.MethodName)) ∈ lw_tbl := lw_at lw_m4 90 rfl
theorem q909 : (Jvm.Cond.instanceMethod ({ cls := "IdealCourt$Poly", name := "load", desc := "(ILIdealCourt$Whole;)V" } : Jvm.MethodName)) ∈ lw_all := lw_g (lw_at lw_m4 91 rfl) rfl
theorem q910 : (Jvm.Cond.code ({ cls := "IdealCourt$Poly", name := "load", desc := "(ILIdealCourt$Whole;)V" } : Jvm.MethodName) prog_8_method_8_code (4 : Nat) (Option.none : Option Jvm.ClassFile.FieldType)) ∈ lw_all := lw_g (lw_at lw_m4 92 rfl) rfl
theorem q911 : (Jvm.Cond.methodLink "IdealCourt$Poly" (52 : Nat) ({ cls := "java/lang/Math", name := "abs", desc := "(I)I" } : Jvm.MethodName)) ∈ lw_all := lw_g (lw_at lw_m4 93 rfl) rfl
theorem q914 : (Jvm.Cond.methodLink "IdealCourt$Poly" (46 : Nat) ({ cls := "IdealCourt$Whole", name := "set", desc := "(J)V" } : Jvm.MethodName)) ∈ lw_all := lw_g (lw_at lw_m4 96 rfl) rfl
theorem q988 : (Jvm.Cond.instanceMethod ({ cls := "IdealCourt$Poly", name := "put", desc := "(ILIdealCourt$Ratio;)Z" } : Jvm.MethodName)) ∈ lw_all := lw_g (lw_at lw_m4 170 rfl) rfl
theorem q989 : (Jvm.Cond.selects "IdealCourt$Poly" ({ cls := "IdealCourt$Poly", name := "put", desc := "(ILIdealCourt$Ratio;)Z" } : Jvm.MethodName) ({ cls := "IdealCourt$Poly", name := "put", desc := "(ILIdealCourt$Ratio;)Z" } : Jvm.MethodName)) ∈ lw_all := lw_g (lw_at lw_m4 171 rfl) rfl
theorem q990 : (Jvm.Cond.code ({ cls := "IdealCourt$Poly", name := "put", desc := "(ILIdealCourt$Ratio;)Z" } : Jvm.MethodName) prog_8_method_9_code (3 : Nat) (Option.some Jvm.ClassFile.FieldType.boolean)) ∈ lw_all := lw_g (lw_at lw_m4 172 rfl) rfl
theorem q991 : (Jvm.Cond.methodLink "IdealCourt$Poly" (67 : Nat) ({ cls := "IdealCourt$Ratio", name := "fits", desc := "()Z" } : Jvm.MethodName)) ∈ lw_all := lw_g (lw_at lw_m4 173 rfl) rfl
theorem q992 : (Jvm.Cond.methodLink "IdealCourt$Poly" (71 : Nat) ({ cls := "IdealCourt$Poly", name := "save", desc := "(ILIdealCourt$Whole;)V" } : Jvm.MethodName)) ∈ lw_all := lw_g (lw_at lw_m4 174 rfl) rfl
theorem q993 : (Jvm.Cond.privateMethod ({ cls := "IdealCourt$Poly", name := "save", desc := "(ILIdealCourt$Whole;)V" } : Jvm.MethodName)) ∈ lw_tbl := lw_at lw_m4 175 rfl
theorem q994 : (Jvm.Cond.instanceMethod ({ cls := "IdealCourt$Poly", name := "save", desc := "(ILIdealCourt$Whole;)V" } : Jvm.MethodName)) ∈ lw_all := lw_g (lw_at lw_m4 176 rfl) rfl
theorem q995 : (Jvm.Cond.code ({ cls := "IdealCourt$Poly", name := "save", desc := "(ILIdealCourt$Whole;)V" } : Jvm.MethodName) prog_8_method_10_code (4 : Nat) (Option.none : Option Jvm.ClassFile.FieldType)) ∈ lw_all := lw_g (lw_at lw_m4 177 rfl) rfl
theorem q1005 : (Jvm.Cond.instanceMethod ({ cls := "IdealCourt$Poly", name := "be", desc := "(LIdealCourt$Poly;)V" } : Jvm.MethodName)) ∈ lw_all := lw_g (lw_at lw_m4 187 rfl) rfl
theorem q1006 : (Jvm.Cond.selects "IdealCourt$Poly" ({ cls := "IdealCourt$Poly", name := "be", desc := "(LIdealCourt$Poly;)V" } : Jvm.MethodName) ({ cls := "IdealCourt$Poly", name := "be", desc := "(LIdealCourt$Poly;)V" } : Jvm.MethodName)) ∈ lw_all := lw_g (lw_at lw_m4 188 rfl) rfl
theorem q1007 : (Jvm.Cond.code ({ cls := "IdealCourt$Poly", name := "be", desc := "(LIdealCourt$Poly;)V" } : Jvm.MethodName) prog_8_method_6_code (2 : Nat) (Option.none : Option Jvm.ClassFile.FieldType)) ∈ lw_all := lw_g (lw_at lw_m4 189 rfl) rfl
theorem q1008 : (Jvm.Cond.methodLink "IdealCourt$Poly" (27 : Nat) ({ cls := "java/lang/System", name := "arraycopy", desc := "(Ljava/lang/Object;ILjava/lang/Object;II)V" } : Jvm.MethodName)) ∈ lw_all := lw_g (lw_at lw_m4 190 rfl) rfl
theorem q1012 : (Jvm.Cond.instanceMethod ({ cls := "IdealCourt$Poly", name := "isRight", desc := "()Z" } : Jvm.MethodName)) ∈ lw_all := lw_g (lw_at lw_m4 194 rfl) rfl
theorem q1013 : (Jvm.Cond.selects "IdealCourt$Poly" ({ cls := "IdealCourt$Poly", name := "isRight", desc := "()Z" } : Jvm.MethodName) ({ cls := "IdealCourt$Poly", name := "isRight", desc := "()Z" } : Jvm.MethodName)) ∈ lw_all := lw_g (lw_at lw_m4 195 rfl) rfl
theorem q1014 : (Jvm.Cond.code ({ cls := "IdealCourt$Poly", name := "isRight", desc := "()Z" } : Jvm.MethodName) prog_8_method_11_code (1 : Nat) (Option.some Jvm.ClassFile.FieldType.boolean)) ∈ lw_all := lw_g (lw_at lw_m4 196 rfl) rfl
theorem q1028 : (Jvm.Cond.instanceMethod ({ cls := "IdealCourt$Poly", name := "degree", desc := "(LIdealCourt$Terms;)I" } : Jvm.MethodName)) ∈ lw_all := lw_g (lw_at lw_m4 210 rfl) rfl
theorem q1029 : (Jvm.Cond.selects "IdealCourt$Poly" ({ cls := "IdealCourt$Poly", name := "degree", desc := "(LIdealCourt$Terms;)I" } : Jvm.MethodName) ({ cls := "IdealCourt$Poly", name := "degree", desc := "(LIdealCourt$Terms;)I" } : Jvm.MethodName)) ∈ lw_all := lw_g (lw_at lw_m4 211 rfl) rfl
theorem q1030 : (Jvm.Cond.code ({ cls := "IdealCourt$Poly", name := "degree", desc := "(LIdealCourt$Terms;)I" } : Jvm.MethodName) prog_8_method_13_code (4 : Nat) (Option.some Jvm.ClassFile.FieldType.int)) ∈ lw_all := lw_g (lw_at lw_m4 212 rfl) rfl
theorem q1031 : (Jvm.Cond.methodLink "IdealCourt$Poly" (80 : Nat) ({ cls := "IdealCourt$Terms", name := "degree", desc := "(I)I" } : Jvm.MethodName)) ∈ lw_all := lw_g (lw_at lw_m4 213 rfl) rfl
theorem q1035 : (Jvm.Cond.methodLink "IdealCourt$Poly" (85 : Nat) ({ cls := "java/lang/Math", name := "max", desc := "(II)I" } : Jvm.MethodName)) ∈ lw_all := lw_g (lw_at lw_m4 217 rfl) rfl
theorem q1088 : (Jvm.Cond.instanceMethod ({ cls := "IdealCourt$Poly", name := "lead", desc := "(LIdealCourt$Ranks;)I" } : Jvm.MethodName)) ∈ lw_all := lw_g (lw_at lw_m5 30 rfl) rfl
theorem q1089 : (Jvm.Cond.selects "IdealCourt$Poly" ({ cls := "IdealCourt$Poly", name := "lead", desc := "(LIdealCourt$Ranks;)I" } : Jvm.MethodName) ({ cls := "IdealCourt$Poly", name := "lead", desc := "(LIdealCourt$Ranks;)I" } : Jvm.MethodName)) ∈ lw_all := lw_g (lw_at lw_m5 31 rfl) rfl
theorem q1090 : (Jvm.Cond.code ({ cls := "IdealCourt$Poly", name := "lead", desc := "(LIdealCourt$Ranks;)I" } : Jvm.MethodName) prog_8_method_12_code (4 : Nat) (Option.some Jvm.ClassFile.FieldType.int)) ∈ lw_all := lw_g (lw_at lw_m5 32 rfl) rfl
theorem q1091 : (Jvm.Cond.interfaceEntry "IdealCourt$Poly" (74 : Nat)) ∈ lw_tbl := lw_at lw_m5 33 rfl
theorem q1092 : (Jvm.Cond.methodLink "IdealCourt$Poly" (74 : Nat) ({ cls := "IdealCourt$Ranks", name := "rank", desc := "(II)I" } : Jvm.MethodName)) ∈ lw_all := lw_g (lw_at lw_m5 34 rfl) rfl
theorem q1606 : (Jvm.Cond.instanceMethod ({ cls := "IdealCourt$Poly", name := "isLike", desc := "(LIdealCourt$Poly;)Z" } : Jvm.MethodName)) ∈ lw_all := lw_g (lw_at lw_m7 68 rfl) rfl
theorem q1607 : (Jvm.Cond.selects "IdealCourt$Poly" ({ cls := "IdealCourt$Poly", name := "isLike", desc := "(LIdealCourt$Poly;)Z" } : Jvm.MethodName) ({ cls := "IdealCourt$Poly", name := "isLike", desc := "(LIdealCourt$Poly;)Z" } : Jvm.MethodName)) ∈ lw_all := lw_g (lw_at lw_m7 69 rfl) rfl
theorem q1608 : (Jvm.Cond.code ({ cls := "IdealCourt$Poly", name := "isLike", desc := "(LIdealCourt$Poly;)Z" } : Jvm.MethodName) prog_8_method_14_code (4 : Nat) (Option.some Jvm.ClassFile.FieldType.boolean)) ∈ lw_all := lw_g (lw_at lw_m7 70 rfl) rfl
theorem q1609 : (Jvm.Cond.methodLink "IdealCourt$Poly" (88 : Nat) ({ cls := "IdealCourt$Poly", name := "isLikeAt", desc := "(LIdealCourt$Poly;I)Z" } : Jvm.MethodName)) ∈ lw_all := lw_g (lw_at lw_m7 71 rfl) rfl
theorem q1610 : (Jvm.Cond.privateMethod ({ cls := "IdealCourt$Poly", name := "isLikeAt", desc := "(LIdealCourt$Poly;I)Z" } : Jvm.MethodName)) ∈ lw_tbl := lw_at lw_m7 72 rfl
theorem q1611 : (Jvm.Cond.instanceMethod ({ cls := "IdealCourt$Poly", name := "isLikeAt", desc := "(LIdealCourt$Poly;I)Z" } : Jvm.MethodName)) ∈ lw_all := lw_g (lw_at lw_m7 73 rfl) rfl
theorem q1612 : (Jvm.Cond.code ({ cls := "IdealCourt$Poly", name := "isLikeAt", desc := "(LIdealCourt$Poly;I)Z" } : Jvm.MethodName) prog_8_method_15_code (7 : Nat) (Option.some Jvm.ClassFile.FieldType.boolean)) ∈ lw_all := lw_g (lw_at lw_m7 74 rfl) rfl
theorem in_X5 : ∀ w ∈ wsX50, w ∈ lw_all := lw_in wsX50 [240, 242] (by decide +kernel) (by decide +kernel)
