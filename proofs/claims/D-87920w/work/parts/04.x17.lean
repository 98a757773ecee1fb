/-! IdealCourtModel$Num -/
set_option maxRecDepth 100000
def RX17 : String := "IdealCourtModel$Num"
def TX17 : u_T := fun k => match k with
  | 0 => ("IdealCourtModel$Num", "d", "[I", true)
  | 1 => ("IdealCourtModel$Num", "sign", "I", false)
  | _ => ("IdealCourtModel$Num", "len", "I", false)
def tyX17 : Nat → FieldType := fun k => match k with
  | 0 => .array .int
  | 1 => .int
  | _ => .int
abbrev wsX170 : List Cond := u_ws RX17 TX17 3
theorem nmX17 : ∀ a, a < 3 → ∀ b, b < 3 → a ≠ b → (TX17 a).2.1 ≠ (TX17 b).2.1 := by decide +kernel
theorem tyX17_ok : ∀ k, k < 3 → parseFieldDescriptor (TX17 k).2.2.1 = some (tyX17 k) := by decide +kernel
abbrev cX17_init : ByteArray := prog_22_method_1_code
def yX17_init : MethodName := ⟨RX17, "<init>", "(I)V"⟩
def dkwX17_init_0 : List UInt8 := [42, 183, 0, 3, 42, 27, 188, 10, 181, 0, 9, 177]
abbrev dktX17_init_0 : List UInt8 := dkwX17_init_0 ++ []
theorem dksX17_init_0 : cX17_init.data.toList.drop 0 = dktX17_init_0 := by decide +kernel
theorem dX17_init_0 : decode cX17_init 0 = .ok (.aload_n 0, 1) := dk_42 (dk_at dksX17_init_0 0 rfl rfl)
theorem dX17_init_1 : decode cX17_init 1 = .ok (.invokespecial 3, 3) := dk_183 0 3 (dk_at dksX17_init_0 1 rfl rfl)
theorem dX17_init_4 : decode cX17_init 4 = .ok (.aload_n 0, 1) := dk_42 (dk_at dksX17_init_0 4 rfl rfl)
theorem dX17_init_5 : decode cX17_init 5 = .ok (.iload_n 1, 1) := dk_27 (dk_at dksX17_init_0 5 rfl rfl)
theorem dX17_init_6 : decode cX17_init 6 = .ok (.newarray .int, 2) := dk_188_10 (dk_at dksX17_init_0 6 rfl rfl)
theorem dX17_init_8 : decode cX17_init 8 = .ok (.putfield 9, 3) := dk_181 0 9 (dk_at dksX17_init_0 8 rfl rfl)
theorem dX17_init_11 : decode cX17_init 11 = .ok (.return_, 1) := dk_177 (dk_at dksX17_init_0 11 rfl rfl)
abbrev cX17_copy : ByteArray := prog_22_method_3_code
def yX17_copy : MethodName := ⟨RX17, "copy", "(LIdealCourtModel$Num;)V"⟩
def dkwX17_copy_1 : List UInt8 := [162, 0, 21, 42, 180, 0, 9, 28, 43, 180, 0, 9, 28, 46, 79, 132, 2, 1, 167, 255, 233, 177]
abbrev dktX17_copy_1 : List UInt8 := dkwX17_copy_1 ++ []
def dkwX17_copy_0 : List UInt8 := [42, 43, 180, 0, 15, 181, 0, 15, 42, 43, 180, 0, 19, 181, 0, 19, 3, 61, 28, 42, 180, 0, 19]
abbrev dktX17_copy_0 : List UInt8 := dkwX17_copy_0 ++ dktX17_copy_1
theorem dksX17_copy_0 : cX17_copy.data.toList.drop 0 = dktX17_copy_0 := by decide +kernel
theorem dksX17_copy_1 : cX17_copy.data.toList.drop 23 = dktX17_copy_1 := dk_seg dksX17_copy_0 23 rfl rfl
theorem dX17_copy_0 : decode cX17_copy 0 = .ok (.aload_n 0, 1) := dk_42 (dk_at dksX17_copy_0 0 rfl rfl)
theorem dX17_copy_1 : decode cX17_copy 1 = .ok (.aload_n 1, 1) := dk_43 (dk_at dksX17_copy_0 1 rfl rfl)
theorem dX17_copy_2 : decode cX17_copy 2 = .ok (.getfield 15, 3) := dk_180 0 15 (dk_at dksX17_copy_0 2 rfl rfl)
theorem dX17_copy_5 : decode cX17_copy 5 = .ok (.putfield 15, 3) := dk_181 0 15 (dk_at dksX17_copy_0 5 rfl rfl)
theorem dX17_copy_8 : decode cX17_copy 8 = .ok (.aload_n 0, 1) := dk_42 (dk_at dksX17_copy_0 8 rfl rfl)
theorem dX17_copy_9 : decode cX17_copy 9 = .ok (.aload_n 1, 1) := dk_43 (dk_at dksX17_copy_0 9 rfl rfl)
theorem dX17_copy_10 : decode cX17_copy 10 = .ok (.getfield 19, 3) := dk_180 0 19 (dk_at dksX17_copy_0 10 rfl rfl)
theorem dX17_copy_13 : decode cX17_copy 13 = .ok (.putfield 19, 3) := dk_181 0 19 (dk_at dksX17_copy_0 13 rfl rfl)
theorem dX17_copy_16 : decode cX17_copy 16 = .ok (.iconst 0, 1) := dk_3 (dk_at dksX17_copy_0 16 rfl rfl)
theorem dX17_copy_17 : decode cX17_copy 17 = .ok (.istore_n 2, 1) := dk_61 (dk_at dksX17_copy_0 17 rfl rfl)
theorem dX17_copy_18 : decode cX17_copy 18 = .ok (.iload_n 2, 1) := dk_28 (dk_at dksX17_copy_0 18 rfl rfl)
theorem dX17_copy_19 : decode cX17_copy 19 = .ok (.aload_n 0, 1) := dk_42 (dk_at dksX17_copy_0 19 rfl rfl)
theorem dX17_copy_20 : decode cX17_copy 20 = .ok (.getfield 19, 3) := dk_180 0 19 (dk_at dksX17_copy_0 20 rfl rfl)
theorem dX17_copy_23 : decode cX17_copy 23 = .ok (.if_icmp .ge 21, 3) := dk_162 0 21 (dk_at dksX17_copy_1 0 rfl rfl)
theorem dX17_copy_26 : decode cX17_copy 26 = .ok (.aload_n 0, 1) := dk_42 (dk_at dksX17_copy_1 3 rfl rfl)
theorem dX17_copy_27 : decode cX17_copy 27 = .ok (.getfield 9, 3) := dk_180 0 9 (dk_at dksX17_copy_1 4 rfl rfl)
theorem dX17_copy_30 : decode cX17_copy 30 = .ok (.iload_n 2, 1) := dk_28 (dk_at dksX17_copy_1 7 rfl rfl)
theorem dX17_copy_31 : decode cX17_copy 31 = .ok (.aload_n 1, 1) := dk_43 (dk_at dksX17_copy_1 8 rfl rfl)
theorem dX17_copy_32 : decode cX17_copy 32 = .ok (.getfield 9, 3) := dk_180 0 9 (dk_at dksX17_copy_1 9 rfl rfl)
theorem dX17_copy_35 : decode cX17_copy 35 = .ok (.iload_n 2, 1) := dk_28 (dk_at dksX17_copy_1 12 rfl rfl)
theorem dX17_copy_36 : decode cX17_copy 36 = .ok (.iaload, 1) := dk_46 (dk_at dksX17_copy_1 13 rfl rfl)
theorem dX17_copy_37 : decode cX17_copy 37 = .ok (.iastore, 1) := dk_79 (dk_at dksX17_copy_1 14 rfl rfl)
theorem dX17_copy_38 : decode cX17_copy 38 = .ok (.iinc 2 1, 3) := dk_132 2 1 (dk_at dksX17_copy_1 15 rfl rfl)
theorem dX17_copy_41 : decode cX17_copy 41 = .ok (.goto (-23), 3) := dk_167 255 233 (dk_at dksX17_copy_1 18 rfl rfl)
theorem dX17_copy_44 : decode cX17_copy 44 = .ok (.return_, 1) := dk_177 (dk_at dksX17_copy_1 21 rfl rfl)
abbrev cX17_set : ByteArray := prog_22_method_2_code
def yX17_set : MethodName := ⟨RX17, "set", "(J)V"⟩
def dkwX17_set_3 : List UInt8 := [4, 96, 181, 0, 19, 33, 20, 0, 22, 109, 66, 167, 255, 218, 177]
abbrev dktX17_set_3 : List UInt8 := dkwX17_set_3 ++ []
def dkwX17_set_2 : List UInt8 := [153, 0, 38, 42, 180, 0, 9, 42, 180, 0, 19, 33, 20, 0, 22, 113, 117, 136, 79, 42, 89, 180, 0, 19]
abbrev dktX17_set_2 : List UInt8 := dkwX17_set_2 ++ dktX17_set_3
def dkwX17_set_1 : List UInt8 := [181, 0, 15, 42, 3, 181, 0, 19, 31, 9, 148, 156, 0, 7, 31, 167, 0, 5, 31, 117, 66, 33, 9, 148]
abbrev dktX17_set_1 : List UInt8 := dkwX17_set_1 ++ dktX17_set_2
def dkwX17_set_0 : List UInt8 := [42, 31, 9, 148, 156, 0, 7, 2, 167, 0, 14, 31, 9, 148, 158, 0, 7, 4, 167, 0, 4, 3]
abbrev dktX17_set_0 : List UInt8 := dkwX17_set_0 ++ dktX17_set_1
theorem dksX17_set_0 : cX17_set.data.toList.drop 0 = dktX17_set_0 := by decide +kernel
theorem dksX17_set_1 : cX17_set.data.toList.drop 22 = dktX17_set_1 := dk_seg dksX17_set_0 22 rfl rfl
theorem dksX17_set_2 : cX17_set.data.toList.drop 46 = dktX17_set_2 := dk_seg dksX17_set_1 24 rfl rfl
theorem dksX17_set_3 : cX17_set.data.toList.drop 70 = dktX17_set_3 := dk_seg dksX17_set_2 24 rfl rfl
theorem dX17_set_0 : decode cX17_set 0 = .ok (.aload_n 0, 1) := dk_42 (dk_at dksX17_set_0 0 rfl rfl)
theorem dX17_set_1 : decode cX17_set 1 = .ok (.lload_n 1, 1) := dk_31 (dk_at dksX17_set_0 1 rfl rfl)
theorem dX17_set_2 : decode cX17_set 2 = .ok (.lconst 0, 1) := dk_9 (dk_at dksX17_set_0 2 rfl rfl)
theorem dX17_set_3 : decode cX17_set 3 = .ok (.lcmp, 1) := dk_148 (dk_at dksX17_set_0 3 rfl rfl)
theorem dX17_set_4 : decode cX17_set 4 = .ok (.ifCond .ge 7, 3) := dk_156 0 7 (dk_at dksX17_set_0 4 rfl rfl)
theorem dX17_set_7 : decode cX17_set 7 = .ok (.iconst (-1), 1) := dk_2 (dk_at dksX17_set_0 7 rfl rfl)
theorem dX17_set_8 : decode cX17_set 8 = .ok (.goto 14, 3) := dk_167 0 14 (dk_at dksX17_set_0 8 rfl rfl)
theorem dX17_set_11 : decode cX17_set 11 = .ok (.lload_n 1, 1) := dk_31 (dk_at dksX17_set_0 11 rfl rfl)
theorem dX17_set_12 : decode cX17_set 12 = .ok (.lconst 0, 1) := dk_9 (dk_at dksX17_set_0 12 rfl rfl)
theorem dX17_set_13 : decode cX17_set 13 = .ok (.lcmp, 1) := dk_148 (dk_at dksX17_set_0 13 rfl rfl)
theorem dX17_set_14 : decode cX17_set 14 = .ok (.ifCond .le 7, 3) := dk_158 0 7 (dk_at dksX17_set_0 14 rfl rfl)
theorem dX17_set_17 : decode cX17_set 17 = .ok (.iconst 1, 1) := dk_4 (dk_at dksX17_set_0 17 rfl rfl)
theorem dX17_set_18 : decode cX17_set 18 = .ok (.goto 4, 3) := dk_167 0 4 (dk_at dksX17_set_0 18 rfl rfl)
theorem dX17_set_21 : decode cX17_set 21 = .ok (.iconst 0, 1) := dk_3 (dk_at dksX17_set_0 21 rfl rfl)
theorem dX17_set_22 : decode cX17_set 22 = .ok (.putfield 15, 3) := dk_181 0 15 (dk_at dksX17_set_1 0 rfl rfl)
theorem dX17_set_25 : decode cX17_set 25 = .ok (.aload_n 0, 1) := dk_42 (dk_at dksX17_set_1 3 rfl rfl)
theorem dX17_set_26 : decode cX17_set 26 = .ok (.iconst 0, 1) := dk_3 (dk_at dksX17_set_1 4 rfl rfl)
theorem dX17_set_27 : decode cX17_set 27 = .ok (.putfield 19, 3) := dk_181 0 19 (dk_at dksX17_set_1 5 rfl rfl)
theorem dX17_set_30 : decode cX17_set 30 = .ok (.lload_n 1, 1) := dk_31 (dk_at dksX17_set_1 8 rfl rfl)
theorem dX17_set_31 : decode cX17_set 31 = .ok (.lconst 0, 1) := dk_9 (dk_at dksX17_set_1 9 rfl rfl)
theorem dX17_set_32 : decode cX17_set 32 = .ok (.lcmp, 1) := dk_148 (dk_at dksX17_set_1 10 rfl rfl)
theorem dX17_set_33 : decode cX17_set 33 = .ok (.ifCond .ge 7, 3) := dk_156 0 7 (dk_at dksX17_set_1 11 rfl rfl)
theorem dX17_set_36 : decode cX17_set 36 = .ok (.lload_n 1, 1) := dk_31 (dk_at dksX17_set_1 14 rfl rfl)
theorem dX17_set_37 : decode cX17_set 37 = .ok (.goto 5, 3) := dk_167 0 5 (dk_at dksX17_set_1 15 rfl rfl)
theorem dX17_set_40 : decode cX17_set 40 = .ok (.lload_n 1, 1) := dk_31 (dk_at dksX17_set_1 18 rfl rfl)
theorem dX17_set_41 : decode cX17_set 41 = .ok (.lneg, 1) := dk_117 (dk_at dksX17_set_1 19 rfl rfl)
theorem dX17_set_42 : decode cX17_set 42 = .ok (.lstore_n 3, 1) := dk_66 (dk_at dksX17_set_1 20 rfl rfl)
theorem dX17_set_43 : decode cX17_set 43 = .ok (.lload_n 3, 1) := dk_33 (dk_at dksX17_set_1 21 rfl rfl)
theorem dX17_set_44 : decode cX17_set 44 = .ok (.lconst 0, 1) := dk_9 (dk_at dksX17_set_1 22 rfl rfl)
theorem dX17_set_45 : decode cX17_set 45 = .ok (.lcmp, 1) := dk_148 (dk_at dksX17_set_1 23 rfl rfl)
theorem dX17_set_46 : decode cX17_set 46 = .ok (.ifCond .eq 38, 3) := dk_153 0 38 (dk_at dksX17_set_2 0 rfl rfl)
theorem dX17_set_49 : decode cX17_set 49 = .ok (.aload_n 0, 1) := dk_42 (dk_at dksX17_set_2 3 rfl rfl)
theorem dX17_set_50 : decode cX17_set 50 = .ok (.getfield 9, 3) := dk_180 0 9 (dk_at dksX17_set_2 4 rfl rfl)
theorem dX17_set_53 : decode cX17_set 53 = .ok (.aload_n 0, 1) := dk_42 (dk_at dksX17_set_2 7 rfl rfl)
theorem dX17_set_54 : decode cX17_set 54 = .ok (.getfield 19, 3) := dk_180 0 19 (dk_at dksX17_set_2 8 rfl rfl)
theorem dX17_set_57 : decode cX17_set 57 = .ok (.lload_n 3, 1) := dk_33 (dk_at dksX17_set_2 11 rfl rfl)
theorem dX17_set_58 : decode cX17_set 58 = .ok (.ldc2_w 22, 3) := dk_20 0 22 (dk_at dksX17_set_2 12 rfl rfl)
theorem dX17_set_61 : decode cX17_set 61 = .ok (.lrem, 1) := dk_113 (dk_at dksX17_set_2 15 rfl rfl)
theorem dX17_set_62 : decode cX17_set 62 = .ok (.lneg, 1) := dk_117 (dk_at dksX17_set_2 16 rfl rfl)
theorem dX17_set_63 : decode cX17_set 63 = .ok (.l2i, 1) := dk_136 (dk_at dksX17_set_2 17 rfl rfl)
theorem dX17_set_64 : decode cX17_set 64 = .ok (.iastore, 1) := dk_79 (dk_at dksX17_set_2 18 rfl rfl)
theorem dX17_set_65 : decode cX17_set 65 = .ok (.aload_n 0, 1) := dk_42 (dk_at dksX17_set_2 19 rfl rfl)
theorem dX17_set_66 : decode cX17_set 66 = .ok (.dup, 1) := dk_89 (dk_at dksX17_set_2 20 rfl rfl)
theorem dX17_set_67 : decode cX17_set 67 = .ok (.getfield 19, 3) := dk_180 0 19 (dk_at dksX17_set_2 21 rfl rfl)
theorem dX17_set_70 : decode cX17_set 70 = .ok (.iconst 1, 1) := dk_4 (dk_at dksX17_set_3 0 rfl rfl)
theorem dX17_set_71 : decode cX17_set 71 = .ok (.iadd, 1) := dk_96 (dk_at dksX17_set_3 1 rfl rfl)
theorem dX17_set_72 : decode cX17_set 72 = .ok (.putfield 19, 3) := dk_181 0 19 (dk_at dksX17_set_3 2 rfl rfl)
theorem dX17_set_75 : decode cX17_set 75 = .ok (.lload_n 3, 1) := dk_33 (dk_at dksX17_set_3 5 rfl rfl)
theorem dX17_set_76 : decode cX17_set 76 = .ok (.ldc2_w 22, 3) := dk_20 0 22 (dk_at dksX17_set_3 6 rfl rfl)
theorem dX17_set_79 : decode cX17_set 79 = .ok (.ldiv, 1) := dk_109 (dk_at dksX17_set_3 9 rfl rfl)
theorem dX17_set_80 : decode cX17_set 80 = .ok (.lstore_n 3, 1) := dk_66 (dk_at dksX17_set_3 10 rfl rfl)
theorem dX17_set_81 : decode cX17_set 81 = .ok (.goto (-38), 3) := dk_167 255 218 (dk_at dksX17_set_3 11 rfl rfl)
theorem dX17_set_84 : decode cX17_set 84 = .ok (.return_, 1) := dk_177 (dk_at dksX17_set_3 14 rfl rfl)
abbrev cX17_isOne : ByteArray := prog_22_method_4_code
def yX17_isOne : MethodName := ⟨RX17, "isOne", "()Z"⟩
def dkwX17_isOne_1 : List UInt8 := [160, 0, 7, 4, 167, 0, 4, 3, 172]
abbrev dktX17_isOne_1 : List UInt8 := dkwX17_isOne_1 ++ []
def dkwX17_isOne_0 : List UInt8 := [42, 180, 0, 15, 4, 160, 0, 25, 42, 180, 0, 19, 4, 160, 0, 17, 42, 180, 0, 9, 3, 46, 4]
abbrev dktX17_isOne_0 : List UInt8 := dkwX17_isOne_0 ++ dktX17_isOne_1
theorem dksX17_isOne_0 : cX17_isOne.data.toList.drop 0 = dktX17_isOne_0 := by decide +kernel
theorem dksX17_isOne_1 : cX17_isOne.data.toList.drop 23 = dktX17_isOne_1 := dk_seg dksX17_isOne_0 23 rfl rfl
theorem dX17_isOne_0 : decode cX17_isOne 0 = .ok (.aload_n 0, 1) := dk_42 (dk_at dksX17_isOne_0 0 rfl rfl)
theorem dX17_isOne_1 : decode cX17_isOne 1 = .ok (.getfield 15, 3) := dk_180 0 15 (dk_at dksX17_isOne_0 1 rfl rfl)
theorem dX17_isOne_4 : decode cX17_isOne 4 = .ok (.iconst 1, 1) := dk_4 (dk_at dksX17_isOne_0 4 rfl rfl)
theorem dX17_isOne_5 : decode cX17_isOne 5 = .ok (.if_icmp .ne 25, 3) := dk_160 0 25 (dk_at dksX17_isOne_0 5 rfl rfl)
theorem dX17_isOne_8 : decode cX17_isOne 8 = .ok (.aload_n 0, 1) := dk_42 (dk_at dksX17_isOne_0 8 rfl rfl)
theorem dX17_isOne_9 : decode cX17_isOne 9 = .ok (.getfield 19, 3) := dk_180 0 19 (dk_at dksX17_isOne_0 9 rfl rfl)
theorem dX17_isOne_12 : decode cX17_isOne 12 = .ok (.iconst 1, 1) := dk_4 (dk_at dksX17_isOne_0 12 rfl rfl)
theorem dX17_isOne_13 : decode cX17_isOne 13 = .ok (.if_icmp .ne 17, 3) := dk_160 0 17 (dk_at dksX17_isOne_0 13 rfl rfl)
theorem dX17_isOne_16 : decode cX17_isOne 16 = .ok (.aload_n 0, 1) := dk_42 (dk_at dksX17_isOne_0 16 rfl rfl)
theorem dX17_isOne_17 : decode cX17_isOne 17 = .ok (.getfield 9, 3) := dk_180 0 9 (dk_at dksX17_isOne_0 17 rfl rfl)
theorem dX17_isOne_20 : decode cX17_isOne 20 = .ok (.iconst 0, 1) := dk_3 (dk_at dksX17_isOne_0 20 rfl rfl)
theorem dX17_isOne_21 : decode cX17_isOne 21 = .ok (.iaload, 1) := dk_46 (dk_at dksX17_isOne_0 21 rfl rfl)
theorem dX17_isOne_22 : decode cX17_isOne 22 = .ok (.iconst 1, 1) := dk_4 (dk_at dksX17_isOne_0 22 rfl rfl)
theorem dX17_isOne_23 : decode cX17_isOne 23 = .ok (.if_icmp .ne 7, 3) := dk_160 0 7 (dk_at dksX17_isOne_1 0 rfl rfl)
theorem dX17_isOne_26 : decode cX17_isOne 26 = .ok (.iconst 1, 1) := dk_4 (dk_at dksX17_isOne_1 3 rfl rfl)
theorem dX17_isOne_27 : decode cX17_isOne 27 = .ok (.goto 4, 3) := dk_167 0 4 (dk_at dksX17_isOne_1 4 rfl rfl)
theorem dX17_isOne_30 : decode cX17_isOne 30 = .ok (.iconst 0, 1) := dk_3 (dk_at dksX17_isOne_1 7 rfl rfl)
theorem dX17_isOne_31 : decode cX17_isOne 31 = .ok (.ireturn, 1) := dk_172 (dk_at dksX17_isOne_1 8 rfl rfl)
abbrev cX17_plain : ByteArray := prog_22_method_7_code
def yX17_plain : MethodName := ⟨RX17, "plain", "()J"⟩
def dkwX17_plain_1 : List UInt8 := [133, 97, 64, 132, 3, 255, 167, 255, 235, 42, 180, 0, 15, 133, 31, 105, 173]
abbrev dktX17_plain_1 : List UInt8 := dkwX17_plain_1 ++ []
def dkwX17_plain_0 : List UInt8 := [9, 64, 42, 180, 0, 19, 4, 100, 62, 29, 155, 0, 23, 31, 20, 0, 22, 105, 42, 180, 0, 9, 29, 46]
abbrev dktX17_plain_0 : List UInt8 := dkwX17_plain_0 ++ dktX17_plain_1
theorem dksX17_plain_0 : cX17_plain.data.toList.drop 0 = dktX17_plain_0 := by decide +kernel
theorem dksX17_plain_1 : cX17_plain.data.toList.drop 24 = dktX17_plain_1 := dk_seg dksX17_plain_0 24 rfl rfl
theorem dX17_plain_0 : decode cX17_plain 0 = .ok (.lconst 0, 1) := dk_9 (dk_at dksX17_plain_0 0 rfl rfl)
theorem dX17_plain_1 : decode cX17_plain 1 = .ok (.lstore_n 1, 1) := dk_64 (dk_at dksX17_plain_0 1 rfl rfl)
theorem dX17_plain_2 : decode cX17_plain 2 = .ok (.aload_n 0, 1) := dk_42 (dk_at dksX17_plain_0 2 rfl rfl)
theorem dX17_plain_3 : decode cX17_plain 3 = .ok (.getfield 19, 3) := dk_180 0 19 (dk_at dksX17_plain_0 3 rfl rfl)
theorem dX17_plain_6 : decode cX17_plain 6 = .ok (.iconst 1, 1) := dk_4 (dk_at dksX17_plain_0 6 rfl rfl)
theorem dX17_plain_7 : decode cX17_plain 7 = .ok (.isub, 1) := dk_100 (dk_at dksX17_plain_0 7 rfl rfl)
theorem dX17_plain_8 : decode cX17_plain 8 = .ok (.istore_n 3, 1) := dk_62 (dk_at dksX17_plain_0 8 rfl rfl)
theorem dX17_plain_9 : decode cX17_plain 9 = .ok (.iload_n 3, 1) := dk_29 (dk_at dksX17_plain_0 9 rfl rfl)
theorem dX17_plain_10 : decode cX17_plain 10 = .ok (.ifCond .lt 23, 3) := dk_155 0 23 (dk_at dksX17_plain_0 10 rfl rfl)
theorem dX17_plain_13 : decode cX17_plain 13 = .ok (.lload_n 1, 1) := dk_31 (dk_at dksX17_plain_0 13 rfl rfl)
theorem dX17_plain_14 : decode cX17_plain 14 = .ok (.ldc2_w 22, 3) := dk_20 0 22 (dk_at dksX17_plain_0 14 rfl rfl)
theorem dX17_plain_17 : decode cX17_plain 17 = .ok (.lmul, 1) := dk_105 (dk_at dksX17_plain_0 17 rfl rfl)
theorem dX17_plain_18 : decode cX17_plain 18 = .ok (.aload_n 0, 1) := dk_42 (dk_at dksX17_plain_0 18 rfl rfl)
theorem dX17_plain_19 : decode cX17_plain 19 = .ok (.getfield 9, 3) := dk_180 0 9 (dk_at dksX17_plain_0 19 rfl rfl)
theorem dX17_plain_22 : decode cX17_plain 22 = .ok (.iload_n 3, 1) := dk_29 (dk_at dksX17_plain_0 22 rfl rfl)
theorem dX17_plain_23 : decode cX17_plain 23 = .ok (.iaload, 1) := dk_46 (dk_at dksX17_plain_0 23 rfl rfl)
theorem dX17_plain_24 : decode cX17_plain 24 = .ok (.i2l, 1) := dk_133 (dk_at dksX17_plain_1 0 rfl rfl)
theorem dX17_plain_25 : decode cX17_plain 25 = .ok (.ladd, 1) := dk_97 (dk_at dksX17_plain_1 1 rfl rfl)
theorem dX17_plain_26 : decode cX17_plain 26 = .ok (.lstore_n 1, 1) := dk_64 (dk_at dksX17_plain_1 2 rfl rfl)
theorem dX17_plain_27 : decode cX17_plain 27 = .ok (.iinc 3 (-1), 3) := dk_132 3 255 (dk_at dksX17_plain_1 3 rfl rfl)
theorem dX17_plain_30 : decode cX17_plain 30 = .ok (.goto (-21), 3) := dk_167 255 235 (dk_at dksX17_plain_1 6 rfl rfl)
theorem dX17_plain_33 : decode cX17_plain 33 = .ok (.aload_n 0, 1) := dk_42 (dk_at dksX17_plain_1 9 rfl rfl)
theorem dX17_plain_34 : decode cX17_plain 34 = .ok (.getfield 15, 3) := dk_180 0 15 (dk_at dksX17_plain_1 10 rfl rfl)
theorem dX17_plain_37 : decode cX17_plain 37 = .ok (.i2l, 1) := dk_133 (dk_at dksX17_plain_1 13 rfl rfl)
theorem dX17_plain_38 : decode cX17_plain 38 = .ok (.lload_n 1, 1) := dk_31 (dk_at dksX17_plain_1 14 rfl rfl)
theorem dX17_plain_39 : decode cX17_plain 39 = .ok (.lmul, 1) := dk_105 (dk_at dksX17_plain_1 15 rfl rfl)
theorem dX17_plain_40 : decode cX17_plain 40 = .ok (.lreturn, 1) := dk_173 (dk_at dksX17_plain_1 16 rfl rfl)
abbrev cX17_isBeyond : ByteArray := prog_22_method_5_code
def yX17_isBeyond : MethodName := ⟨RX17, "isBeyond", "()Z"⟩
def dkwX17_isBeyond_1 : List UInt8 := [46, 17, 3, 232, 161, 0, 7, 4, 167, 0, 4, 3, 172]
abbrev dktX17_isBeyond_1 : List UInt8 := dkwX17_isBeyond_1 ++ []
def dkwX17_isBeyond_0 : List UInt8 := [42, 180, 0, 19, 16, 14, 163, 0, 25, 42, 180, 0, 19, 16, 14, 160, 0, 20, 42, 180, 0, 9, 16, 13]
abbrev dktX17_isBeyond_0 : List UInt8 := dkwX17_isBeyond_0 ++ dktX17_isBeyond_1
theorem dksX17_isBeyond_0 : cX17_isBeyond.data.toList.drop 0 = dktX17_isBeyond_0 := by decide +kernel
theorem dksX17_isBeyond_1 : cX17_isBeyond.data.toList.drop 24 = dktX17_isBeyond_1 := dk_seg dksX17_isBeyond_0 24 rfl rfl
theorem dX17_isBeyond_0 : decode cX17_isBeyond 0 = .ok (.aload_n 0, 1) := dk_42 (dk_at dksX17_isBeyond_0 0 rfl rfl)
theorem dX17_isBeyond_1 : decode cX17_isBeyond 1 = .ok (.getfield 19, 3) := dk_180 0 19 (dk_at dksX17_isBeyond_0 1 rfl rfl)
theorem dX17_isBeyond_4 : decode cX17_isBeyond 4 = .ok (.bipush 14, 2) := dk_16 14 (dk_at dksX17_isBeyond_0 4 rfl rfl)
theorem dX17_isBeyond_6 : decode cX17_isBeyond 6 = .ok (.if_icmp .gt 25, 3) := dk_163 0 25 (dk_at dksX17_isBeyond_0 6 rfl rfl)
theorem dX17_isBeyond_9 : decode cX17_isBeyond 9 = .ok (.aload_n 0, 1) := dk_42 (dk_at dksX17_isBeyond_0 9 rfl rfl)
theorem dX17_isBeyond_10 : decode cX17_isBeyond 10 = .ok (.getfield 19, 3) := dk_180 0 19 (dk_at dksX17_isBeyond_0 10 rfl rfl)
theorem dX17_isBeyond_13 : decode cX17_isBeyond 13 = .ok (.bipush 14, 2) := dk_16 14 (dk_at dksX17_isBeyond_0 13 rfl rfl)
theorem dX17_isBeyond_15 : decode cX17_isBeyond 15 = .ok (.if_icmp .ne 20, 3) := dk_160 0 20 (dk_at dksX17_isBeyond_0 15 rfl rfl)
theorem dX17_isBeyond_18 : decode cX17_isBeyond 18 = .ok (.aload_n 0, 1) := dk_42 (dk_at dksX17_isBeyond_0 18 rfl rfl)
theorem dX17_isBeyond_19 : decode cX17_isBeyond 19 = .ok (.getfield 9, 3) := dk_180 0 9 (dk_at dksX17_isBeyond_0 19 rfl rfl)
theorem dX17_isBeyond_22 : decode cX17_isBeyond 22 = .ok (.bipush 13, 2) := dk_16 13 (dk_at dksX17_isBeyond_0 22 rfl rfl)
theorem dX17_isBeyond_24 : decode cX17_isBeyond 24 = .ok (.iaload, 1) := dk_46 (dk_at dksX17_isBeyond_1 0 rfl rfl)
theorem dX17_isBeyond_25 : decode cX17_isBeyond 25 = .ok (.sipush 1000, 3) := dk_17 3 232 (dk_at dksX17_isBeyond_1 1 rfl rfl)
theorem dX17_isBeyond_28 : decode cX17_isBeyond 28 = .ok (.if_icmp .lt 7, 3) := dk_161 0 7 (dk_at dksX17_isBeyond_1 4 rfl rfl)
theorem dX17_isBeyond_31 : decode cX17_isBeyond 31 = .ok (.iconst 1, 1) := dk_4 (dk_at dksX17_isBeyond_1 7 rfl rfl)
theorem dX17_isBeyond_32 : decode cX17_isBeyond 32 = .ok (.goto 4, 3) := dk_167 0 4 (dk_at dksX17_isBeyond_1 8 rfl rfl)
theorem dX17_isBeyond_35 : decode cX17_isBeyond 35 = .ok (.iconst 0, 1) := dk_3 (dk_at dksX17_isBeyond_1 11 rfl rfl)
theorem dX17_isBeyond_36 : decode cX17_isBeyond 36 = .ok (.ireturn, 1) := dk_172 (dk_at dksX17_isBeyond_1 12 rfl rfl)
abbrev cX17_isLike : ByteArray := prog_22_method_6_code
def yX17_isLike : MethodName := ⟨RX17, "isLike", "(LIdealCourtModel$Num;)Z"⟩
def dkwX17_isLike_2 : List UInt8 := [46, 43, 180, 0, 9, 29, 46, 160, 0, 7, 4, 167, 0, 4, 3, 61, 132, 3, 1, 167, 255, 220, 28, 172]
abbrev dktX17_isLike_2 : List UInt8 := dkwX17_isLike_2 ++ []
def dkwX17_isLike_1 : List UInt8 := [167, 0, 4, 3, 61, 3, 62, 29, 42, 180, 0, 19, 162, 0, 34, 28, 153, 0, 30, 42, 180, 0, 9, 29]
abbrev dktX17_isLike_1 : List UInt8 := dkwX17_isLike_1 ++ dktX17_isLike_2
def dkwX17_isLike_0 : List UInt8 := [42, 180, 0, 15, 43, 180, 0, 15, 160, 0, 18, 42, 180, 0, 19, 43, 180, 0, 19, 160, 0, 7, 4]
abbrev dktX17_isLike_0 : List UInt8 := dkwX17_isLike_0 ++ dktX17_isLike_1
theorem dksX17_isLike_0 : cX17_isLike.data.toList.drop 0 = dktX17_isLike_0 := by decide +kernel
theorem dksX17_isLike_1 : cX17_isLike.data.toList.drop 23 = dktX17_isLike_1 := dk_seg dksX17_isLike_0 23 rfl rfl
theorem dksX17_isLike_2 : cX17_isLike.data.toList.drop 47 = dktX17_isLike_2 := dk_seg dksX17_isLike_1 24 rfl rfl
theorem dX17_isLike_0 : decode cX17_isLike 0 = .ok (.aload_n 0, 1) := dk_42 (dk_at dksX17_isLike_0 0 rfl rfl)
theorem dX17_isLike_1 : decode cX17_isLike 1 = .ok (.getfield 15, 3) := dk_180 0 15 (dk_at dksX17_isLike_0 1 rfl rfl)
theorem dX17_isLike_4 : decode cX17_isLike 4 = .ok (.aload_n 1, 1) := dk_43 (dk_at dksX17_isLike_0 4 rfl rfl)
theorem dX17_isLike_5 : decode cX17_isLike 5 = .ok (.getfield 15, 3) := dk_180 0 15 (dk_at dksX17_isLike_0 5 rfl rfl)
theorem dX17_isLike_8 : decode cX17_isLike 8 = .ok (.if_icmp .ne 18, 3) := dk_160 0 18 (dk_at dksX17_isLike_0 8 rfl rfl)
theorem dX17_isLike_11 : decode cX17_isLike 11 = .ok (.aload_n 0, 1) := dk_42 (dk_at dksX17_isLike_0 11 rfl rfl)
theorem dX17_isLike_12 : decode cX17_isLike 12 = .ok (.getfield 19, 3) := dk_180 0 19 (dk_at dksX17_isLike_0 12 rfl rfl)
theorem dX17_isLike_15 : decode cX17_isLike 15 = .ok (.aload_n 1, 1) := dk_43 (dk_at dksX17_isLike_0 15 rfl rfl)
theorem dX17_isLike_16 : decode cX17_isLike 16 = .ok (.getfield 19, 3) := dk_180 0 19 (dk_at dksX17_isLike_0 16 rfl rfl)
theorem dX17_isLike_19 : decode cX17_isLike 19 = .ok (.if_icmp .ne 7, 3) := dk_160 0 7 (dk_at dksX17_isLike_0 19 rfl rfl)
theorem dX17_isLike_22 : decode cX17_isLike 22 = .ok (.iconst 1, 1) := dk_4 (dk_at dksX17_isLike_0 22 rfl rfl)
theorem dX17_isLike_23 : decode cX17_isLike 23 = .ok (.goto 4, 3) := dk_167 0 4 (dk_at dksX17_isLike_1 0 rfl rfl)
theorem dX17_isLike_26 : decode cX17_isLike 26 = .ok (.iconst 0, 1) := dk_3 (dk_at dksX17_isLike_1 3 rfl rfl)
theorem dX17_isLike_27 : decode cX17_isLike 27 = .ok (.istore_n 2, 1) := dk_61 (dk_at dksX17_isLike_1 4 rfl rfl)
theorem dX17_isLike_28 : decode cX17_isLike 28 = .ok (.iconst 0, 1) := dk_3 (dk_at dksX17_isLike_1 5 rfl rfl)
theorem dX17_isLike_29 : decode cX17_isLike 29 = .ok (.istore_n 3, 1) := dk_62 (dk_at dksX17_isLike_1 6 rfl rfl)
theorem dX17_isLike_30 : decode cX17_isLike 30 = .ok (.iload_n 3, 1) := dk_29 (dk_at dksX17_isLike_1 7 rfl rfl)
theorem dX17_isLike_31 : decode cX17_isLike 31 = .ok (.aload_n 0, 1) := dk_42 (dk_at dksX17_isLike_1 8 rfl rfl)
theorem dX17_isLike_32 : decode cX17_isLike 32 = .ok (.getfield 19, 3) := dk_180 0 19 (dk_at dksX17_isLike_1 9 rfl rfl)
theorem dX17_isLike_35 : decode cX17_isLike 35 = .ok (.if_icmp .ge 34, 3) := dk_162 0 34 (dk_at dksX17_isLike_1 12 rfl rfl)
theorem dX17_isLike_38 : decode cX17_isLike 38 = .ok (.iload_n 2, 1) := dk_28 (dk_at dksX17_isLike_1 15 rfl rfl)
theorem dX17_isLike_39 : decode cX17_isLike 39 = .ok (.ifCond .eq 30, 3) := dk_153 0 30 (dk_at dksX17_isLike_1 16 rfl rfl)
theorem dX17_isLike_42 : decode cX17_isLike 42 = .ok (.aload_n 0, 1) := dk_42 (dk_at dksX17_isLike_1 19 rfl rfl)
theorem dX17_isLike_43 : decode cX17_isLike 43 = .ok (.getfield 9, 3) := dk_180 0 9 (dk_at dksX17_isLike_1 20 rfl rfl)
theorem dX17_isLike_46 : decode cX17_isLike 46 = .ok (.iload_n 3, 1) := dk_29 (dk_at dksX17_isLike_1 23 rfl rfl)
theorem dX17_isLike_47 : decode cX17_isLike 47 = .ok (.iaload, 1) := dk_46 (dk_at dksX17_isLike_2 0 rfl rfl)
theorem dX17_isLike_48 : decode cX17_isLike 48 = .ok (.aload_n 1, 1) := dk_43 (dk_at dksX17_isLike_2 1 rfl rfl)
theorem dX17_isLike_49 : decode cX17_isLike 49 = .ok (.getfield 9, 3) := dk_180 0 9 (dk_at dksX17_isLike_2 2 rfl rfl)
theorem dX17_isLike_52 : decode cX17_isLike 52 = .ok (.iload_n 3, 1) := dk_29 (dk_at dksX17_isLike_2 5 rfl rfl)
theorem dX17_isLike_53 : decode cX17_isLike 53 = .ok (.iaload, 1) := dk_46 (dk_at dksX17_isLike_2 6 rfl rfl)
theorem dX17_isLike_54 : decode cX17_isLike 54 = .ok (.if_icmp .ne 7, 3) := dk_160 0 7 (dk_at dksX17_isLike_2 7 rfl rfl)
theorem dX17_isLike_57 : decode cX17_isLike 57 = .ok (.iconst 1, 1) := dk_4 (dk_at dksX17_isLike_2 10 rfl rfl)
theorem dX17_isLike_58 : decode cX17_isLike 58 = .ok (.goto 4, 3) := dk_167 0 4 (dk_at dksX17_isLike_2 11 rfl rfl)
theorem dX17_isLike_61 : decode cX17_isLike 61 = .ok (.iconst 0, 1) := dk_3 (dk_at dksX17_isLike_2 14 rfl rfl)
theorem dX17_isLike_62 : decode cX17_isLike 62 = .ok (.istore_n 2, 1) := dk_61 (dk_at dksX17_isLike_2 15 rfl rfl)
theorem dX17_isLike_63 : decode cX17_isLike 63 = .ok (.iinc 3 1, 3) := dk_132 3 1 (dk_at dksX17_isLike_2 16 rfl rfl)
theorem dX17_isLike_66 : decode cX17_isLike 66 = .ok (.goto (-36), 3) := dk_167 255 220 (dk_at dksX17_isLike_2 19 rfl rfl)
theorem dX17_isLike_69 : decode cX17_isLike 69 = .ok (.iload_n 2, 1) := dk_28 (dk_at dksX17_isLike_2 22 rfl rfl)
theorem dX17_isLike_70 : decode cX17_isLike 70 = .ok (.ireturn, 1) := dk_172 (dk_at dksX17_isLike_2 23 rfl rfl)
theorem q119 : (Jvm.Cond.initialized "IdealCourtModel$Num") ∈ lw_all := lw_g (lw_at lw_m1 21 rfl) rfl
theorem q1653 : (Jvm.Cond.instantiable "IdealCourtModel$Num" (3 : Nat)) ∈ lw_all := lw_g (lw_at lw_m7 115 rfl) rfl
theorem q1655 : (Jvm.Cond.instanceMethod ({ cls := "IdealCourtModel$Num", name := "<init>", desc := "(I)V" } : Jvm.MethodName)) ∈ lw_all := lw_g (lw_at lw_m7 117 rfl) rfl
theorem q1656 : (Jvm.Cond.code ({ cls := "IdealCourtModel$Num", name := "<init>", desc := "(I)V" } : Jvm.MethodName) prog_22_method_1_code (2 : Nat) (Option.none : Option Jvm.ClassFile.FieldType)) ∈ lw_all := lw_g (lw_at lw_m7 118 rfl) rfl
theorem q1657 : (Jvm.Cond.methodLink "IdealCourtModel$Num" (3 : Nat) ({ cls := "java/lang/Object", name := "<init>", desc := "()V" } : Jvm.MethodName)) ∈ lw_all := lw_g (lw_at lw_m7 119 rfl) rfl
theorem q1658 : (Jvm.Cond.fieldLink "IdealCourtModel$Num" (9 : Nat) "IdealCourtModel$Num" "d" "[I") ∈ lw_all := lw_g (lw_at lw_m7 120 rfl) rfl
theorem q1661 : (Jvm.Cond.fieldLink "IdealCourtModel$Num" (15 : Nat) "IdealCourtModel$Num" "sign" "I") ∈ lw_all := lw_g (lw_at lw_m7 123 rfl) rfl
theorem q1665 : (Jvm.Cond.fieldLink "IdealCourtModel$Num" (19 : Nat) "IdealCourtModel$Num" "len" "I") ∈ lw_all := lw_g (lw_at lw_m7 127 rfl) rfl
theorem q1667 : (Jvm.Cond.laysFinal "IdealCourtModel$Num" "IdealCourtModel$Num" "d" "[I") ∈ lw_all := lw_g (lw_at lw_m7 129 rfl) rfl
theorem q1668 : (Jvm.Cond.soleField "IdealCourtModel$Num" "d") ∈ lw_all := lw_g (lw_at lw_m7 130 rfl) rfl
theorem q1669 : (Jvm.Cond.lays "IdealCourtModel$Num" "IdealCourtModel$Num" "sign" "I") ∈ lw_all := lw_g (lw_at lw_m7 131 rfl) rfl
theorem q1670 : (Jvm.Cond.soleField "IdealCourtModel$Num" "sign") ∈ lw_all := lw_g (lw_at lw_m7 132 rfl) rfl
theorem q1671 : (Jvm.Cond.lays "IdealCourtModel$Num" "IdealCourtModel$Num" "len" "I") ∈ lw_all := lw_g (lw_at lw_m7 133 rfl) rfl
theorem q1672 : (Jvm.Cond.soleField "IdealCourtModel$Num" "len") ∈ lw_all := lw_g (lw_at lw_m7 134 rfl) rfl
theorem q1673 : (Jvm.Cond.superclass "IdealCourtModel$Num" "java/lang/Object") ∈ lw_all := lw_g (lw_at lw_m7 135 rfl) rfl
theorem q2053 : (Jvm.Cond.instanceMethod ({ cls := "IdealCourtModel$Num", name := "copy", desc := "(LIdealCourtModel$Num;)V" } : Jvm.MethodName)) ∈ lw_all := lw_g (lw_at lw_m9 35 rfl) rfl
theorem q2054 : (Jvm.Cond.selects "IdealCourtModel$Num" ({ cls := "IdealCourtModel$Num", name := "copy", desc := "(LIdealCourtModel$Num;)V" } : Jvm.MethodName) ({ cls := "IdealCourtModel$Num", name := "copy", desc := "(LIdealCourtModel$Num;)V" } : Jvm.MethodName)) ∈ lw_all := lw_g (lw_at lw_m9 36 rfl) rfl
theorem q2055 : (Jvm.Cond.code ({ cls := "IdealCourtModel$Num", name := "copy", desc := "(LIdealCourtModel$Num;)V" } : Jvm.MethodName) prog_22_method_3_code (3 : Nat) (Option.none : Option Jvm.ClassFile.FieldType)) ∈ lw_all := lw_g (lw_at lw_m9 37 rfl) rfl
theorem q2087 : (Jvm.Cond.instanceMethod ({ cls := "IdealCourtModel$Num", name := "set", desc := "(J)V" } : Jvm.MethodName)) ∈ lw_all := lw_g (lw_at lw_m9 69 rfl) rfl
theorem q2088 : (Jvm.Cond.selects "IdealCourtModel$Num" ({ cls := "IdealCourtModel$Num", name := "set", desc := "(J)V" } : Jvm.MethodName) ({ cls := "IdealCourtModel$Num", name := "set", desc := "(J)V" } : Jvm.MethodName)) ∈ lw_all := lw_g (lw_at lw_m9 70 rfl) rfl
theorem q2089 : (Jvm.Cond.code ({ cls := "IdealCourtModel$Num", name := "set", desc := "(J)V" } : Jvm.MethodName) prog_22_method_2_code (5 : Nat) (Option.none : Option Jvm.ClassFile.FieldType)) ∈ lw_all := lw_g (lw_at lw_m9 71 rfl) rfl
theorem q2090 : (Jvm.Cond.constantLong "IdealCourtModel$Num" (22 : Nat) (1000000000 : Int64)) ∈ lw_all := lw_g (lw_at lw_m9 72 rfl) rfl
theorem q2117 : (Jvm.Cond.instanceMethod ({ cls := "IdealCourtModel$Num", name := "isOne", desc := "()Z" } : Jvm.MethodName)) ∈ lw_all := lw_g (lw_at lw_m9 99 rfl) rfl
theorem q2118 : (Jvm.Cond.selects "IdealCourtModel$Num" ({ cls := "IdealCourtModel$Num", name := "isOne", desc := "()Z" } : Jvm.MethodName) ({ cls := "IdealCourtModel$Num", name := "isOne", desc := "()Z" } : Jvm.MethodName)) ∈ lw_all := lw_g (lw_at lw_m9 100 rfl) rfl
theorem q2119 : (Jvm.Cond.code ({ cls := "IdealCourtModel$Num", name := "isOne", desc := "()Z" } : Jvm.MethodName) prog_22_method_4_code (1 : Nat) (Option.some Jvm.ClassFile.FieldType.boolean)) ∈ lw_all := lw_g (lw_at lw_m9 101 rfl) rfl
theorem q2125 : (Jvm.Cond.instanceMethod ({ cls := "IdealCourtModel$Num", name := "plain", desc := "()J" } : Jvm.MethodName)) ∈ lw_all := lw_g (lw_at lw_m9 107 rfl) rfl
theorem q2126 : (Jvm.Cond.selects "IdealCourtModel$Num" ({ cls := "IdealCourtModel$Num", name := "plain", desc := "()J" } : Jvm.MethodName) ({ cls := "IdealCourtModel$Num", name := "plain", desc := "()J" } : Jvm.MethodName)) ∈ lw_all := lw_g (lw_at lw_m9 108 rfl) rfl
theorem q2127 : (Jvm.Cond.code ({ cls := "IdealCourtModel$Num", name := "plain", desc := "()J" } : Jvm.MethodName) prog_22_method_7_code (4 : Nat) (Option.some Jvm.ClassFile.FieldType.long)) ∈ lw_all := lw_g (lw_at lw_m9 109 rfl) rfl
theorem q2147 : (Jvm.Cond.instanceMethod ({ cls := "IdealCourtModel$Num", name := "isBeyond", desc := "()Z" } : Jvm.MethodName)) ∈ lw_all := lw_g (lw_at lw_m9 129 rfl) rfl
theorem q2148 : (Jvm.Cond.selects "IdealCourtModel$Num" ({ cls := "IdealCourtModel$Num", name := "isBeyond", desc := "()Z" } : Jvm.MethodName) ({ cls := "IdealCourtModel$Num", name := "isBeyond", desc := "()Z" } : Jvm.MethodName)) ∈ lw_all := lw_g (lw_at lw_m9 130 rfl) rfl
theorem q2149 : (Jvm.Cond.code ({ cls := "IdealCourtModel$Num", name := "isBeyond", desc := "()Z" } : Jvm.MethodName) prog_22_method_5_code (1 : Nat) (Option.some Jvm.ClassFile.FieldType.boolean)) ∈ lw_all := lw_g (lw_at lw_m9 131 rfl) rfl
theorem q2451 : (Jvm.Cond.instanceMethod ({ cls := "IdealCourtModel$Num", name := "isLike", desc := "(LIdealCourtModel$Num;)Z" } : Jvm.MethodName)) ∈ lw_all := lw_g (lw_at lw_m10 193 rfl) rfl
theorem q2452 : (Jvm.Cond.selects "IdealCourtModel$Num" ({ cls := "IdealCourtModel$Num", name := "isLike", desc := "(LIdealCourtModel$Num;)Z" } : Jvm.MethodName) ({ cls := "IdealCourtModel$Num", name := "isLike", desc := "(LIdealCourtModel$Num;)Z" } : Jvm.MethodName)) ∈ lw_all := lw_g (lw_at lw_m10 194 rfl) rfl
theorem q2453 : (Jvm.Cond.code ({ cls := "IdealCourtModel$Num", name := "isLike", desc := "(LIdealCourtModel$Num;)Z" } : Jvm.MethodName) prog_22_method_6_code (4 : Nat) (Option.some Jvm.ClassFile.FieldType.boolean)) ∈ lw_all := lw_g (lw_at lw_m10 195 rfl) rfl
theorem in_X17 : ∀ w ∈ wsX170, w ∈ lw_all := lw_in wsX170 [1667, 1669, 1671] (by decide +kernel) (by decide +kernel)
