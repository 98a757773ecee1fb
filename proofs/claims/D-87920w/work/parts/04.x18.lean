/-! IdealCourtModel$Poly -/
set_option maxRecDepth 100000
def RX18 : String := "IdealCourtModel$Poly"
def TX18 : u_T := fun k => match k with
  | 0 => ("IdealCourtModel$Poly", "many", "I", false)
  | 1 => ("IdealCourtModel$Poly", "code", "[I", true)
  | 2 => ("IdealCourtModel$Poly", "num", "[LIdealCourtModel$Num;", true)
  | _ => ("IdealCourtModel$Poly", "den", "[LIdealCourtModel$Num;", true)
def tyX18 : Nat → FieldType := fun k => match k with
  | 0 => .int
  | 1 => .array .int
  | 2 => .array (.object "IdealCourtModel$Num")
  | _ => .array (.object "IdealCourtModel$Num")
abbrev wsX180 : List Cond := u_ws RX18 TX18 4
theorem nmX18 : ∀ a, a < 4 → ∀ b, b < 4 → a ≠ b → (TX18 a).2.1 ≠ (TX18 b).2.1 := by decide +kernel
theorem tyX18_ok : ∀ k, k < 4 → parseFieldDescriptor (TX18 k).2.2.1 = some (tyX18 k) := by decide +kernel
abbrev cX18_init : ByteArray := prog_23_method_1_code
def yX18_init : MethodName := ⟨RX18, "<init>", "()V"⟩
def dkwX18_init_1 : List UInt8 := [16, 60, 16, 14, 184, 0, 15, 181, 0, 23, 177]
abbrev dktX18_init_1 : List UInt8 := dkwX18_init_1 ++ []
def dkwX18_init_0 : List UInt8 := [42, 183, 0, 3, 42, 16, 60, 188, 10, 181, 0, 9, 42, 16, 60, 16, 14, 184, 0, 15, 181, 0, 19, 42]
abbrev dktX18_init_0 : List UInt8 := dkwX18_init_0 ++ dktX18_init_1
theorem dksX18_init_0 : cX18_init.data.toList.drop 0 = dktX18_init_0 := by decide +kernel
theorem dksX18_init_1 : cX18_init.data.toList.drop 24 = dktX18_init_1 := dk_seg dksX18_init_0 24 rfl rfl
theorem dX18_init_0 : decode cX18_init 0 = .ok (.aload_n 0, 1) := dk_42 (dk_at dksX18_init_0 0 rfl rfl)
theorem dX18_init_1 : decode cX18_init 1 = .ok (.invokespecial 3, 3) := dk_183 0 3 (dk_at dksX18_init_0 1 rfl rfl)
theorem dX18_init_4 : decode cX18_init 4 = .ok (.aload_n 0, 1) := dk_42 (dk_at dksX18_init_0 4 rfl rfl)
theorem dX18_init_5 : decode cX18_init 5 = .ok (.bipush 60, 2) := dk_16 60 (dk_at dksX18_init_0 5 rfl rfl)
theorem dX18_init_7 : decode cX18_init 7 = .ok (.newarray .int, 2) := dk_188_10 (dk_at dksX18_init_0 7 rfl rfl)
theorem dX18_init_9 : decode cX18_init 9 = .ok (.putfield 9, 3) := dk_181 0 9 (dk_at dksX18_init_0 9 rfl rfl)
theorem dX18_init_12 : decode cX18_init 12 = .ok (.aload_n 0, 1) := dk_42 (dk_at dksX18_init_0 12 rfl rfl)
theorem dX18_init_13 : decode cX18_init 13 = .ok (.bipush 60, 2) := dk_16 60 (dk_at dksX18_init_0 13 rfl rfl)
theorem dX18_init_15 : decode cX18_init 15 = .ok (.bipush 14, 2) := dk_16 14 (dk_at dksX18_init_0 15 rfl rfl)
theorem dX18_init_17 : decode cX18_init 17 = .ok (.invokestatic 15, 3) := dk_184 0 15 (dk_at dksX18_init_0 17 rfl rfl)
theorem dX18_init_20 : decode cX18_init 20 = .ok (.putfield 19, 3) := dk_181 0 19 (dk_at dksX18_init_0 20 rfl rfl)
theorem dX18_init_23 : decode cX18_init 23 = .ok (.aload_n 0, 1) := dk_42 (dk_at dksX18_init_0 23 rfl rfl)
theorem dX18_init_24 : decode cX18_init 24 = .ok (.bipush 60, 2) := dk_16 60 (dk_at dksX18_init_1 0 rfl rfl)
theorem dX18_init_26 : decode cX18_init 26 = .ok (.bipush 14, 2) := dk_16 14 (dk_at dksX18_init_1 2 rfl rfl)
theorem dX18_init_28 : decode cX18_init 28 = .ok (.invokestatic 15, 3) := dk_184 0 15 (dk_at dksX18_init_1 4 rfl rfl)
theorem dX18_init_31 : decode cX18_init 31 = .ok (.putfield 23, 3) := dk_181 0 23 (dk_at dksX18_init_1 7 rfl rfl)
theorem dX18_init_34 : decode cX18_init 34 = .ok (.return_, 1) := dk_177 (dk_at dksX18_init_1 10 rfl rfl)
abbrev cX18_copy : ByteArray := prog_23_method_2_code
def yX18_copy : MethodName := ⟨RX18, "copy", "(LIdealCourtModel$Poly;)V"⟩
def dkwX18_copy_2 : List UInt8 := [180, 0, 23, 28, 50, 43, 180, 0, 23, 28, 50, 182, 0, 30, 132, 2, 1, 167, 255, 203, 177]
abbrev dktX18_copy_2 : List UInt8 := dkwX18_copy_2 ++ []
def dkwX18_copy_1 : List UInt8 := [180, 0, 9, 28, 46, 79, 42, 180, 0, 19, 28, 50, 43, 180, 0, 19, 28, 50, 182, 0, 30, 42]
abbrev dktX18_copy_1 : List UInt8 := dkwX18_copy_1 ++ dktX18_copy_2
def dkwX18_copy_0 : List UInt8 := [42, 43, 180, 0, 26, 181, 0, 26, 3, 61, 28, 42, 180, 0, 26, 162, 0, 51, 42, 180, 0, 9, 28, 43]
abbrev dktX18_copy_0 : List UInt8 := dkwX18_copy_0 ++ dktX18_copy_1
theorem dksX18_copy_0 : cX18_copy.data.toList.drop 0 = dktX18_copy_0 := by decide +kernel
theorem dksX18_copy_1 : cX18_copy.data.toList.drop 24 = dktX18_copy_1 := dk_seg dksX18_copy_0 24 rfl rfl
theorem dksX18_copy_2 : cX18_copy.data.toList.drop 46 = dktX18_copy_2 := dk_seg dksX18_copy_1 22 rfl rfl
theorem dX18_copy_0 : decode cX18_copy 0 = .ok (.aload_n 0, 1) := dk_42 (dk_at dksX18_copy_0 0 rfl rfl)
theorem dX18_copy_1 : decode cX18_copy 1 = .ok (.aload_n 1, 1) := dk_43 (dk_at dksX18_copy_0 1 rfl rfl)
theorem dX18_copy_2 : decode cX18_copy 2 = .ok (.getfield 26, 3) := dk_180 0 26 (dk_at dksX18_copy_0 2 rfl rfl)
theorem dX18_copy_5 : decode cX18_copy 5 = .ok (.putfield 26, 3) := dk_181 0 26 (dk_at dksX18_copy_0 5 rfl rfl)
theorem dX18_copy_8 : decode cX18_copy 8 = .ok (.iconst 0, 1) := dk_3 (dk_at dksX18_copy_0 8 rfl rfl)
theorem dX18_copy_9 : decode cX18_copy 9 = .ok (.istore_n 2, 1) := dk_61 (dk_at dksX18_copy_0 9 rfl rfl)
theorem dX18_copy_10 : decode cX18_copy 10 = .ok (.iload_n 2, 1) := dk_28 (dk_at dksX18_copy_0 10 rfl rfl)
theorem dX18_copy_11 : decode cX18_copy 11 = .ok (.aload_n 0, 1) := dk_42 (dk_at dksX18_copy_0 11 rfl rfl)
theorem dX18_copy_12 : decode cX18_copy 12 = .ok (.getfield 26, 3) := dk_180 0 26 (dk_at dksX18_copy_0 12 rfl rfl)
theorem dX18_copy_15 : decode cX18_copy 15 = .ok (.if_icmp .ge 51, 3) := dk_162 0 51 (dk_at dksX18_copy_0 15 rfl rfl)
theorem dX18_copy_18 : decode cX18_copy 18 = .ok (.aload_n 0, 1) := dk_42 (dk_at dksX18_copy_0 18 rfl rfl)
theorem dX18_copy_19 : decode cX18_copy 19 = .ok (.getfield 9, 3) := dk_180 0 9 (dk_at dksX18_copy_0 19 rfl rfl)
theorem dX18_copy_22 : decode cX18_copy 22 = .ok (.iload_n 2, 1) := dk_28 (dk_at dksX18_copy_0 22 rfl rfl)
theorem dX18_copy_23 : decode cX18_copy 23 = .ok (.aload_n 1, 1) := dk_43 (dk_at dksX18_copy_0 23 rfl rfl)
theorem dX18_copy_24 : decode cX18_copy 24 = .ok (.getfield 9, 3) := dk_180 0 9 (dk_at dksX18_copy_1 0 rfl rfl)
theorem dX18_copy_27 : decode cX18_copy 27 = .ok (.iload_n 2, 1) := dk_28 (dk_at dksX18_copy_1 3 rfl rfl)
theorem dX18_copy_28 : decode cX18_copy 28 = .ok (.iaload, 1) := dk_46 (dk_at dksX18_copy_1 4 rfl rfl)
theorem dX18_copy_29 : decode cX18_copy 29 = .ok (.iastore, 1) := dk_79 (dk_at dksX18_copy_1 5 rfl rfl)
theorem dX18_copy_30 : decode cX18_copy 30 = .ok (.aload_n 0, 1) := dk_42 (dk_at dksX18_copy_1 6 rfl rfl)
theorem dX18_copy_31 : decode cX18_copy 31 = .ok (.getfield 19, 3) := dk_180 0 19 (dk_at dksX18_copy_1 7 rfl rfl)
theorem dX18_copy_34 : decode cX18_copy 34 = .ok (.iload_n 2, 1) := dk_28 (dk_at dksX18_copy_1 10 rfl rfl)
theorem dX18_copy_35 : decode cX18_copy 35 = .ok (.aaload, 1) := dk_50 (dk_at dksX18_copy_1 11 rfl rfl)
theorem dX18_copy_36 : decode cX18_copy 36 = .ok (.aload_n 1, 1) := dk_43 (dk_at dksX18_copy_1 12 rfl rfl)
theorem dX18_copy_37 : decode cX18_copy 37 = .ok (.getfield 19, 3) := dk_180 0 19 (dk_at dksX18_copy_1 13 rfl rfl)
theorem dX18_copy_40 : decode cX18_copy 40 = .ok (.iload_n 2, 1) := dk_28 (dk_at dksX18_copy_1 16 rfl rfl)
theorem dX18_copy_41 : decode cX18_copy 41 = .ok (.aaload, 1) := dk_50 (dk_at dksX18_copy_1 17 rfl rfl)
theorem dX18_copy_42 : decode cX18_copy 42 = .ok (.invokevirtual 30, 3) := dk_182 0 30 (dk_at dksX18_copy_1 18 rfl rfl)
theorem dX18_copy_45 : decode cX18_copy 45 = .ok (.aload_n 0, 1) := dk_42 (dk_at dksX18_copy_1 21 rfl rfl)
theorem dX18_copy_46 : decode cX18_copy 46 = .ok (.getfield 23, 3) := dk_180 0 23 (dk_at dksX18_copy_2 0 rfl rfl)
theorem dX18_copy_49 : decode cX18_copy 49 = .ok (.iload_n 2, 1) := dk_28 (dk_at dksX18_copy_2 3 rfl rfl)
theorem dX18_copy_50 : decode cX18_copy 50 = .ok (.aaload, 1) := dk_50 (dk_at dksX18_copy_2 4 rfl rfl)
theorem dX18_copy_51 : decode cX18_copy 51 = .ok (.aload_n 1, 1) := dk_43 (dk_at dksX18_copy_2 5 rfl rfl)
theorem dX18_copy_52 : decode cX18_copy 52 = .ok (.getfield 23, 3) := dk_180 0 23 (dk_at dksX18_copy_2 6 rfl rfl)
theorem dX18_copy_55 : decode cX18_copy 55 = .ok (.iload_n 2, 1) := dk_28 (dk_at dksX18_copy_2 9 rfl rfl)
theorem dX18_copy_56 : decode cX18_copy 56 = .ok (.aaload, 1) := dk_50 (dk_at dksX18_copy_2 10 rfl rfl)
theorem dX18_copy_57 : decode cX18_copy 57 = .ok (.invokevirtual 30, 3) := dk_182 0 30 (dk_at dksX18_copy_2 11 rfl rfl)
theorem dX18_copy_60 : decode cX18_copy 60 = .ok (.iinc 2 1, 3) := dk_132 2 1 (dk_at dksX18_copy_2 14 rfl rfl)
theorem dX18_copy_63 : decode cX18_copy 63 = .ok (.goto (-53), 3) := dk_167 255 203 (dk_at dksX18_copy_2 17 rfl rfl)
theorem dX18_copy_66 : decode cX18_copy 66 = .ok (.return_, 1) := dk_177 (dk_at dksX18_copy_2 20 rfl rfl)
abbrev cX18_degree : ByteArray := prog_23_method_3_code
def yX18_degree : MethodName := ⟨RX18, "degree", "()I"⟩
def dkwX18_degree_1 : List UInt8 := [184, 0, 40, 60, 132, 2, 1, 167, 255, 231, 27, 172]
abbrev dktX18_degree_1 : List UInt8 := dkwX18_degree_1 ++ []
def dkwX18_degree_0 : List UInt8 := [2, 60, 3, 61, 28, 42, 180, 0, 26, 162, 0, 23, 27, 42, 180, 0, 9, 28, 46, 184, 0, 36]
abbrev dktX18_degree_0 : List UInt8 := dkwX18_degree_0 ++ dktX18_degree_1
theorem dksX18_degree_0 : cX18_degree.data.toList.drop 0 = dktX18_degree_0 := by decide +kernel
theorem dksX18_degree_1 : cX18_degree.data.toList.drop 22 = dktX18_degree_1 := dk_seg dksX18_degree_0 22 rfl rfl
theorem dX18_degree_0 : decode cX18_degree 0 = .ok (.iconst (-1), 1) := dk_2 (dk_at dksX18_degree_0 0 rfl rfl)
theorem dX18_degree_1 : decode cX18_degree 1 = .ok (.istore_n 1, 1) := dk_60 (dk_at dksX18_degree_0 1 rfl rfl)
theorem dX18_degree_2 : decode cX18_degree 2 = .ok (.iconst 0, 1) := dk_3 (dk_at dksX18_degree_0 2 rfl rfl)
theorem dX18_degree_3 : decode cX18_degree 3 = .ok (.istore_n 2, 1) := dk_61 (dk_at dksX18_degree_0 3 rfl rfl)
theorem dX18_degree_4 : decode cX18_degree 4 = .ok (.iload_n 2, 1) := dk_28 (dk_at dksX18_degree_0 4 rfl rfl)
theorem dX18_degree_5 : decode cX18_degree 5 = .ok (.aload_n 0, 1) := dk_42 (dk_at dksX18_degree_0 5 rfl rfl)
theorem dX18_degree_6 : decode cX18_degree 6 = .ok (.getfield 26, 3) := dk_180 0 26 (dk_at dksX18_degree_0 6 rfl rfl)
theorem dX18_degree_9 : decode cX18_degree 9 = .ok (.if_icmp .ge 23, 3) := dk_162 0 23 (dk_at dksX18_degree_0 9 rfl rfl)
theorem dX18_degree_12 : decode cX18_degree 12 = .ok (.iload_n 1, 1) := dk_27 (dk_at dksX18_degree_0 12 rfl rfl)
theorem dX18_degree_13 : decode cX18_degree 13 = .ok (.aload_n 0, 1) := dk_42 (dk_at dksX18_degree_0 13 rfl rfl)
theorem dX18_degree_14 : decode cX18_degree 14 = .ok (.getfield 9, 3) := dk_180 0 9 (dk_at dksX18_degree_0 14 rfl rfl)
theorem dX18_degree_17 : decode cX18_degree 17 = .ok (.iload_n 2, 1) := dk_28 (dk_at dksX18_degree_0 17 rfl rfl)
theorem dX18_degree_18 : decode cX18_degree 18 = .ok (.iaload, 1) := dk_46 (dk_at dksX18_degree_0 18 rfl rfl)
theorem dX18_degree_19 : decode cX18_degree 19 = .ok (.invokestatic 36, 3) := dk_184 0 36 (dk_at dksX18_degree_0 19 rfl rfl)
theorem dX18_degree_22 : decode cX18_degree 22 = .ok (.invokestatic 40, 3) := dk_184 0 40 (dk_at dksX18_degree_1 0 rfl rfl)
theorem dX18_degree_25 : decode cX18_degree 25 = .ok (.istore_n 1, 1) := dk_60 (dk_at dksX18_degree_1 3 rfl rfl)
theorem dX18_degree_26 : decode cX18_degree 26 = .ok (.iinc 2 1, 3) := dk_132 2 1 (dk_at dksX18_degree_1 4 rfl rfl)
theorem dX18_degree_29 : decode cX18_degree 29 = .ok (.goto (-25), 3) := dk_167 255 231 (dk_at dksX18_degree_1 7 rfl rfl)
theorem dX18_degree_32 : decode cX18_degree 32 = .ok (.iload_n 1, 1) := dk_27 (dk_at dksX18_degree_1 10 rfl rfl)
theorem dX18_degree_33 : decode cX18_degree 33 = .ok (.ireturn, 1) := dk_172 (dk_at dksX18_degree_1 11 rfl rfl)
abbrev cX18_lead : ByteArray := prog_23_method_4_code
def yX18_lead : MethodName := ⟨RX18, "lead", "(II)I"⟩
def dkwX18_lead_2 : List UInt8 := [167, 255, 216, 29, 172]
abbrev dktX18_lead_2 : List UInt8 := dkwX18_lead_2 ++ []
def dkwX18_lead_1 : List UInt8 := [180, 0, 9, 29, 46, 27, 28, 184, 0, 46, 158, 0, 8, 21, 4, 167, 0, 4, 29, 62, 132, 4, 1]
abbrev dktX18_lead_1 : List UInt8 := dkwX18_lead_1 ++ dktX18_lead_2
def dkwX18_lead_0 : List UInt8 := [3, 62, 4, 54, 4, 21, 4, 42, 180, 0, 26, 162, 0, 37, 42, 180, 0, 9, 21, 4, 46, 42]
abbrev dktX18_lead_0 : List UInt8 := dkwX18_lead_0 ++ dktX18_lead_1
theorem dksX18_lead_0 : cX18_lead.data.toList.drop 0 = dktX18_lead_0 := by decide +kernel
theorem dksX18_lead_1 : cX18_lead.data.toList.drop 22 = dktX18_lead_1 := dk_seg dksX18_lead_0 22 rfl rfl
theorem dksX18_lead_2 : cX18_lead.data.toList.drop 45 = dktX18_lead_2 := dk_seg dksX18_lead_1 23 rfl rfl
theorem dX18_lead_0 : decode cX18_lead 0 = .ok (.iconst 0, 1) := dk_3 (dk_at dksX18_lead_0 0 rfl rfl)
theorem dX18_lead_1 : decode cX18_lead 1 = .ok (.istore_n 3, 1) := dk_62 (dk_at dksX18_lead_0 1 rfl rfl)
theorem dX18_lead_2 : decode cX18_lead 2 = .ok (.iconst 1, 1) := dk_4 (dk_at dksX18_lead_0 2 rfl rfl)
theorem dX18_lead_3 : decode cX18_lead 3 = .ok (.istore 4, 2) := dk_54 4 (dk_at dksX18_lead_0 3 rfl rfl)
theorem dX18_lead_5 : decode cX18_lead 5 = .ok (.iload 4, 2) := dk_21 4 (dk_at dksX18_lead_0 5 rfl rfl)
theorem dX18_lead_7 : decode cX18_lead 7 = .ok (.aload_n 0, 1) := dk_42 (dk_at dksX18_lead_0 7 rfl rfl)
theorem dX18_lead_8 : decode cX18_lead 8 = .ok (.getfield 26, 3) := dk_180 0 26 (dk_at dksX18_lead_0 8 rfl rfl)
theorem dX18_lead_11 : decode cX18_lead 11 = .ok (.if_icmp .ge 37, 3) := dk_162 0 37 (dk_at dksX18_lead_0 11 rfl rfl)
theorem dX18_lead_14 : decode cX18_lead 14 = .ok (.aload_n 0, 1) := dk_42 (dk_at dksX18_lead_0 14 rfl rfl)
theorem dX18_lead_15 : decode cX18_lead 15 = .ok (.getfield 9, 3) := dk_180 0 9 (dk_at dksX18_lead_0 15 rfl rfl)
theorem dX18_lead_18 : decode cX18_lead 18 = .ok (.iload 4, 2) := dk_21 4 (dk_at dksX18_lead_0 18 rfl rfl)
theorem dX18_lead_20 : decode cX18_lead 20 = .ok (.iaload, 1) := dk_46 (dk_at dksX18_lead_0 20 rfl rfl)
theorem dX18_lead_21 : decode cX18_lead 21 = .ok (.aload_n 0, 1) := dk_42 (dk_at dksX18_lead_0 21 rfl rfl)
theorem dX18_lead_22 : decode cX18_lead 22 = .ok (.getfield 9, 3) := dk_180 0 9 (dk_at dksX18_lead_1 0 rfl rfl)
theorem dX18_lead_25 : decode cX18_lead 25 = .ok (.iload_n 3, 1) := dk_29 (dk_at dksX18_lead_1 3 rfl rfl)
theorem dX18_lead_26 : decode cX18_lead 26 = .ok (.iaload, 1) := dk_46 (dk_at dksX18_lead_1 4 rfl rfl)
theorem dX18_lead_27 : decode cX18_lead 27 = .ok (.iload_n 1, 1) := dk_27 (dk_at dksX18_lead_1 5 rfl rfl)
theorem dX18_lead_28 : decode cX18_lead 28 = .ok (.iload_n 2, 1) := dk_28 (dk_at dksX18_lead_1 6 rfl rfl)
theorem dX18_lead_29 : decode cX18_lead 29 = .ok (.invokestatic 46, 3) := dk_184 0 46 (dk_at dksX18_lead_1 7 rfl rfl)
theorem dX18_lead_32 : decode cX18_lead 32 = .ok (.ifCond .le 8, 3) := dk_158 0 8 (dk_at dksX18_lead_1 10 rfl rfl)
theorem dX18_lead_35 : decode cX18_lead 35 = .ok (.iload 4, 2) := dk_21 4 (dk_at dksX18_lead_1 13 rfl rfl)
theorem dX18_lead_37 : decode cX18_lead 37 = .ok (.goto 4, 3) := dk_167 0 4 (dk_at dksX18_lead_1 15 rfl rfl)
theorem dX18_lead_40 : decode cX18_lead 40 = .ok (.iload_n 3, 1) := dk_29 (dk_at dksX18_lead_1 18 rfl rfl)
theorem dX18_lead_41 : decode cX18_lead 41 = .ok (.istore_n 3, 1) := dk_62 (dk_at dksX18_lead_1 19 rfl rfl)
theorem dX18_lead_42 : decode cX18_lead 42 = .ok (.iinc 4 1, 3) := dk_132 4 1 (dk_at dksX18_lead_1 20 rfl rfl)
theorem dX18_lead_45 : decode cX18_lead 45 = .ok (.goto (-40), 3) := dk_167 255 216 (dk_at dksX18_lead_2 0 rfl rfl)
theorem dX18_lead_48 : decode cX18_lead 48 = .ok (.iload_n 3, 1) := dk_29 (dk_at dksX18_lead_2 3 rfl rfl)
theorem dX18_lead_49 : decode cX18_lead 49 = .ok (.ireturn, 1) := dk_172 (dk_at dksX18_lead_2 4 rfl rfl)
abbrev cX18_isPlain : ByteArray := prog_23_method_6_code
def yX18_isPlain : MethodName := ⟨RX18, "isPlain", "(I)Z"⟩
def dkwX18_isPlain_2 : List UInt8 := [164, 0, 5, 3, 172, 132, 2, 1, 167, 255, 203, 4, 172]
abbrev dktX18_isPlain_2 : List UInt8 := dkwX18_isPlain_2 ++ []
def dkwX18_isPlain_1 : List UInt8 := [180, 0, 19, 28, 50, 180, 0, 58, 4, 163, 0, 18, 42, 180, 0, 19, 28, 50, 180, 0, 61, 3, 46, 27]
abbrev dktX18_isPlain_1 : List UInt8 := dkwX18_isPlain_1 ++ dktX18_isPlain_2
def dkwX18_isPlain_0 : List UInt8 := [3, 61, 28, 42, 180, 0, 26, 162, 0, 51, 42, 180, 0, 23, 28, 50, 182, 0, 54, 153, 0, 31, 42]
abbrev dktX18_isPlain_0 : List UInt8 := dkwX18_isPlain_0 ++ dktX18_isPlain_1
theorem dksX18_isPlain_0 : cX18_isPlain.data.toList.drop 0 = dktX18_isPlain_0 := by decide +kernel
theorem dksX18_isPlain_1 : cX18_isPlain.data.toList.drop 23 = dktX18_isPlain_1 := dk_seg dksX18_isPlain_0 23 rfl rfl
theorem dksX18_isPlain_2 : cX18_isPlain.data.toList.drop 47 = dktX18_isPlain_2 := dk_seg dksX18_isPlain_1 24 rfl rfl
theorem dX18_isPlain_0 : decode cX18_isPlain 0 = .ok (.iconst 0, 1) := dk_3 (dk_at dksX18_isPlain_0 0 rfl rfl)
theorem dX18_isPlain_1 : decode cX18_isPlain 1 = .ok (.istore_n 2, 1) := dk_61 (dk_at dksX18_isPlain_0 1 rfl rfl)
theorem dX18_isPlain_2 : decode cX18_isPlain 2 = .ok (.iload_n 2, 1) := dk_28 (dk_at dksX18_isPlain_0 2 rfl rfl)
theorem dX18_isPlain_3 : decode cX18_isPlain 3 = .ok (.aload_n 0, 1) := dk_42 (dk_at dksX18_isPlain_0 3 rfl rfl)
theorem dX18_isPlain_4 : decode cX18_isPlain 4 = .ok (.getfield 26, 3) := dk_180 0 26 (dk_at dksX18_isPlain_0 4 rfl rfl)
theorem dX18_isPlain_7 : decode cX18_isPlain 7 = .ok (.if_icmp .ge 51, 3) := dk_162 0 51 (dk_at dksX18_isPlain_0 7 rfl rfl)
theorem dX18_isPlain_10 : decode cX18_isPlain 10 = .ok (.aload_n 0, 1) := dk_42 (dk_at dksX18_isPlain_0 10 rfl rfl)
theorem dX18_isPlain_11 : decode cX18_isPlain 11 = .ok (.getfield 23, 3) := dk_180 0 23 (dk_at dksX18_isPlain_0 11 rfl rfl)
theorem dX18_isPlain_14 : decode cX18_isPlain 14 = .ok (.iload_n 2, 1) := dk_28 (dk_at dksX18_isPlain_0 14 rfl rfl)
theorem dX18_isPlain_15 : decode cX18_isPlain 15 = .ok (.aaload, 1) := dk_50 (dk_at dksX18_isPlain_0 15 rfl rfl)
theorem dX18_isPlain_16 : decode cX18_isPlain 16 = .ok (.invokevirtual 54, 3) := dk_182 0 54 (dk_at dksX18_isPlain_0 16 rfl rfl)
theorem dX18_isPlain_19 : decode cX18_isPlain 19 = .ok (.ifCond .eq 31, 3) := dk_153 0 31 (dk_at dksX18_isPlain_0 19 rfl rfl)
theorem dX18_isPlain_22 : decode cX18_isPlain 22 = .ok (.aload_n 0, 1) := dk_42 (dk_at dksX18_isPlain_0 22 rfl rfl)
theorem dX18_isPlain_23 : decode cX18_isPlain 23 = .ok (.getfield 19, 3) := dk_180 0 19 (dk_at dksX18_isPlain_1 0 rfl rfl)
theorem dX18_isPlain_26 : decode cX18_isPlain 26 = .ok (.iload_n 2, 1) := dk_28 (dk_at dksX18_isPlain_1 3 rfl rfl)
theorem dX18_isPlain_27 : decode cX18_isPlain 27 = .ok (.aaload, 1) := dk_50 (dk_at dksX18_isPlain_1 4 rfl rfl)
theorem dX18_isPlain_28 : decode cX18_isPlain 28 = .ok (.getfield 58, 3) := dk_180 0 58 (dk_at dksX18_isPlain_1 5 rfl rfl)
theorem dX18_isPlain_31 : decode cX18_isPlain 31 = .ok (.iconst 1, 1) := dk_4 (dk_at dksX18_isPlain_1 8 rfl rfl)
theorem dX18_isPlain_32 : decode cX18_isPlain 32 = .ok (.if_icmp .gt 18, 3) := dk_163 0 18 (dk_at dksX18_isPlain_1 9 rfl rfl)
theorem dX18_isPlain_35 : decode cX18_isPlain 35 = .ok (.aload_n 0, 1) := dk_42 (dk_at dksX18_isPlain_1 12 rfl rfl)
theorem dX18_isPlain_36 : decode cX18_isPlain 36 = .ok (.getfield 19, 3) := dk_180 0 19 (dk_at dksX18_isPlain_1 13 rfl rfl)
theorem dX18_isPlain_39 : decode cX18_isPlain 39 = .ok (.iload_n 2, 1) := dk_28 (dk_at dksX18_isPlain_1 16 rfl rfl)
theorem dX18_isPlain_40 : decode cX18_isPlain 40 = .ok (.aaload, 1) := dk_50 (dk_at dksX18_isPlain_1 17 rfl rfl)
theorem dX18_isPlain_41 : decode cX18_isPlain 41 = .ok (.getfield 61, 3) := dk_180 0 61 (dk_at dksX18_isPlain_1 18 rfl rfl)
theorem dX18_isPlain_44 : decode cX18_isPlain 44 = .ok (.iconst 0, 1) := dk_3 (dk_at dksX18_isPlain_1 21 rfl rfl)
theorem dX18_isPlain_45 : decode cX18_isPlain 45 = .ok (.iaload, 1) := dk_46 (dk_at dksX18_isPlain_1 22 rfl rfl)
theorem dX18_isPlain_46 : decode cX18_isPlain 46 = .ok (.iload_n 1, 1) := dk_27 (dk_at dksX18_isPlain_1 23 rfl rfl)
theorem dX18_isPlain_47 : decode cX18_isPlain 47 = .ok (.if_icmp .le 5, 3) := dk_164 0 5 (dk_at dksX18_isPlain_2 0 rfl rfl)
theorem dX18_isPlain_50 : decode cX18_isPlain 50 = .ok (.iconst 0, 1) := dk_3 (dk_at dksX18_isPlain_2 3 rfl rfl)
theorem dX18_isPlain_51 : decode cX18_isPlain 51 = .ok (.ireturn, 1) := dk_172 (dk_at dksX18_isPlain_2 4 rfl rfl)
theorem dX18_isPlain_52 : decode cX18_isPlain 52 = .ok (.iinc 2 1, 3) := dk_132 2 1 (dk_at dksX18_isPlain_2 5 rfl rfl)
theorem dX18_isPlain_55 : decode cX18_isPlain 55 = .ok (.goto (-53), 3) := dk_167 255 203 (dk_at dksX18_isPlain_2 8 rfl rfl)
theorem dX18_isPlain_58 : decode cX18_isPlain 58 = .ok (.iconst 1, 1) := dk_4 (dk_at dksX18_isPlain_2 11 rfl rfl)
theorem dX18_isPlain_59 : decode cX18_isPlain 59 = .ok (.ireturn, 1) := dk_172 (dk_at dksX18_isPlain_2 12 rfl rfl)
abbrev cX18_isLike : ByteArray := prog_23_method_5_code
def yX18_isLike : MethodName := ⟨RX18, "isLike", "(LIdealCourtModel$Poly;)Z"⟩
def dkwX18_isLike_4 : List UInt8 := [172]
abbrev dktX18_isLike_4 : List UInt8 := dkwX18_isLike_4 ++ []
def dkwX18_isLike_3 : List UInt8 := [180, 0, 23, 29, 50, 182, 0, 50, 153, 0, 7, 4, 167, 0, 4, 3, 61, 132, 3, 1, 167, 255, 184, 28]
abbrev dktX18_isLike_3 : List UInt8 := dkwX18_isLike_3 ++ dktX18_isLike_4
def dkwX18_isLike_2 : List UInt8 := [180, 0, 19, 29, 50, 43, 180, 0, 19, 29, 50, 182, 0, 50, 153, 0, 25, 42, 180, 0, 23, 29, 50, 43]
abbrev dktX18_isLike_2 : List UInt8 := dkwX18_isLike_2 ++ dktX18_isLike_3
def dkwX18_isLike_1 : List UInt8 := [162, 0, 70, 28, 153, 0, 66, 42, 180, 0, 9, 29, 46, 43, 180, 0, 9, 29, 46, 160, 0, 43, 42]
abbrev dktX18_isLike_1 : List UInt8 := dkwX18_isLike_1 ++ dktX18_isLike_2
def dkwX18_isLike_0 : List UInt8 := [42, 180, 0, 26, 43, 180, 0, 26, 160, 0, 7, 4, 167, 0, 4, 3, 61, 3, 62, 29, 42, 180, 0, 26]
abbrev dktX18_isLike_0 : List UInt8 := dkwX18_isLike_0 ++ dktX18_isLike_1
theorem dksX18_isLike_0 : cX18_isLike.data.toList.drop 0 = dktX18_isLike_0 := by decide +kernel
theorem dksX18_isLike_1 : cX18_isLike.data.toList.drop 24 = dktX18_isLike_1 := dk_seg dksX18_isLike_0 24 rfl rfl
theorem dksX18_isLike_2 : cX18_isLike.data.toList.drop 47 = dktX18_isLike_2 := dk_seg dksX18_isLike_1 23 rfl rfl
theorem dksX18_isLike_3 : cX18_isLike.data.toList.drop 71 = dktX18_isLike_3 := dk_seg dksX18_isLike_2 24 rfl rfl
theorem dksX18_isLike_4 : cX18_isLike.data.toList.drop 95 = dktX18_isLike_4 := dk_seg dksX18_isLike_3 24 rfl rfl
theorem dX18_isLike_0 : decode cX18_isLike 0 = .ok (.aload_n 0, 1) := dk_42 (dk_at dksX18_isLike_0 0 rfl rfl)
theorem dX18_isLike_1 : decode cX18_isLike 1 = .ok (.getfield 26, 3) := dk_180 0 26 (dk_at dksX18_isLike_0 1 rfl rfl)
theorem dX18_isLike_4 : decode cX18_isLike 4 = .ok (.aload_n 1, 1) := dk_43 (dk_at dksX18_isLike_0 4 rfl rfl)
theorem dX18_isLike_5 : decode cX18_isLike 5 = .ok (.getfield 26, 3) := dk_180 0 26 (dk_at dksX18_isLike_0 5 rfl rfl)
theorem dX18_isLike_8 : decode cX18_isLike 8 = .ok (.if_icmp .ne 7, 3) := dk_160 0 7 (dk_at dksX18_isLike_0 8 rfl rfl)
theorem dX18_isLike_11 : decode cX18_isLike 11 = .ok (.iconst 1, 1) := dk_4 (dk_at dksX18_isLike_0 11 rfl rfl)
theorem dX18_isLike_12 : decode cX18_isLike 12 = .ok (.goto 4, 3) := dk_167 0 4 (dk_at dksX18_isLike_0 12 rfl rfl)
theorem dX18_isLike_15 : decode cX18_isLike 15 = .ok (.iconst 0, 1) := dk_3 (dk_at dksX18_isLike_0 15 rfl rfl)
theorem dX18_isLike_16 : decode cX18_isLike 16 = .ok (.istore_n 2, 1) := dk_61 (dk_at dksX18_isLike_0 16 rfl rfl)
theorem dX18_isLike_17 : decode cX18_isLike 17 = .ok (.iconst 0, 1) := dk_3 (dk_at dksX18_isLike_0 17 rfl rfl)
theorem dX18_isLike_18 : decode cX18_isLike 18 = .ok (.istore_n 3, 1) := dk_62 (dk_at dksX18_isLike_0 18 rfl rfl)
theorem dX18_isLike_19 : decode cX18_isLike 19 = .ok (.iload_n 3, 1) := dk_29 (dk_at dksX18_isLike_0 19 rfl rfl)
theorem dX18_isLike_20 : decode cX18_isLike 20 = .ok (.aload_n 0, 1) := dk_42 (dk_at dksX18_isLike_0 20 rfl rfl)
theorem dX18_isLike_21 : decode cX18_isLike 21 = .ok (.getfield 26, 3) := dk_180 0 26 (dk_at dksX18_isLike_0 21 rfl rfl)
theorem dX18_isLike_24 : decode cX18_isLike 24 = .ok (.if_icmp .ge 70, 3) := dk_162 0 70 (dk_at dksX18_isLike_1 0 rfl rfl)
theorem dX18_isLike_27 : decode cX18_isLike 27 = .ok (.iload_n 2, 1) := dk_28 (dk_at dksX18_isLike_1 3 rfl rfl)
theorem dX18_isLike_28 : decode cX18_isLike 28 = .ok (.ifCond .eq 66, 3) := dk_153 0 66 (dk_at dksX18_isLike_1 4 rfl rfl)
theorem dX18_isLike_31 : decode cX18_isLike 31 = .ok (.aload_n 0, 1) := dk_42 (dk_at dksX18_isLike_1 7 rfl rfl)
theorem dX18_isLike_32 : decode cX18_isLike 32 = .ok (.getfield 9, 3) := dk_180 0 9 (dk_at dksX18_isLike_1 8 rfl rfl)
theorem dX18_isLike_35 : decode cX18_isLike 35 = .ok (.iload_n 3, 1) := dk_29 (dk_at dksX18_isLike_1 11 rfl rfl)
theorem dX18_isLike_36 : decode cX18_isLike 36 = .ok (.iaload, 1) := dk_46 (dk_at dksX18_isLike_1 12 rfl rfl)
theorem dX18_isLike_37 : decode cX18_isLike 37 = .ok (.aload_n 1, 1) := dk_43 (dk_at dksX18_isLike_1 13 rfl rfl)
theorem dX18_isLike_38 : decode cX18_isLike 38 = .ok (.getfield 9, 3) := dk_180 0 9 (dk_at dksX18_isLike_1 14 rfl rfl)
theorem dX18_isLike_41 : decode cX18_isLike 41 = .ok (.iload_n 3, 1) := dk_29 (dk_at dksX18_isLike_1 17 rfl rfl)
theorem dX18_isLike_42 : decode cX18_isLike 42 = .ok (.iaload, 1) := dk_46 (dk_at dksX18_isLike_1 18 rfl rfl)
theorem dX18_isLike_43 : decode cX18_isLike 43 = .ok (.if_icmp .ne 43, 3) := dk_160 0 43 (dk_at dksX18_isLike_1 19 rfl rfl)
theorem dX18_isLike_46 : decode cX18_isLike 46 = .ok (.aload_n 0, 1) := dk_42 (dk_at dksX18_isLike_1 22 rfl rfl)
theorem dX18_isLike_47 : decode cX18_isLike 47 = .ok (.getfield 19, 3) := dk_180 0 19 (dk_at dksX18_isLike_2 0 rfl rfl)
theorem dX18_isLike_50 : decode cX18_isLike 50 = .ok (.iload_n 3, 1) := dk_29 (dk_at dksX18_isLike_2 3 rfl rfl)
theorem dX18_isLike_51 : decode cX18_isLike 51 = .ok (.aaload, 1) := dk_50 (dk_at dksX18_isLike_2 4 rfl rfl)
theorem dX18_isLike_52 : decode cX18_isLike 52 = .ok (.aload_n 1, 1) := dk_43 (dk_at dksX18_isLike_2 5 rfl rfl)
theorem dX18_isLike_53 : decode cX18_isLike 53 = .ok (.getfield 19, 3) := dk_180 0 19 (dk_at dksX18_isLike_2 6 rfl rfl)
theorem dX18_isLike_56 : decode cX18_isLike 56 = .ok (.iload_n 3, 1) := dk_29 (dk_at dksX18_isLike_2 9 rfl rfl)
theorem dX18_isLike_57 : decode cX18_isLike 57 = .ok (.aaload, 1) := dk_50 (dk_at dksX18_isLike_2 10 rfl rfl)
theorem dX18_isLike_58 : decode cX18_isLike 58 = .ok (.invokevirtual 50, 3) := dk_182 0 50 (dk_at dksX18_isLike_2 11 rfl rfl)
theorem dX18_isLike_61 : decode cX18_isLike 61 = .ok (.ifCond .eq 25, 3) := dk_153 0 25 (dk_at dksX18_isLike_2 14 rfl rfl)
theorem dX18_isLike_64 : decode cX18_isLike 64 = .ok (.aload_n 0, 1) := dk_42 (dk_at dksX18_isLike_2 17 rfl rfl)
theorem dX18_isLike_65 : decode cX18_isLike 65 = .ok (.getfield 23, 3) := dk_180 0 23 (dk_at dksX18_isLike_2 18 rfl rfl)
theorem dX18_isLike_68 : decode cX18_isLike 68 = .ok (.iload_n 3, 1) := dk_29 (dk_at dksX18_isLike_2 21 rfl rfl)
theorem dX18_isLike_69 : decode cX18_isLike 69 = .ok (.aaload, 1) := dk_50 (dk_at dksX18_isLike_2 22 rfl rfl)
theorem dX18_isLike_70 : decode cX18_isLike 70 = .ok (.aload_n 1, 1) := dk_43 (dk_at dksX18_isLike_2 23 rfl rfl)
theorem dX18_isLike_71 : decode cX18_isLike 71 = .ok (.getfield 23, 3) := dk_180 0 23 (dk_at dksX18_isLike_3 0 rfl rfl)
theorem dX18_isLike_74 : decode cX18_isLike 74 = .ok (.iload_n 3, 1) := dk_29 (dk_at dksX18_isLike_3 3 rfl rfl)
theorem dX18_isLike_75 : decode cX18_isLike 75 = .ok (.aaload, 1) := dk_50 (dk_at dksX18_isLike_3 4 rfl rfl)
theorem dX18_isLike_76 : decode cX18_isLike 76 = .ok (.invokevirtual 50, 3) := dk_182 0 50 (dk_at dksX18_isLike_3 5 rfl rfl)
theorem dX18_isLike_79 : decode cX18_isLike 79 = .ok (.ifCond .eq 7, 3) := dk_153 0 7 (dk_at dksX18_isLike_3 8 rfl rfl)
theorem dX18_isLike_82 : decode cX18_isLike 82 = .ok (.iconst 1, 1) := dk_4 (dk_at dksX18_isLike_3 11 rfl rfl)
theorem dX18_isLike_83 : decode cX18_isLike 83 = .ok (.goto 4, 3) := dk_167 0 4 (dk_at dksX18_isLike_3 12 rfl rfl)
theorem dX18_isLike_86 : decode cX18_isLike 86 = .ok (.iconst 0, 1) := dk_3 (dk_at dksX18_isLike_3 15 rfl rfl)
theorem dX18_isLike_87 : decode cX18_isLike 87 = .ok (.istore_n 2, 1) := dk_61 (dk_at dksX18_isLike_3 16 rfl rfl)
theorem dX18_isLike_88 : decode cX18_isLike 88 = .ok (.iinc 3 1, 3) := dk_132 3 1 (dk_at dksX18_isLike_3 17 rfl rfl)
theorem dX18_isLike_91 : decode cX18_isLike 91 = .ok (.goto (-72), 3) := dk_167 255 184 (dk_at dksX18_isLike_3 20 rfl rfl)
theorem dX18_isLike_94 : decode cX18_isLike 94 = .ok (.iload_n 2, 1) := dk_28 (dk_at dksX18_isLike_3 23 rfl rfl)
theorem dX18_isLike_95 : decode cX18_isLike 95 = .ok (.ireturn, 1) := dk_172 (dk_at dksX18_isLike_4 0 rfl rfl)
theorem q120 : (Jvm.Cond.initialized "IdealCourtModel$Poly") ∈ lw_all := lw_g (lw_at lw_m1 22 rfl) rfl
theorem q1660 : (Jvm.Cond.fieldLinkNest "IdealCourtModel$Poly" (61 : Nat) "IdealCourtModel$Num" "d" "[I" "IdealCourtModel") ∈ lw_tbl := lw_at lw_m7 122 rfl
theorem q1666 : (Jvm.Cond.fieldLinkNest "IdealCourtModel$Poly" (58 : Nat) "IdealCourtModel$Num" "len" "I" "IdealCourtModel") ∈ lw_tbl := lw_at lw_m7 128 rfl
theorem q1682 : (Jvm.Cond.instantiable "IdealCourtModel$Poly" (4 : Nat)) ∈ lw_all := lw_g (lw_at lw_m7 144 rfl) rfl
theorem q1684 : (Jvm.Cond.instanceMethod ({ cls := "IdealCourtModel$Poly", name := "<init>", desc := "()V" } : Jvm.MethodName)) ∈ lw_all := lw_g (lw_at lw_m7 146 rfl) rfl
theorem q1685 : (Jvm.Cond.code ({ cls := "IdealCourtModel$Poly", name := "<init>", desc := "()V" } : Jvm.MethodName) prog_23_method_1_code (1 : Nat) (Option.none : Option Jvm.ClassFile.FieldType)) ∈ lw_all := lw_g (lw_at lw_m7 147 rfl) rfl
theorem q1686 : (Jvm.Cond.methodLink "IdealCourtModel$Poly" (3 : Nat) ({ cls := "java/lang/Object", name := "<init>", desc := "()V" } : Jvm.MethodName)) ∈ lw_all := lw_g (lw_at lw_m7 148 rfl) rfl
theorem q1687 : (Jvm.Cond.methodLinkNest "IdealCourtModel$Poly" (15 : Nat) ({ cls := "IdealCourtModel", name := "nums", desc := "(II)[LIdealCourtModel$Num;" } : Jvm.MethodName) "IdealCourtModel") ∈ lw_tbl := lw_at lw_m7 149 rfl
theorem q1688 : (Jvm.Cond.fieldLink "IdealCourtModel$Poly" (26 : Nat) "IdealCourtModel$Poly" "many" "I") ∈ lw_all := lw_g (lw_at lw_m7 150 rfl) rfl
theorem q1691 : (Jvm.Cond.fieldLink "IdealCourtModel$Poly" (9 : Nat) "IdealCourtModel$Poly" "code" "[I") ∈ lw_all := lw_g (lw_at lw_m7 153 rfl) rfl
theorem q1694 : (Jvm.Cond.fieldLink "IdealCourtModel$Poly" (19 : Nat) "IdealCourtModel$Poly" "num" "[LIdealCourtModel$Num;") ∈ lw_all := lw_g (lw_at lw_m7 156 rfl) rfl
theorem q1697 : (Jvm.Cond.fieldLink "IdealCourtModel$Poly" (23 : Nat) "IdealCourtModel$Poly" "den" "[LIdealCourtModel$Num;") ∈ lw_all := lw_g (lw_at lw_m7 159 rfl) rfl
theorem q1700 : (Jvm.Cond.lays "IdealCourtModel$Poly" "IdealCourtModel$Poly" "many" "I") ∈ lw_all := lw_g (lw_at lw_m7 162 rfl) rfl
theorem q1701 : (Jvm.Cond.soleField "IdealCourtModel$Poly" "many") ∈ lw_all := lw_g (lw_at lw_m7 163 rfl) rfl
theorem q1702 : (Jvm.Cond.laysFinal "IdealCourtModel$Poly" "IdealCourtModel$Poly" "code" "[I") ∈ lw_all := lw_g (lw_at lw_m7 164 rfl) rfl
theorem q1703 : (Jvm.Cond.soleField "IdealCourtModel$Poly" "code") ∈ lw_all := lw_g (lw_at lw_m7 165 rfl) rfl
theorem q1704 : (Jvm.Cond.laysFinal "IdealCourtModel$Poly" "IdealCourtModel$Poly" "num" "[LIdealCourtModel$Num;") ∈ lw_all := lw_g (lw_at lw_m7 166 rfl) rfl
theorem q1705 : (Jvm.Cond.soleField "IdealCourtModel$Poly" "num") ∈ lw_all := lw_g (lw_at lw_m7 167 rfl) rfl
theorem q1706 : (Jvm.Cond.laysFinal "IdealCourtModel$Poly" "IdealCourtModel$Poly" "den" "[LIdealCourtModel$Num;") ∈ lw_all := lw_g (lw_at lw_m7 168 rfl) rfl
theorem q1707 : (Jvm.Cond.soleField "IdealCourtModel$Poly" "den") ∈ lw_all := lw_g (lw_at lw_m7 169 rfl) rfl
theorem q1708 : (Jvm.Cond.superclass "IdealCourtModel$Poly" "java/lang/Object") ∈ lw_all := lw_g (lw_at lw_m7 170 rfl) rfl
theorem q2049 : (Jvm.Cond.instanceMethod ({ cls := "IdealCourtModel$Poly", name := "copy", desc := "(LIdealCourtModel$Poly;)V" } : Jvm.MethodName)) ∈ lw_all := lw_g (lw_at lw_m9 31 rfl) rfl
theorem q2050 : (Jvm.Cond.selects "IdealCourtModel$Poly" ({ cls := "IdealCourtModel$Poly", name := "copy", desc := "(LIdealCourtModel$Poly;)V" } : Jvm.MethodName) ({ cls := "IdealCourtModel$Poly", name := "copy", desc := "(LIdealCourtModel$Poly;)V" } : Jvm.MethodName)) ∈ lw_all := lw_g (lw_at lw_m9 32 rfl) rfl
theorem q2051 : (Jvm.Cond.code ({ cls := "IdealCourtModel$Poly", name := "copy", desc := "(LIdealCourtModel$Poly;)V" } : Jvm.MethodName) prog_23_method_2_code (3 : Nat) (Option.none : Option Jvm.ClassFile.FieldType)) ∈ lw_all := lw_g (lw_at lw_m9 33 rfl) rfl
theorem q2052 : (Jvm.Cond.methodLink "IdealCourtModel$Poly" (30 : Nat) ({ cls := "IdealCourtModel$Num", name := "copy", desc := "(LIdealCourtModel$Num;)V" } : Jvm.MethodName)) ∈ lw_all := lw_g (lw_at lw_m9 34 rfl) rfl
theorem q2186 : (Jvm.Cond.instanceMethod ({ cls := "IdealCourtModel$Poly", name := "degree", desc := "()I" } : Jvm.MethodName)) ∈ lw_all := lw_g (lw_at lw_m9 168 rfl) rfl
theorem q2187 : (Jvm.Cond.selects "IdealCourtModel$Poly" ({ cls := "IdealCourtModel$Poly", name := "degree", desc := "()I" } : Jvm.MethodName) ({ cls := "IdealCourtModel$Poly", name := "degree", desc := "()I" } : Jvm.MethodName)) ∈ lw_all := lw_g (lw_at lw_m9 169 rfl) rfl
theorem q2188 : (Jvm.Cond.code ({ cls := "IdealCourtModel$Poly", name := "degree", desc := "()I" } : Jvm.MethodName) prog_23_method_3_code (3 : Nat) (Option.some Jvm.ClassFile.FieldType.int)) ∈ lw_all := lw_g (lw_at lw_m9 170 rfl) rfl
theorem q2189 : (Jvm.Cond.methodLinkNest "IdealCourtModel$Poly" (36 : Nat) ({ cls := "IdealCourtModel", name := "degreeOf", desc := "(I)I" } : Jvm.MethodName) "IdealCourtModel") ∈ lw_tbl := lw_at lw_m9 171 rfl
theorem q2190 : (Jvm.Cond.methodLink "IdealCourtModel$Poly" (40 : Nat) ({ cls := "java/lang/Math", name := "max", desc := "(II)I" } : Jvm.MethodName)) ∈ lw_all := lw_g (lw_at lw_m9 172 rfl) rfl
theorem q2207 : (Jvm.Cond.instanceMethod ({ cls := "IdealCourtModel$Poly", name := "lead", desc := "(II)I" } : Jvm.MethodName)) ∈ lw_all := lw_g (lw_at lw_m9 189 rfl) rfl
theorem q2208 : (Jvm.Cond.selects "IdealCourtModel$Poly" ({ cls := "IdealCourtModel$Poly", name := "lead", desc := "(II)I" } : Jvm.MethodName) ({ cls := "IdealCourtModel$Poly", name := "lead", desc := "(II)I" } : Jvm.MethodName)) ∈ lw_all := lw_g (lw_at lw_m9 190 rfl) rfl
theorem q2209 : (Jvm.Cond.code ({ cls := "IdealCourtModel$Poly", name := "lead", desc := "(II)I" } : Jvm.MethodName) prog_23_method_4_code (5 : Nat) (Option.some Jvm.ClassFile.FieldType.int)) ∈ lw_all := lw_g (lw_at lw_m9 191 rfl) rfl
theorem q2210 : (Jvm.Cond.methodLinkNest "IdealCourtModel$Poly" (46 : Nat) ({ cls := "IdealCourtModel", name := "compareTerms", desc := "(IIII)I" } : Jvm.MethodName) "IdealCourtModel") ∈ lw_tbl := lw_at lw_m9 192 rfl
theorem q2311 : (Jvm.Cond.instanceMethod ({ cls := "IdealCourtModel$Poly", name := "isPlain", desc := "(I)Z" } : Jvm.MethodName)) ∈ lw_all := lw_g (lw_at lw_m10 53 rfl) rfl
theorem q2312 : (Jvm.Cond.selects "IdealCourtModel$Poly" ({ cls := "IdealCourtModel$Poly", name := "isPlain", desc := "(I)Z" } : Jvm.MethodName) ({ cls := "IdealCourtModel$Poly", name := "isPlain", desc := "(I)Z" } : Jvm.MethodName)) ∈ lw_all := lw_g (lw_at lw_m10 54 rfl) rfl
theorem q2313 : (Jvm.Cond.code ({ cls := "IdealCourtModel$Poly", name := "isPlain", desc := "(I)Z" } : Jvm.MethodName) prog_23_method_6_code (3 : Nat) (Option.some Jvm.ClassFile.FieldType.boolean)) ∈ lw_all := lw_g (lw_at lw_m10 55 rfl) rfl
theorem q2314 : (Jvm.Cond.methodLink "IdealCourtModel$Poly" (54 : Nat) ({ cls := "IdealCourtModel$Num", name := "isOne", desc := "()Z" } : Jvm.MethodName)) ∈ lw_all := lw_g (lw_at lw_m10 56 rfl) rfl
theorem q2447 : (Jvm.Cond.instanceMethod ({ cls := "IdealCourtModel$Poly", name := "isLike", desc := "(LIdealCourtModel$Poly;)Z" } : Jvm.MethodName)) ∈ lw_all := lw_g (lw_at lw_m10 189 rfl) rfl
theorem q2448 : (Jvm.Cond.selects "IdealCourtModel$Poly" ({ cls := "IdealCourtModel$Poly", name := "isLike", desc := "(LIdealCourtModel$Poly;)Z" } : Jvm.MethodName) ({ cls := "IdealCourtModel$Poly", name := "isLike", desc := "(LIdealCourtModel$Poly;)Z" } : Jvm.MethodName)) ∈ lw_all := lw_g (lw_at lw_m10 190 rfl) rfl
theorem q2449 : (Jvm.Cond.code ({ cls := "IdealCourtModel$Poly", name := "isLike", desc := "(LIdealCourtModel$Poly;)Z" } : Jvm.MethodName) prog_23_method_5_code (4 : Nat) (Option.some Jvm.ClassFile.FieldType.boolean)) ∈ lw_all := lw_g (lw_at lw_m10 191 rfl) rfl
theorem q2450 : (Jvm.Cond.methodLink "IdealCourtModel$Poly" (50 : Nat) ({ cls := "IdealCourtModel$Num", name := "isLike", desc := "(LIdealCourtModel$Num;)Z" } : Jvm.MethodName)) ∈ lw_all := lw_g (lw_at lw_m10 192 rfl) rfl
theorem in_X18 : ∀ w ∈ wsX180, w ∈ lw_all := lw_in wsX180 [1700, 1702, 1704, 1706] (by decide +kernel) (by decide +kernel)
