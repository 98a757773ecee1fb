/-! IdealCourtModel$Sum -/
set_option maxRecDepth 100000
def RX19 : String := "IdealCourtModel$Sum"
def TX19 : u_T := fun k => match k with
  | 0 => ("IdealCourtModel$Sum", "many", "I", false)
  | 1 => ("IdealCourtModel$Sum", "code", "[I", true)
  | 2 => ("IdealCourtModel$Sum", "at", "[I", true)
  | 3 => ("IdealCourtModel$Sum", "num", "[LIdealCourtModel$Num;", true)
  | _ => ("IdealCourtModel$Sum", "den", "[LIdealCourtModel$Num;", true)
def tyX19 : Nat → FieldType := fun k => match k with
  | 0 => .int
  | 1 => .array .int
  | 2 => .array .int
  | 3 => .array (.object "IdealCourtModel$Num")
  | _ => .array (.object "IdealCourtModel$Num")
abbrev wsX190 : List Cond := u_ws RX19 TX19 5
theorem nmX19 : ∀ a, a < 5 → ∀ b, b < 5 → a ≠ b → (TX19 a).2.1 ≠ (TX19 b).2.1 := by decide +kernel
theorem tyX19_ok : ∀ k, k < 5 → parseFieldDescriptor (TX19 k).2.2.1 = some (tyX19 k) := by decide +kernel
abbrev cX19_init : ByteArray := prog_24_method_1_code
def yX19_init : MethodName := ⟨RX19, "<init>", "()V"⟩
def dkwX19_init_2 : List UInt8 := [60, 27, 17, 16, 0, 162, 0, 16, 42, 180, 0, 15, 27, 2, 79, 132, 1, 1, 167, 255, 239, 177]
abbrev dktX19_init_2 : List UInt8 := dkwX19_init_2 ++ []
def dkwX19_init_1 : List UInt8 := [17, 1, 199, 16, 14, 184, 0, 18, 181, 0, 22, 42, 17, 1, 199, 16, 14, 184, 0, 18, 181, 0, 26, 3]
abbrev dktX19_init_1 : List UInt8 := dkwX19_init_1 ++ dktX19_init_2
def dkwX19_init_0 : List UInt8 := [42, 183, 0, 3, 42, 17, 1, 199, 188, 10, 181, 0, 9, 42, 17, 16, 0, 188, 10, 181, 0, 15, 42]
abbrev dktX19_init_0 : List UInt8 := dkwX19_init_0 ++ dktX19_init_1
theorem dksX19_init_0 : cX19_init.data.toList.drop 0 = dktX19_init_0 := by decide +kernel
theorem dksX19_init_1 : cX19_init.data.toList.drop 23 = dktX19_init_1 := dk_seg dksX19_init_0 23 rfl rfl
theorem dksX19_init_2 : cX19_init.data.toList.drop 47 = dktX19_init_2 := dk_seg dksX19_init_1 24 rfl rfl
theorem dX19_init_0 : decode cX19_init 0 = .ok (.aload_n 0, 1) := dk_42 (dk_at dksX19_init_0 0 rfl rfl)
theorem dX19_init_1 : decode cX19_init 1 = .ok (.invokespecial 3, 3) := dk_183 0 3 (dk_at dksX19_init_0 1 rfl rfl)
theorem dX19_init_4 : decode cX19_init 4 = .ok (.aload_n 0, 1) := dk_42 (dk_at dksX19_init_0 4 rfl rfl)
theorem dX19_init_5 : decode cX19_init 5 = .ok (.sipush 455, 3) := dk_17 1 199 (dk_at dksX19_init_0 5 rfl rfl)
theorem dX19_init_8 : decode cX19_init 8 = .ok (.newarray .int, 2) := dk_188_10 (dk_at dksX19_init_0 8 rfl rfl)
theorem dX19_init_10 : decode cX19_init 10 = .ok (.putfield 9, 3) := dk_181 0 9 (dk_at dksX19_init_0 10 rfl rfl)
theorem dX19_init_13 : decode cX19_init 13 = .ok (.aload_n 0, 1) := dk_42 (dk_at dksX19_init_0 13 rfl rfl)
theorem dX19_init_14 : decode cX19_init 14 = .ok (.sipush 4096, 3) := dk_17 16 0 (dk_at dksX19_init_0 14 rfl rfl)
theorem dX19_init_17 : decode cX19_init 17 = .ok (.newarray .int, 2) := dk_188_10 (dk_at dksX19_init_0 17 rfl rfl)
theorem dX19_init_19 : decode cX19_init 19 = .ok (.putfield 15, 3) := dk_181 0 15 (dk_at dksX19_init_0 19 rfl rfl)
theorem dX19_init_22 : decode cX19_init 22 = .ok (.aload_n 0, 1) := dk_42 (dk_at dksX19_init_0 22 rfl rfl)
theorem dX19_init_23 : decode cX19_init 23 = .ok (.sipush 455, 3) := dk_17 1 199 (dk_at dksX19_init_1 0 rfl rfl)
theorem dX19_init_26 : decode cX19_init 26 = .ok (.bipush 14, 2) := dk_16 14 (dk_at dksX19_init_1 3 rfl rfl)
theorem dX19_init_28 : decode cX19_init 28 = .ok (.invokestatic 18, 3) := dk_184 0 18 (dk_at dksX19_init_1 5 rfl rfl)
theorem dX19_init_31 : decode cX19_init 31 = .ok (.putfield 22, 3) := dk_181 0 22 (dk_at dksX19_init_1 8 rfl rfl)
theorem dX19_init_34 : decode cX19_init 34 = .ok (.aload_n 0, 1) := dk_42 (dk_at dksX19_init_1 11 rfl rfl)
theorem dX19_init_35 : decode cX19_init 35 = .ok (.sipush 455, 3) := dk_17 1 199 (dk_at dksX19_init_1 12 rfl rfl)
theorem dX19_init_38 : decode cX19_init 38 = .ok (.bipush 14, 2) := dk_16 14 (dk_at dksX19_init_1 15 rfl rfl)
theorem dX19_init_40 : decode cX19_init 40 = .ok (.invokestatic 18, 3) := dk_184 0 18 (dk_at dksX19_init_1 17 rfl rfl)
theorem dX19_init_43 : decode cX19_init 43 = .ok (.putfield 26, 3) := dk_181 0 26 (dk_at dksX19_init_1 20 rfl rfl)
theorem dX19_init_46 : decode cX19_init 46 = .ok (.iconst 0, 1) := dk_3 (dk_at dksX19_init_1 23 rfl rfl)
theorem dX19_init_47 : decode cX19_init 47 = .ok (.istore_n 1, 1) := dk_60 (dk_at dksX19_init_2 0 rfl rfl)
theorem dX19_init_48 : decode cX19_init 48 = .ok (.iload_n 1, 1) := dk_27 (dk_at dksX19_init_2 1 rfl rfl)
theorem dX19_init_49 : decode cX19_init 49 = .ok (.sipush 4096, 3) := dk_17 16 0 (dk_at dksX19_init_2 2 rfl rfl)
theorem dX19_init_52 : decode cX19_init 52 = .ok (.if_icmp .ge 16, 3) := dk_162 0 16 (dk_at dksX19_init_2 5 rfl rfl)
theorem dX19_init_55 : decode cX19_init 55 = .ok (.aload_n 0, 1) := dk_42 (dk_at dksX19_init_2 8 rfl rfl)
theorem dX19_init_56 : decode cX19_init 56 = .ok (.getfield 15, 3) := dk_180 0 15 (dk_at dksX19_init_2 9 rfl rfl)
theorem dX19_init_59 : decode cX19_init 59 = .ok (.iload_n 1, 1) := dk_27 (dk_at dksX19_init_2 12 rfl rfl)
theorem dX19_init_60 : decode cX19_init 60 = .ok (.iconst (-1), 1) := dk_2 (dk_at dksX19_init_2 13 rfl rfl)
theorem dX19_init_61 : decode cX19_init 61 = .ok (.iastore, 1) := dk_79 (dk_at dksX19_init_2 14 rfl rfl)
theorem dX19_init_62 : decode cX19_init 62 = .ok (.iinc 1 1, 3) := dk_132 1 1 (dk_at dksX19_init_2 15 rfl rfl)
theorem dX19_init_65 : decode cX19_init 65 = .ok (.goto (-17), 3) := dk_167 255 239 (dk_at dksX19_init_2 18 rfl rfl)
theorem dX19_init_68 : decode cX19_init 68 = .ok (.return_, 1) := dk_177 (dk_at dksX19_init_2 21 rfl rfl)
abbrev cX19_clear : ByteArray := prog_24_method_2_code
def yX19_clear : MethodName := ⟨RX19, "clear", "()V"⟩
def dkwX19_clear_1 : List UInt8 := [132, 1, 1, 167, 255, 233, 42, 3, 181, 0, 29, 177]
abbrev dktX19_clear_1 : List UInt8 := dkwX19_clear_1 ++ []
def dkwX19_clear_0 : List UInt8 := [3, 60, 27, 42, 180, 0, 29, 162, 0, 21, 42, 180, 0, 15, 42, 180, 0, 9, 27, 46, 2, 79]
abbrev dktX19_clear_0 : List UInt8 := dkwX19_clear_0 ++ dktX19_clear_1
theorem dksX19_clear_0 : cX19_clear.data.toList.drop 0 = dktX19_clear_0 := by decide +kernel
theorem dksX19_clear_1 : cX19_clear.data.toList.drop 22 = dktX19_clear_1 := dk_seg dksX19_clear_0 22 rfl rfl
theorem dX19_clear_0 : decode cX19_clear 0 = .ok (.iconst 0, 1) := dk_3 (dk_at dksX19_clear_0 0 rfl rfl)
theorem dX19_clear_1 : decode cX19_clear 1 = .ok (.istore_n 1, 1) := dk_60 (dk_at dksX19_clear_0 1 rfl rfl)
theorem dX19_clear_2 : decode cX19_clear 2 = .ok (.iload_n 1, 1) := dk_27 (dk_at dksX19_clear_0 2 rfl rfl)
theorem dX19_clear_3 : decode cX19_clear 3 = .ok (.aload_n 0, 1) := dk_42 (dk_at dksX19_clear_0 3 rfl rfl)
theorem dX19_clear_4 : decode cX19_clear 4 = .ok (.getfield 29, 3) := dk_180 0 29 (dk_at dksX19_clear_0 4 rfl rfl)
theorem dX19_clear_7 : decode cX19_clear 7 = .ok (.if_icmp .ge 21, 3) := dk_162 0 21 (dk_at dksX19_clear_0 7 rfl rfl)
theorem dX19_clear_10 : decode cX19_clear 10 = .ok (.aload_n 0, 1) := dk_42 (dk_at dksX19_clear_0 10 rfl rfl)
theorem dX19_clear_11 : decode cX19_clear 11 = .ok (.getfield 15, 3) := dk_180 0 15 (dk_at dksX19_clear_0 11 rfl rfl)
theorem dX19_clear_14 : decode cX19_clear 14 = .ok (.aload_n 0, 1) := dk_42 (dk_at dksX19_clear_0 14 rfl rfl)
theorem dX19_clear_15 : decode cX19_clear 15 = .ok (.getfield 9, 3) := dk_180 0 9 (dk_at dksX19_clear_0 15 rfl rfl)
theorem dX19_clear_18 : decode cX19_clear 18 = .ok (.iload_n 1, 1) := dk_27 (dk_at dksX19_clear_0 18 rfl rfl)
theorem dX19_clear_19 : decode cX19_clear 19 = .ok (.iaload, 1) := dk_46 (dk_at dksX19_clear_0 19 rfl rfl)
theorem dX19_clear_20 : decode cX19_clear 20 = .ok (.iconst (-1), 1) := dk_2 (dk_at dksX19_clear_0 20 rfl rfl)
theorem dX19_clear_21 : decode cX19_clear 21 = .ok (.iastore, 1) := dk_79 (dk_at dksX19_clear_0 21 rfl rfl)
theorem dX19_clear_22 : decode cX19_clear 22 = .ok (.iinc 1 1, 3) := dk_132 1 1 (dk_at dksX19_clear_1 0 rfl rfl)
theorem dX19_clear_25 : decode cX19_clear 25 = .ok (.goto (-23), 3) := dk_167 255 233 (dk_at dksX19_clear_1 3 rfl rfl)
theorem dX19_clear_28 : decode cX19_clear 28 = .ok (.aload_n 0, 1) := dk_42 (dk_at dksX19_clear_1 6 rfl rfl)
theorem dX19_clear_29 : decode cX19_clear 29 = .ok (.iconst 0, 1) := dk_3 (dk_at dksX19_clear_1 7 rfl rfl)
theorem dX19_clear_30 : decode cX19_clear 30 = .ok (.putfield 29, 3) := dk_181 0 29 (dk_at dksX19_clear_1 8 rfl rfl)
theorem dX19_clear_33 : decode cX19_clear 33 = .ok (.return_, 1) := dk_177 (dk_at dksX19_clear_1 11 rfl rfl)
abbrev cX19_place : ByteArray := prog_24_method_3_code
def yX19_place : MethodName := ⟨RX19, "place", "(I)I"⟩
def dkwX19_place_3 : List UInt8 := [172]
abbrev dktX19_place_3 : List UInt8 := dkwX19_place_3 ++ []
def dkwX19_place_2 : List UInt8 := [180, 0, 29, 50, 10, 182, 0, 33, 42, 89, 180, 0, 29, 4, 96, 181, 0, 29, 42, 180, 0, 15, 27, 46]
abbrev dktX19_place_2 : List UInt8 := dkwX19_place_2 ++ dktX19_place_3
def dkwX19_place_1 : List UInt8 := [180, 0, 29, 27, 79, 42, 180, 0, 22, 42, 180, 0, 29, 50, 9, 182, 0, 33, 42, 180, 0, 26, 42]
abbrev dktX19_place_1 : List UInt8 := dkwX19_place_1 ++ dktX19_place_2
def dkwX19_place_0 : List UInt8 := [42, 180, 0, 15, 27, 46, 156, 0, 59, 42, 180, 0, 15, 27, 42, 180, 0, 29, 79, 42, 180, 0, 9, 42]
abbrev dktX19_place_0 : List UInt8 := dkwX19_place_0 ++ dktX19_place_1
theorem dksX19_place_0 : cX19_place.data.toList.drop 0 = dktX19_place_0 := by decide +kernel
theorem dksX19_place_1 : cX19_place.data.toList.drop 24 = dktX19_place_1 := dk_seg dksX19_place_0 24 rfl rfl
theorem dksX19_place_2 : cX19_place.data.toList.drop 47 = dktX19_place_2 := dk_seg dksX19_place_1 23 rfl rfl
theorem dksX19_place_3 : cX19_place.data.toList.drop 71 = dktX19_place_3 := dk_seg dksX19_place_2 24 rfl rfl
theorem dX19_place_0 : decode cX19_place 0 = .ok (.aload_n 0, 1) := dk_42 (dk_at dksX19_place_0 0 rfl rfl)
theorem dX19_place_1 : decode cX19_place 1 = .ok (.getfield 15, 3) := dk_180 0 15 (dk_at dksX19_place_0 1 rfl rfl)
theorem dX19_place_4 : decode cX19_place 4 = .ok (.iload_n 1, 1) := dk_27 (dk_at dksX19_place_0 4 rfl rfl)
theorem dX19_place_5 : decode cX19_place 5 = .ok (.iaload, 1) := dk_46 (dk_at dksX19_place_0 5 rfl rfl)
theorem dX19_place_6 : decode cX19_place 6 = .ok (.ifCond .ge 59, 3) := dk_156 0 59 (dk_at dksX19_place_0 6 rfl rfl)
theorem dX19_place_9 : decode cX19_place 9 = .ok (.aload_n 0, 1) := dk_42 (dk_at dksX19_place_0 9 rfl rfl)
theorem dX19_place_10 : decode cX19_place 10 = .ok (.getfield 15, 3) := dk_180 0 15 (dk_at dksX19_place_0 10 rfl rfl)
theorem dX19_place_13 : decode cX19_place 13 = .ok (.iload_n 1, 1) := dk_27 (dk_at dksX19_place_0 13 rfl rfl)
theorem dX19_place_14 : decode cX19_place 14 = .ok (.aload_n 0, 1) := dk_42 (dk_at dksX19_place_0 14 rfl rfl)
theorem dX19_place_15 : decode cX19_place 15 = .ok (.getfield 29, 3) := dk_180 0 29 (dk_at dksX19_place_0 15 rfl rfl)
theorem dX19_place_18 : decode cX19_place 18 = .ok (.iastore, 1) := dk_79 (dk_at dksX19_place_0 18 rfl rfl)
theorem dX19_place_19 : decode cX19_place 19 = .ok (.aload_n 0, 1) := dk_42 (dk_at dksX19_place_0 19 rfl rfl)
theorem dX19_place_20 : decode cX19_place 20 = .ok (.getfield 9, 3) := dk_180 0 9 (dk_at dksX19_place_0 20 rfl rfl)
theorem dX19_place_23 : decode cX19_place 23 = .ok (.aload_n 0, 1) := dk_42 (dk_at dksX19_place_0 23 rfl rfl)
theorem dX19_place_24 : decode cX19_place 24 = .ok (.getfield 29, 3) := dk_180 0 29 (dk_at dksX19_place_1 0 rfl rfl)
theorem dX19_place_27 : decode cX19_place 27 = .ok (.iload_n 1, 1) := dk_27 (dk_at dksX19_place_1 3 rfl rfl)
theorem dX19_place_28 : decode cX19_place 28 = .ok (.iastore, 1) := dk_79 (dk_at dksX19_place_1 4 rfl rfl)
theorem dX19_place_29 : decode cX19_place 29 = .ok (.aload_n 0, 1) := dk_42 (dk_at dksX19_place_1 5 rfl rfl)
theorem dX19_place_30 : decode cX19_place 30 = .ok (.getfield 22, 3) := dk_180 0 22 (dk_at dksX19_place_1 6 rfl rfl)
theorem dX19_place_33 : decode cX19_place 33 = .ok (.aload_n 0, 1) := dk_42 (dk_at dksX19_place_1 9 rfl rfl)
theorem dX19_place_34 : decode cX19_place 34 = .ok (.getfield 29, 3) := dk_180 0 29 (dk_at dksX19_place_1 10 rfl rfl)
theorem dX19_place_37 : decode cX19_place 37 = .ok (.aaload, 1) := dk_50 (dk_at dksX19_place_1 13 rfl rfl)
theorem dX19_place_38 : decode cX19_place 38 = .ok (.lconst 0, 1) := dk_9 (dk_at dksX19_place_1 14 rfl rfl)
theorem dX19_place_39 : decode cX19_place 39 = .ok (.invokevirtual 33, 3) := dk_182 0 33 (dk_at dksX19_place_1 15 rfl rfl)
theorem dX19_place_42 : decode cX19_place 42 = .ok (.aload_n 0, 1) := dk_42 (dk_at dksX19_place_1 18 rfl rfl)
theorem dX19_place_43 : decode cX19_place 43 = .ok (.getfield 26, 3) := dk_180 0 26 (dk_at dksX19_place_1 19 rfl rfl)
theorem dX19_place_46 : decode cX19_place 46 = .ok (.aload_n 0, 1) := dk_42 (dk_at dksX19_place_1 22 rfl rfl)
theorem dX19_place_47 : decode cX19_place 47 = .ok (.getfield 29, 3) := dk_180 0 29 (dk_at dksX19_place_2 0 rfl rfl)
theorem dX19_place_50 : decode cX19_place 50 = .ok (.aaload, 1) := dk_50 (dk_at dksX19_place_2 3 rfl rfl)
theorem dX19_place_51 : decode cX19_place 51 = .ok (.lconst 1, 1) := dk_10 (dk_at dksX19_place_2 4 rfl rfl)
theorem dX19_place_52 : decode cX19_place 52 = .ok (.invokevirtual 33, 3) := dk_182 0 33 (dk_at dksX19_place_2 5 rfl rfl)
theorem dX19_place_55 : decode cX19_place 55 = .ok (.aload_n 0, 1) := dk_42 (dk_at dksX19_place_2 8 rfl rfl)
theorem dX19_place_56 : decode cX19_place 56 = .ok (.dup, 1) := dk_89 (dk_at dksX19_place_2 9 rfl rfl)
theorem dX19_place_57 : decode cX19_place 57 = .ok (.getfield 29, 3) := dk_180 0 29 (dk_at dksX19_place_2 10 rfl rfl)
theorem dX19_place_60 : decode cX19_place 60 = .ok (.iconst 1, 1) := dk_4 (dk_at dksX19_place_2 13 rfl rfl)
theorem dX19_place_61 : decode cX19_place 61 = .ok (.iadd, 1) := dk_96 (dk_at dksX19_place_2 14 rfl rfl)
theorem dX19_place_62 : decode cX19_place 62 = .ok (.putfield 29, 3) := dk_181 0 29 (dk_at dksX19_place_2 15 rfl rfl)
theorem dX19_place_65 : decode cX19_place 65 = .ok (.aload_n 0, 1) := dk_42 (dk_at dksX19_place_2 18 rfl rfl)
theorem dX19_place_66 : decode cX19_place 66 = .ok (.getfield 15, 3) := dk_180 0 15 (dk_at dksX19_place_2 19 rfl rfl)
theorem dX19_place_69 : decode cX19_place 69 = .ok (.iload_n 1, 1) := dk_27 (dk_at dksX19_place_2 22 rfl rfl)
theorem dX19_place_70 : decode cX19_place 70 = .ok (.iaload, 1) := dk_46 (dk_at dksX19_place_2 23 rfl rfl)
theorem dX19_place_71 : decode cX19_place 71 = .ok (.ireturn, 1) := dk_172 (dk_at dksX19_place_3 0 rfl rfl)
abbrev cX19_terms : ByteArray := prog_24_method_4_code
def yX19_terms : MethodName := ⟨RX19, "terms", "()I"⟩
def dkwX19_terms_1 : List UInt8 := [154, 0, 7, 3, 167, 0, 4, 4, 96, 60, 132, 2, 1, 167, 255, 225, 27, 172]
abbrev dktX19_terms_1 : List UInt8 := dkwX19_terms_1 ++ []
def dkwX19_terms_0 : List UInt8 := [3, 60, 3, 61, 28, 42, 180, 0, 29, 162, 0, 29, 27, 42, 180, 0, 22, 28, 50, 180, 0, 39]
abbrev dktX19_terms_0 : List UInt8 := dkwX19_terms_0 ++ dktX19_terms_1
theorem dksX19_terms_0 : cX19_terms.data.toList.drop 0 = dktX19_terms_0 := by decide +kernel
theorem dksX19_terms_1 : cX19_terms.data.toList.drop 22 = dktX19_terms_1 := dk_seg dksX19_terms_0 22 rfl rfl
theorem dX19_terms_0 : decode cX19_terms 0 = .ok (.iconst 0, 1) := dk_3 (dk_at dksX19_terms_0 0 rfl rfl)
theorem dX19_terms_1 : decode cX19_terms 1 = .ok (.istore_n 1, 1) := dk_60 (dk_at dksX19_terms_0 1 rfl rfl)
theorem dX19_terms_2 : decode cX19_terms 2 = .ok (.iconst 0, 1) := dk_3 (dk_at dksX19_terms_0 2 rfl rfl)
theorem dX19_terms_3 : decode cX19_terms 3 = .ok (.istore_n 2, 1) := dk_61 (dk_at dksX19_terms_0 3 rfl rfl)
theorem dX19_terms_4 : decode cX19_terms 4 = .ok (.iload_n 2, 1) := dk_28 (dk_at dksX19_terms_0 4 rfl rfl)
theorem dX19_terms_5 : decode cX19_terms 5 = .ok (.aload_n 0, 1) := dk_42 (dk_at dksX19_terms_0 5 rfl rfl)
theorem dX19_terms_6 : decode cX19_terms 6 = .ok (.getfield 29, 3) := dk_180 0 29 (dk_at dksX19_terms_0 6 rfl rfl)
theorem dX19_terms_9 : decode cX19_terms 9 = .ok (.if_icmp .ge 29, 3) := dk_162 0 29 (dk_at dksX19_terms_0 9 rfl rfl)
theorem dX19_terms_12 : decode cX19_terms 12 = .ok (.iload_n 1, 1) := dk_27 (dk_at dksX19_terms_0 12 rfl rfl)
theorem dX19_terms_13 : decode cX19_terms 13 = .ok (.aload_n 0, 1) := dk_42 (dk_at dksX19_terms_0 13 rfl rfl)
theorem dX19_terms_14 : decode cX19_terms 14 = .ok (.getfield 22, 3) := dk_180 0 22 (dk_at dksX19_terms_0 14 rfl rfl)
theorem dX19_terms_17 : decode cX19_terms 17 = .ok (.iload_n 2, 1) := dk_28 (dk_at dksX19_terms_0 17 rfl rfl)
theorem dX19_terms_18 : decode cX19_terms 18 = .ok (.aaload, 1) := dk_50 (dk_at dksX19_terms_0 18 rfl rfl)
theorem dX19_terms_19 : decode cX19_terms 19 = .ok (.getfield 39, 3) := dk_180 0 39 (dk_at dksX19_terms_0 19 rfl rfl)
theorem dX19_terms_22 : decode cX19_terms 22 = .ok (.ifCond .ne 7, 3) := dk_154 0 7 (dk_at dksX19_terms_1 0 rfl rfl)
theorem dX19_terms_25 : decode cX19_terms 25 = .ok (.iconst 0, 1) := dk_3 (dk_at dksX19_terms_1 3 rfl rfl)
theorem dX19_terms_26 : decode cX19_terms 26 = .ok (.goto 4, 3) := dk_167 0 4 (dk_at dksX19_terms_1 4 rfl rfl)
theorem dX19_terms_29 : decode cX19_terms 29 = .ok (.iconst 1, 1) := dk_4 (dk_at dksX19_terms_1 7 rfl rfl)
theorem dX19_terms_30 : decode cX19_terms 30 = .ok (.iadd, 1) := dk_96 (dk_at dksX19_terms_1 8 rfl rfl)
theorem dX19_terms_31 : decode cX19_terms 31 = .ok (.istore_n 1, 1) := dk_60 (dk_at dksX19_terms_1 9 rfl rfl)
theorem dX19_terms_32 : decode cX19_terms 32 = .ok (.iinc 2 1, 3) := dk_132 2 1 (dk_at dksX19_terms_1 10 rfl rfl)
theorem dX19_terms_35 : decode cX19_terms 35 = .ok (.goto (-31), 3) := dk_167 255 225 (dk_at dksX19_terms_1 13 rfl rfl)
theorem dX19_terms_38 : decode cX19_terms 38 = .ok (.iload_n 1, 1) := dk_27 (dk_at dksX19_terms_1 16 rfl rfl)
theorem dX19_terms_39 : decode cX19_terms 39 = .ok (.ireturn, 1) := dk_172 (dk_at dksX19_terms_1 17 rfl rfl)
abbrev cX19_to : ByteArray := prog_24_method_6_code
def yX19_to : MethodName := ⟨RX19, "to", "(LIdealCourtModel$Poly;)V"⟩
def dkwX19_to_7 : List UInt8 := [132, 2, 1, 167, 255, 95, 177]
abbrev dktX19_to_7 : List UInt8 := dkwX19_to_7 ++ []
def dkwX19_to_6 : List UInt8 := [180, 0, 59, 29, 50, 42, 180, 0, 26, 28, 50, 182, 0, 55, 43, 89, 180, 0, 46, 4, 96, 181, 0, 46]
abbrev dktX19_to_6 : List UInt8 := dkwX19_to_6 ++ dktX19_to_7
def dkwX19_to_5 : List UInt8 := [180, 0, 9, 28, 46, 79, 43, 180, 0, 54, 29, 50, 42, 180, 0, 22, 28, 50, 182, 0, 55, 43]
abbrev dktX19_to_5 : List UInt8 := dkwX19_to_5 ++ dktX19_to_6
def dkwX19_to_4 : List UInt8 := [43, 180, 0, 59, 29, 4, 100, 50, 182, 0, 55, 132, 3, 255, 167, 255, 181, 43, 180, 0, 49, 29, 42]
abbrev dktX19_to_4 : List UInt8 := dkwX19_to_4 ++ dktX19_to_5
def dkwX19_to_3 : List UInt8 := [79, 43, 180, 0, 54, 29, 50, 43, 180, 0, 54, 29, 4, 100, 50, 182, 0, 55, 43, 180, 0, 59, 29, 50]
abbrev dktX19_to_3 : List UInt8 := dkwX19_to_3 ++ dktX19_to_4
def dkwX19_to_2 : List UInt8 := [180, 0, 9, 28, 46, 184, 0, 50, 156, 0, 57, 43, 180, 0, 49, 29, 43, 180, 0, 49, 29, 4, 100, 46]
abbrev dktX19_to_2 : List UInt8 := dkwX19_to_2 ++ dktX19_to_3
def dkwX19_to_1 : List UInt8 := [154, 0, 6, 167, 0, 138, 43, 180, 0, 46, 62, 29, 158, 0, 77, 43, 180, 0, 49, 29, 4, 100, 46, 42]
abbrev dktX19_to_1 : List UInt8 := dkwX19_to_1 ++ dktX19_to_2
def dkwX19_to_0 : List UInt8 := [43, 3, 181, 0, 46, 3, 61, 28, 42, 180, 0, 29, 162, 0, 159, 42, 180, 0, 22, 28, 50, 180, 0, 39]
abbrev dktX19_to_0 : List UInt8 := dkwX19_to_0 ++ dktX19_to_1
theorem dksX19_to_0 : cX19_to.data.toList.drop 0 = dktX19_to_0 := by decide +kernel
theorem dksX19_to_1 : cX19_to.data.toList.drop 24 = dktX19_to_1 := dk_seg dksX19_to_0 24 rfl rfl
theorem dksX19_to_2 : cX19_to.data.toList.drop 48 = dktX19_to_2 := dk_seg dksX19_to_1 24 rfl rfl
theorem dksX19_to_3 : cX19_to.data.toList.drop 72 = dktX19_to_3 := dk_seg dksX19_to_2 24 rfl rfl
theorem dksX19_to_4 : cX19_to.data.toList.drop 96 = dktX19_to_4 := dk_seg dksX19_to_3 24 rfl rfl
theorem dksX19_to_5 : cX19_to.data.toList.drop 119 = dktX19_to_5 := dk_seg dksX19_to_4 23 rfl rfl
theorem dksX19_to_6 : cX19_to.data.toList.drop 141 = dktX19_to_6 := dk_seg dksX19_to_5 22 rfl rfl
theorem dksX19_to_7 : cX19_to.data.toList.drop 165 = dktX19_to_7 := dk_seg dksX19_to_6 24 rfl rfl
theorem dX19_to_0 : decode cX19_to 0 = .ok (.aload_n 1, 1) := dk_43 (dk_at dksX19_to_0 0 rfl rfl)
theorem dX19_to_1 : decode cX19_to 1 = .ok (.iconst 0, 1) := dk_3 (dk_at dksX19_to_0 1 rfl rfl)
theorem dX19_to_2 : decode cX19_to 2 = .ok (.putfield 46, 3) := dk_181 0 46 (dk_at dksX19_to_0 2 rfl rfl)
theorem dX19_to_5 : decode cX19_to 5 = .ok (.iconst 0, 1) := dk_3 (dk_at dksX19_to_0 5 rfl rfl)
theorem dX19_to_6 : decode cX19_to 6 = .ok (.istore_n 2, 1) := dk_61 (dk_at dksX19_to_0 6 rfl rfl)
theorem dX19_to_7 : decode cX19_to 7 = .ok (.iload_n 2, 1) := dk_28 (dk_at dksX19_to_0 7 rfl rfl)
theorem dX19_to_8 : decode cX19_to 8 = .ok (.aload_n 0, 1) := dk_42 (dk_at dksX19_to_0 8 rfl rfl)
theorem dX19_to_9 : decode cX19_to 9 = .ok (.getfield 29, 3) := dk_180 0 29 (dk_at dksX19_to_0 9 rfl rfl)
theorem dX19_to_12 : decode cX19_to 12 = .ok (.if_icmp .ge 159, 3) := dk_162 0 159 (dk_at dksX19_to_0 12 rfl rfl)
theorem dX19_to_15 : decode cX19_to 15 = .ok (.aload_n 0, 1) := dk_42 (dk_at dksX19_to_0 15 rfl rfl)
theorem dX19_to_16 : decode cX19_to 16 = .ok (.getfield 22, 3) := dk_180 0 22 (dk_at dksX19_to_0 16 rfl rfl)
theorem dX19_to_19 : decode cX19_to 19 = .ok (.iload_n 2, 1) := dk_28 (dk_at dksX19_to_0 19 rfl rfl)
theorem dX19_to_20 : decode cX19_to 20 = .ok (.aaload, 1) := dk_50 (dk_at dksX19_to_0 20 rfl rfl)
theorem dX19_to_21 : decode cX19_to 21 = .ok (.getfield 39, 3) := dk_180 0 39 (dk_at dksX19_to_0 21 rfl rfl)
theorem dX19_to_24 : decode cX19_to 24 = .ok (.ifCond .ne 6, 3) := dk_154 0 6 (dk_at dksX19_to_1 0 rfl rfl)
theorem dX19_to_27 : decode cX19_to 27 = .ok (.goto 138, 3) := dk_167 0 138 (dk_at dksX19_to_1 3 rfl rfl)
theorem dX19_to_30 : decode cX19_to 30 = .ok (.aload_n 1, 1) := dk_43 (dk_at dksX19_to_1 6 rfl rfl)
theorem dX19_to_31 : decode cX19_to 31 = .ok (.getfield 46, 3) := dk_180 0 46 (dk_at dksX19_to_1 7 rfl rfl)
theorem dX19_to_34 : decode cX19_to 34 = .ok (.istore_n 3, 1) := dk_62 (dk_at dksX19_to_1 10 rfl rfl)
theorem dX19_to_35 : decode cX19_to 35 = .ok (.iload_n 3, 1) := dk_29 (dk_at dksX19_to_1 11 rfl rfl)
theorem dX19_to_36 : decode cX19_to 36 = .ok (.ifCond .le 77, 3) := dk_158 0 77 (dk_at dksX19_to_1 12 rfl rfl)
theorem dX19_to_39 : decode cX19_to 39 = .ok (.aload_n 1, 1) := dk_43 (dk_at dksX19_to_1 15 rfl rfl)
theorem dX19_to_40 : decode cX19_to 40 = .ok (.getfield 49, 3) := dk_180 0 49 (dk_at dksX19_to_1 16 rfl rfl)
theorem dX19_to_43 : decode cX19_to 43 = .ok (.iload_n 3, 1) := dk_29 (dk_at dksX19_to_1 19 rfl rfl)
theorem dX19_to_44 : decode cX19_to 44 = .ok (.iconst 1, 1) := dk_4 (dk_at dksX19_to_1 20 rfl rfl)
theorem dX19_to_45 : decode cX19_to 45 = .ok (.isub, 1) := dk_100 (dk_at dksX19_to_1 21 rfl rfl)
theorem dX19_to_46 : decode cX19_to 46 = .ok (.iaload, 1) := dk_46 (dk_at dksX19_to_1 22 rfl rfl)
theorem dX19_to_47 : decode cX19_to 47 = .ok (.aload_n 0, 1) := dk_42 (dk_at dksX19_to_1 23 rfl rfl)
theorem dX19_to_48 : decode cX19_to 48 = .ok (.getfield 9, 3) := dk_180 0 9 (dk_at dksX19_to_2 0 rfl rfl)
theorem dX19_to_51 : decode cX19_to 51 = .ok (.iload_n 2, 1) := dk_28 (dk_at dksX19_to_2 3 rfl rfl)
theorem dX19_to_52 : decode cX19_to 52 = .ok (.iaload, 1) := dk_46 (dk_at dksX19_to_2 4 rfl rfl)
theorem dX19_to_53 : decode cX19_to 53 = .ok (.invokestatic 50, 3) := dk_184 0 50 (dk_at dksX19_to_2 5 rfl rfl)
theorem dX19_to_56 : decode cX19_to 56 = .ok (.ifCond .ge 57, 3) := dk_156 0 57 (dk_at dksX19_to_2 8 rfl rfl)
theorem dX19_to_59 : decode cX19_to 59 = .ok (.aload_n 1, 1) := dk_43 (dk_at dksX19_to_2 11 rfl rfl)
theorem dX19_to_60 : decode cX19_to 60 = .ok (.getfield 49, 3) := dk_180 0 49 (dk_at dksX19_to_2 12 rfl rfl)
theorem dX19_to_63 : decode cX19_to 63 = .ok (.iload_n 3, 1) := dk_29 (dk_at dksX19_to_2 15 rfl rfl)
theorem dX19_to_64 : decode cX19_to 64 = .ok (.aload_n 1, 1) := dk_43 (dk_at dksX19_to_2 16 rfl rfl)
theorem dX19_to_65 : decode cX19_to 65 = .ok (.getfield 49, 3) := dk_180 0 49 (dk_at dksX19_to_2 17 rfl rfl)
theorem dX19_to_68 : decode cX19_to 68 = .ok (.iload_n 3, 1) := dk_29 (dk_at dksX19_to_2 20 rfl rfl)
theorem dX19_to_69 : decode cX19_to 69 = .ok (.iconst 1, 1) := dk_4 (dk_at dksX19_to_2 21 rfl rfl)
theorem dX19_to_70 : decode cX19_to 70 = .ok (.isub, 1) := dk_100 (dk_at dksX19_to_2 22 rfl rfl)
theorem dX19_to_71 : decode cX19_to 71 = .ok (.iaload, 1) := dk_46 (dk_at dksX19_to_2 23 rfl rfl)
theorem dX19_to_72 : decode cX19_to 72 = .ok (.iastore, 1) := dk_79 (dk_at dksX19_to_3 0 rfl rfl)
theorem dX19_to_73 : decode cX19_to 73 = .ok (.aload_n 1, 1) := dk_43 (dk_at dksX19_to_3 1 rfl rfl)
theorem dX19_to_74 : decode cX19_to 74 = .ok (.getfield 54, 3) := dk_180 0 54 (dk_at dksX19_to_3 2 rfl rfl)
theorem dX19_to_77 : decode cX19_to 77 = .ok (.iload_n 3, 1) := dk_29 (dk_at dksX19_to_3 5 rfl rfl)
theorem dX19_to_78 : decode cX19_to 78 = .ok (.aaload, 1) := dk_50 (dk_at dksX19_to_3 6 rfl rfl)
theorem dX19_to_79 : decode cX19_to 79 = .ok (.aload_n 1, 1) := dk_43 (dk_at dksX19_to_3 7 rfl rfl)
theorem dX19_to_80 : decode cX19_to 80 = .ok (.getfield 54, 3) := dk_180 0 54 (dk_at dksX19_to_3 8 rfl rfl)
theorem dX19_to_83 : decode cX19_to 83 = .ok (.iload_n 3, 1) := dk_29 (dk_at dksX19_to_3 11 rfl rfl)
theorem dX19_to_84 : decode cX19_to 84 = .ok (.iconst 1, 1) := dk_4 (dk_at dksX19_to_3 12 rfl rfl)
theorem dX19_to_85 : decode cX19_to 85 = .ok (.isub, 1) := dk_100 (dk_at dksX19_to_3 13 rfl rfl)
theorem dX19_to_86 : decode cX19_to 86 = .ok (.aaload, 1) := dk_50 (dk_at dksX19_to_3 14 rfl rfl)
theorem dX19_to_87 : decode cX19_to 87 = .ok (.invokevirtual 55, 3) := dk_182 0 55 (dk_at dksX19_to_3 15 rfl rfl)
theorem dX19_to_90 : decode cX19_to 90 = .ok (.aload_n 1, 1) := dk_43 (dk_at dksX19_to_3 18 rfl rfl)
theorem dX19_to_91 : decode cX19_to 91 = .ok (.getfield 59, 3) := dk_180 0 59 (dk_at dksX19_to_3 19 rfl rfl)
theorem dX19_to_94 : decode cX19_to 94 = .ok (.iload_n 3, 1) := dk_29 (dk_at dksX19_to_3 22 rfl rfl)
theorem dX19_to_95 : decode cX19_to 95 = .ok (.aaload, 1) := dk_50 (dk_at dksX19_to_3 23 rfl rfl)
theorem dX19_to_96 : decode cX19_to 96 = .ok (.aload_n 1, 1) := dk_43 (dk_at dksX19_to_4 0 rfl rfl)
theorem dX19_to_97 : decode cX19_to 97 = .ok (.getfield 59, 3) := dk_180 0 59 (dk_at dksX19_to_4 1 rfl rfl)
theorem dX19_to_100 : decode cX19_to 100 = .ok (.iload_n 3, 1) := dk_29 (dk_at dksX19_to_4 4 rfl rfl)
theorem dX19_to_101 : decode cX19_to 101 = .ok (.iconst 1, 1) := dk_4 (dk_at dksX19_to_4 5 rfl rfl)
theorem dX19_to_102 : decode cX19_to 102 = .ok (.isub, 1) := dk_100 (dk_at dksX19_to_4 6 rfl rfl)
theorem dX19_to_103 : decode cX19_to 103 = .ok (.aaload, 1) := dk_50 (dk_at dksX19_to_4 7 rfl rfl)
theorem dX19_to_104 : decode cX19_to 104 = .ok (.invokevirtual 55, 3) := dk_182 0 55 (dk_at dksX19_to_4 8 rfl rfl)
theorem dX19_to_107 : decode cX19_to 107 = .ok (.iinc 3 (-1), 3) := dk_132 3 255 (dk_at dksX19_to_4 11 rfl rfl)
theorem dX19_to_110 : decode cX19_to 110 = .ok (.goto (-75), 3) := dk_167 255 181 (dk_at dksX19_to_4 14 rfl rfl)
theorem dX19_to_113 : decode cX19_to 113 = .ok (.aload_n 1, 1) := dk_43 (dk_at dksX19_to_4 17 rfl rfl)
theorem dX19_to_114 : decode cX19_to 114 = .ok (.getfield 49, 3) := dk_180 0 49 (dk_at dksX19_to_4 18 rfl rfl)
theorem dX19_to_117 : decode cX19_to 117 = .ok (.iload_n 3, 1) := dk_29 (dk_at dksX19_to_4 21 rfl rfl)
theorem dX19_to_118 : decode cX19_to 118 = .ok (.aload_n 0, 1) := dk_42 (dk_at dksX19_to_4 22 rfl rfl)
theorem dX19_to_119 : decode cX19_to 119 = .ok (.getfield 9, 3) := dk_180 0 9 (dk_at dksX19_to_5 0 rfl rfl)
theorem dX19_to_122 : decode cX19_to 122 = .ok (.iload_n 2, 1) := dk_28 (dk_at dksX19_to_5 3 rfl rfl)
theorem dX19_to_123 : decode cX19_to 123 = .ok (.iaload, 1) := dk_46 (dk_at dksX19_to_5 4 rfl rfl)
theorem dX19_to_124 : decode cX19_to 124 = .ok (.iastore, 1) := dk_79 (dk_at dksX19_to_5 5 rfl rfl)
theorem dX19_to_125 : decode cX19_to 125 = .ok (.aload_n 1, 1) := dk_43 (dk_at dksX19_to_5 6 rfl rfl)
theorem dX19_to_126 : decode cX19_to 126 = .ok (.getfield 54, 3) := dk_180 0 54 (dk_at dksX19_to_5 7 rfl rfl)
theorem dX19_to_129 : decode cX19_to 129 = .ok (.iload_n 3, 1) := dk_29 (dk_at dksX19_to_5 10 rfl rfl)
theorem dX19_to_130 : decode cX19_to 130 = .ok (.aaload, 1) := dk_50 (dk_at dksX19_to_5 11 rfl rfl)
theorem dX19_to_131 : decode cX19_to 131 = .ok (.aload_n 0, 1) := dk_42 (dk_at dksX19_to_5 12 rfl rfl)
theorem dX19_to_132 : decode cX19_to 132 = .ok (.getfield 22, 3) := dk_180 0 22 (dk_at dksX19_to_5 13 rfl rfl)
theorem dX19_to_135 : decode cX19_to 135 = .ok (.iload_n 2, 1) := dk_28 (dk_at dksX19_to_5 16 rfl rfl)
theorem dX19_to_136 : decode cX19_to 136 = .ok (.aaload, 1) := dk_50 (dk_at dksX19_to_5 17 rfl rfl)
theorem dX19_to_137 : decode cX19_to 137 = .ok (.invokevirtual 55, 3) := dk_182 0 55 (dk_at dksX19_to_5 18 rfl rfl)
theorem dX19_to_140 : decode cX19_to 140 = .ok (.aload_n 1, 1) := dk_43 (dk_at dksX19_to_5 21 rfl rfl)
theorem dX19_to_141 : decode cX19_to 141 = .ok (.getfield 59, 3) := dk_180 0 59 (dk_at dksX19_to_6 0 rfl rfl)
theorem dX19_to_144 : decode cX19_to 144 = .ok (.iload_n 3, 1) := dk_29 (dk_at dksX19_to_6 3 rfl rfl)
theorem dX19_to_145 : decode cX19_to 145 = .ok (.aaload, 1) := dk_50 (dk_at dksX19_to_6 4 rfl rfl)
theorem dX19_to_146 : decode cX19_to 146 = .ok (.aload_n 0, 1) := dk_42 (dk_at dksX19_to_6 5 rfl rfl)
theorem dX19_to_147 : decode cX19_to 147 = .ok (.getfield 26, 3) := dk_180 0 26 (dk_at dksX19_to_6 6 rfl rfl)
theorem dX19_to_150 : decode cX19_to 150 = .ok (.iload_n 2, 1) := dk_28 (dk_at dksX19_to_6 9 rfl rfl)
theorem dX19_to_151 : decode cX19_to 151 = .ok (.aaload, 1) := dk_50 (dk_at dksX19_to_6 10 rfl rfl)
theorem dX19_to_152 : decode cX19_to 152 = .ok (.invokevirtual 55, 3) := dk_182 0 55 (dk_at dksX19_to_6 11 rfl rfl)
theorem dX19_to_155 : decode cX19_to 155 = .ok (.aload_n 1, 1) := dk_43 (dk_at dksX19_to_6 14 rfl rfl)
theorem dX19_to_156 : decode cX19_to 156 = .ok (.dup, 1) := dk_89 (dk_at dksX19_to_6 15 rfl rfl)
theorem dX19_to_157 : decode cX19_to 157 = .ok (.getfield 46, 3) := dk_180 0 46 (dk_at dksX19_to_6 16 rfl rfl)
theorem dX19_to_160 : decode cX19_to 160 = .ok (.iconst 1, 1) := dk_4 (dk_at dksX19_to_6 19 rfl rfl)
theorem dX19_to_161 : decode cX19_to 161 = .ok (.iadd, 1) := dk_96 (dk_at dksX19_to_6 20 rfl rfl)
theorem dX19_to_162 : decode cX19_to 162 = .ok (.putfield 46, 3) := dk_181 0 46 (dk_at dksX19_to_6 21 rfl rfl)
theorem dX19_to_165 : decode cX19_to 165 = .ok (.iinc 2 1, 3) := dk_132 2 1 (dk_at dksX19_to_7 0 rfl rfl)
theorem dX19_to_168 : decode cX19_to 168 = .ok (.goto (-161), 3) := dk_167 255 95 (dk_at dksX19_to_7 3 rfl rfl)
theorem dX19_to_171 : decode cX19_to 171 = .ok (.return_, 1) := dk_177 (dk_at dksX19_to_7 6 rfl rfl)
abbrev cX19_lead : ByteArray := prog_24_method_5_code
def yX19_lead : MethodName := ⟨RX19, "lead", "(II)I"⟩
def dkwX19_lead_2 : List UInt8 := [184, 0, 42, 158, 0, 6, 21, 4, 62, 132, 4, 1, 167, 255, 203, 29, 172]
abbrev dktX19_lead_2 : List UInt8 := dkwX19_lead_2 ++ []
def dkwX19_lead_1 : List UInt8 := [153, 0, 31, 29, 155, 0, 24, 42, 180, 0, 9, 21, 4, 46, 42, 180, 0, 9, 29, 46, 27, 28]
abbrev dktX19_lead_1 : List UInt8 := dkwX19_lead_1 ++ dktX19_lead_2
def dkwX19_lead_0 : List UInt8 := [2, 62, 3, 54, 4, 21, 4, 42, 180, 0, 29, 162, 0, 50, 42, 180, 0, 22, 21, 4, 50, 180, 0, 39]
abbrev dktX19_lead_0 : List UInt8 := dkwX19_lead_0 ++ dktX19_lead_1
theorem dksX19_lead_0 : cX19_lead.data.toList.drop 0 = dktX19_lead_0 := by decide +kernel
theorem dksX19_lead_1 : cX19_lead.data.toList.drop 24 = dktX19_lead_1 := dk_seg dksX19_lead_0 24 rfl rfl
theorem dksX19_lead_2 : cX19_lead.data.toList.drop 46 = dktX19_lead_2 := dk_seg dksX19_lead_1 22 rfl rfl
theorem dX19_lead_0 : decode cX19_lead 0 = .ok (.iconst (-1), 1) := dk_2 (dk_at dksX19_lead_0 0 rfl rfl)
theorem dX19_lead_1 : decode cX19_lead 1 = .ok (.istore_n 3, 1) := dk_62 (dk_at dksX19_lead_0 1 rfl rfl)
theorem dX19_lead_2 : decode cX19_lead 2 = .ok (.iconst 0, 1) := dk_3 (dk_at dksX19_lead_0 2 rfl rfl)
theorem dX19_lead_3 : decode cX19_lead 3 = .ok (.istore 4, 2) := dk_54 4 (dk_at dksX19_lead_0 3 rfl rfl)
theorem dX19_lead_5 : decode cX19_lead 5 = .ok (.iload 4, 2) := dk_21 4 (dk_at dksX19_lead_0 5 rfl rfl)
theorem dX19_lead_7 : decode cX19_lead 7 = .ok (.aload_n 0, 1) := dk_42 (dk_at dksX19_lead_0 7 rfl rfl)
theorem dX19_lead_8 : decode cX19_lead 8 = .ok (.getfield 29, 3) := dk_180 0 29 (dk_at dksX19_lead_0 8 rfl rfl)
theorem dX19_lead_11 : decode cX19_lead 11 = .ok (.if_icmp .ge 50, 3) := dk_162 0 50 (dk_at dksX19_lead_0 11 rfl rfl)
theorem dX19_lead_14 : decode cX19_lead 14 = .ok (.aload_n 0, 1) := dk_42 (dk_at dksX19_lead_0 14 rfl rfl)
theorem dX19_lead_15 : decode cX19_lead 15 = .ok (.getfield 22, 3) := dk_180 0 22 (dk_at dksX19_lead_0 15 rfl rfl)
theorem dX19_lead_18 : decode cX19_lead 18 = .ok (.iload 4, 2) := dk_21 4 (dk_at dksX19_lead_0 18 rfl rfl)
theorem dX19_lead_20 : decode cX19_lead 20 = .ok (.aaload, 1) := dk_50 (dk_at dksX19_lead_0 20 rfl rfl)
theorem dX19_lead_21 : decode cX19_lead 21 = .ok (.getfield 39, 3) := dk_180 0 39 (dk_at dksX19_lead_0 21 rfl rfl)
theorem dX19_lead_24 : decode cX19_lead 24 = .ok (.ifCond .eq 31, 3) := dk_153 0 31 (dk_at dksX19_lead_1 0 rfl rfl)
theorem dX19_lead_27 : decode cX19_lead 27 = .ok (.iload_n 3, 1) := dk_29 (dk_at dksX19_lead_1 3 rfl rfl)
theorem dX19_lead_28 : decode cX19_lead 28 = .ok (.ifCond .lt 24, 3) := dk_155 0 24 (dk_at dksX19_lead_1 4 rfl rfl)
theorem dX19_lead_31 : decode cX19_lead 31 = .ok (.aload_n 0, 1) := dk_42 (dk_at dksX19_lead_1 7 rfl rfl)
theorem dX19_lead_32 : decode cX19_lead 32 = .ok (.getfield 9, 3) := dk_180 0 9 (dk_at dksX19_lead_1 8 rfl rfl)
theorem dX19_lead_35 : decode cX19_lead 35 = .ok (.iload 4, 2) := dk_21 4 (dk_at dksX19_lead_1 11 rfl rfl)
theorem dX19_lead_37 : decode cX19_lead 37 = .ok (.iaload, 1) := dk_46 (dk_at dksX19_lead_1 13 rfl rfl)
theorem dX19_lead_38 : decode cX19_lead 38 = .ok (.aload_n 0, 1) := dk_42 (dk_at dksX19_lead_1 14 rfl rfl)
theorem dX19_lead_39 : decode cX19_lead 39 = .ok (.getfield 9, 3) := dk_180 0 9 (dk_at dksX19_lead_1 15 rfl rfl)
theorem dX19_lead_42 : decode cX19_lead 42 = .ok (.iload_n 3, 1) := dk_29 (dk_at dksX19_lead_1 18 rfl rfl)
theorem dX19_lead_43 : decode cX19_lead 43 = .ok (.iaload, 1) := dk_46 (dk_at dksX19_lead_1 19 rfl rfl)
theorem dX19_lead_44 : decode cX19_lead 44 = .ok (.iload_n 1, 1) := dk_27 (dk_at dksX19_lead_1 20 rfl rfl)
theorem dX19_lead_45 : decode cX19_lead 45 = .ok (.iload_n 2, 1) := dk_28 (dk_at dksX19_lead_1 21 rfl rfl)
theorem dX19_lead_46 : decode cX19_lead 46 = .ok (.invokestatic 42, 3) := dk_184 0 42 (dk_at dksX19_lead_2 0 rfl rfl)
theorem dX19_lead_49 : decode cX19_lead 49 = .ok (.ifCond .le 6, 3) := dk_158 0 6 (dk_at dksX19_lead_2 3 rfl rfl)
theorem dX19_lead_52 : decode cX19_lead 52 = .ok (.iload 4, 2) := dk_21 4 (dk_at dksX19_lead_2 6 rfl rfl)
theorem dX19_lead_54 : decode cX19_lead 54 = .ok (.istore_n 3, 1) := dk_62 (dk_at dksX19_lead_2 8 rfl rfl)
theorem dX19_lead_55 : decode cX19_lead 55 = .ok (.iinc 4 1, 3) := dk_132 4 1 (dk_at dksX19_lead_2 9 rfl rfl)
theorem dX19_lead_58 : decode cX19_lead 58 = .ok (.goto (-53), 3) := dk_167 255 203 (dk_at dksX19_lead_2 12 rfl rfl)
theorem dX19_lead_61 : decode cX19_lead 61 = .ok (.iload_n 3, 1) := dk_29 (dk_at dksX19_lead_2 15 rfl rfl)
theorem dX19_lead_62 : decode cX19_lead 62 = .ok (.ireturn, 1) := dk_172 (dk_at dksX19_lead_2 16 rfl rfl)
theorem q121 : (Jvm.Cond.initialized "IdealCourtModel$Sum") ∈ lw_all := lw_g (lw_at lw_m1 23 rfl) rfl
theorem q1663 : (Jvm.Cond.fieldLinkNest "IdealCourtModel$Sum" (39 : Nat) "IdealCourtModel$Num" "sign" "I" "IdealCourtModel") ∈ lw_tbl := lw_at lw_m7 125 rfl
theorem q1689 : (Jvm.Cond.fieldLinkNest "IdealCourtModel$Sum" (46 : Nat) "IdealCourtModel$Poly" "many" "I" "IdealCourtModel") ∈ lw_tbl := lw_at lw_m7 151 rfl
theorem q1692 : (Jvm.Cond.fieldLinkNest "IdealCourtModel$Sum" (49 : Nat) "IdealCourtModel$Poly" "code" "[I" "IdealCourtModel") ∈ lw_tbl := lw_at lw_m7 154 rfl
theorem q1695 : (Jvm.Cond.fieldLinkNest "IdealCourtModel$Sum" (54 : Nat) "IdealCourtModel$Poly" "num" "[LIdealCourtModel$Num;" "IdealCourtModel") ∈ lw_tbl := lw_at lw_m7 157 rfl
theorem q1698 : (Jvm.Cond.fieldLinkNest "IdealCourtModel$Sum" (59 : Nat) "IdealCourtModel$Poly" "den" "[LIdealCourtModel$Num;" "IdealCourtModel") ∈ lw_tbl := lw_at lw_m7 160 rfl
theorem q1711 : (Jvm.Cond.instantiable "IdealCourtModel$Sum" (5 : Nat)) ∈ lw_all := lw_g (lw_at lw_m7 173 rfl) rfl
theorem q1713 : (Jvm.Cond.instanceMethod ({ cls := "IdealCourtModel$Sum", name := "<init>", desc := "()V" } : Jvm.MethodName)) ∈ lw_all := lw_g (lw_at lw_m7 175 rfl) rfl
theorem q1714 : (Jvm.Cond.code ({ cls := "IdealCourtModel$Sum", name := "<init>", desc := "()V" } : Jvm.MethodName) prog_24_method_1_code (2 : Nat) (Option.none : Option Jvm.ClassFile.FieldType)) ∈ lw_all := lw_g (lw_at lw_m7 176 rfl) rfl
theorem q1715 : (Jvm.Cond.methodLink "IdealCourtModel$Sum" (3 : Nat) ({ cls := "java/lang/Object", name := "<init>", desc := "()V" } : Jvm.MethodName)) ∈ lw_all := lw_g (lw_at lw_m7 177 rfl) rfl
theorem q1716 : (Jvm.Cond.methodLinkNest "IdealCourtModel$Sum" (18 : Nat) ({ cls := "IdealCourtModel", name := "nums", desc := "(II)[LIdealCourtModel$Num;" } : Jvm.MethodName) "IdealCourtModel") ∈ lw_tbl := lw_at lw_m7 178 rfl
theorem q1717 : (Jvm.Cond.fieldLink "IdealCourtModel$Sum" (29 : Nat) "IdealCourtModel$Sum" "many" "I") ∈ lw_all := lw_g (lw_at lw_m7 179 rfl) rfl
theorem q1718 : (Jvm.Cond.fieldLink "IdealCourtModel$Sum" (9 : Nat) "IdealCourtModel$Sum" "code" "[I") ∈ lw_all := lw_g (lw_at lw_m7 180 rfl) rfl
theorem q1720 : (Jvm.Cond.fieldLink "IdealCourtModel$Sum" (15 : Nat) "IdealCourtModel$Sum" "at" "[I") ∈ lw_all := lw_g (lw_at lw_m7 182 rfl) rfl
theorem q1721 : (Jvm.Cond.fieldLink "IdealCourtModel$Sum" (22 : Nat) "IdealCourtModel$Sum" "num" "[LIdealCourtModel$Num;") ∈ lw_all := lw_g (lw_at lw_m7 183 rfl) rfl
theorem q1723 : (Jvm.Cond.fieldLink "IdealCourtModel$Sum" (26 : Nat) "IdealCourtModel$Sum" "den" "[LIdealCourtModel$Num;") ∈ lw_all := lw_g (lw_at lw_m7 185 rfl) rfl
theorem q1725 : (Jvm.Cond.lays "IdealCourtModel$Sum" "IdealCourtModel$Sum" "many" "I") ∈ lw_all := lw_g (lw_at lw_m7 187 rfl) rfl
theorem q1726 : (Jvm.Cond.soleField "IdealCourtModel$Sum" "many") ∈ lw_all := lw_g (lw_at lw_m7 188 rfl) rfl
theorem q1727 : (Jvm.Cond.laysFinal "IdealCourtModel$Sum" "IdealCourtModel$Sum" "code" "[I") ∈ lw_all := lw_g (lw_at lw_m7 189 rfl) rfl
theorem q1728 : (Jvm.Cond.soleField "IdealCourtModel$Sum" "code") ∈ lw_all := lw_g (lw_at lw_m7 190 rfl) rfl
theorem q1729 : (Jvm.Cond.laysFinal "IdealCourtModel$Sum" "IdealCourtModel$Sum" "at" "[I") ∈ lw_all := lw_g (lw_at lw_m7 191 rfl) rfl
theorem q1730 : (Jvm.Cond.soleField "IdealCourtModel$Sum" "at") ∈ lw_all := lw_g (lw_at lw_m7 192 rfl) rfl
theorem q1731 : (Jvm.Cond.laysFinal "IdealCourtModel$Sum" "IdealCourtModel$Sum" "num" "[LIdealCourtModel$Num;") ∈ lw_all := lw_g (lw_at lw_m7 193 rfl) rfl
theorem q1732 : (Jvm.Cond.soleField "IdealCourtModel$Sum" "num") ∈ lw_all := lw_g (lw_at lw_m7 194 rfl) rfl
theorem q1733 : (Jvm.Cond.laysFinal "IdealCourtModel$Sum" "IdealCourtModel$Sum" "den" "[LIdealCourtModel$Num;") ∈ lw_all := lw_g (lw_at lw_m7 195 rfl) rfl
theorem q1734 : (Jvm.Cond.soleField "IdealCourtModel$Sum" "den") ∈ lw_all := lw_g (lw_at lw_m7 196 rfl) rfl
theorem q1735 : (Jvm.Cond.superclass "IdealCourtModel$Sum" "java/lang/Object") ∈ lw_all := lw_g (lw_at lw_m7 197 rfl) rfl
theorem q2071 : (Jvm.Cond.instanceMethod ({ cls := "IdealCourtModel$Sum", name := "clear", desc := "()V" } : Jvm.MethodName)) ∈ lw_all := lw_g (lw_at lw_m9 53 rfl) rfl
theorem q2072 : (Jvm.Cond.selects "IdealCourtModel$Sum" ({ cls := "IdealCourtModel$Sum", name := "clear", desc := "()V" } : Jvm.MethodName) ({ cls := "IdealCourtModel$Sum", name := "clear", desc := "()V" } : Jvm.MethodName)) ∈ lw_all := lw_g (lw_at lw_m9 54 rfl) rfl
theorem q2073 : (Jvm.Cond.code ({ cls := "IdealCourtModel$Sum", name := "clear", desc := "()V" } : Jvm.MethodName) prog_24_method_2_code (2 : Nat) (Option.none : Option Jvm.ClassFile.FieldType)) ∈ lw_all := lw_g (lw_at lw_m9 55 rfl) rfl
theorem q2083 : (Jvm.Cond.instanceMethod ({ cls := "IdealCourtModel$Sum", name := "place", desc := "(I)I" } : Jvm.MethodName)) ∈ lw_all := lw_g (lw_at lw_m9 65 rfl) rfl
theorem q2084 : (Jvm.Cond.selects "IdealCourtModel$Sum" ({ cls := "IdealCourtModel$Sum", name := "place", desc := "(I)I" } : Jvm.MethodName) ({ cls := "IdealCourtModel$Sum", name := "place", desc := "(I)I" } : Jvm.MethodName)) ∈ lw_all := lw_g (lw_at lw_m9 66 rfl) rfl
theorem q2085 : (Jvm.Cond.code ({ cls := "IdealCourtModel$Sum", name := "place", desc := "(I)I" } : Jvm.MethodName) prog_24_method_3_code (2 : Nat) (Option.some Jvm.ClassFile.FieldType.int)) ∈ lw_all := lw_g (lw_at lw_m9 67 rfl) rfl
theorem q2086 : (Jvm.Cond.methodLink "IdealCourtModel$Sum" (33 : Nat) ({ cls := "IdealCourtModel$Num", name := "set", desc := "(J)V" } : Jvm.MethodName)) ∈ lw_all := lw_g (lw_at lw_m9 68 rfl) rfl
theorem q2155 : (Jvm.Cond.instanceMethod ({ cls := "IdealCourtModel$Sum", name := "terms", desc := "()I" } : Jvm.MethodName)) ∈ lw_all := lw_g (lw_at lw_m9 137 rfl) rfl
theorem q2156 : (Jvm.Cond.selects "IdealCourtModel$Sum" ({ cls := "IdealCourtModel$Sum", name := "terms", desc := "()I" } : Jvm.MethodName) ({ cls := "IdealCourtModel$Sum", name := "terms", desc := "()I" } : Jvm.MethodName)) ∈ lw_all := lw_g (lw_at lw_m9 138 rfl) rfl
theorem q2157 : (Jvm.Cond.code ({ cls := "IdealCourtModel$Sum", name := "terms", desc := "()I" } : Jvm.MethodName) prog_24_method_4_code (3 : Nat) (Option.some Jvm.ClassFile.FieldType.int)) ∈ lw_all := lw_g (lw_at lw_m9 139 rfl) rfl
theorem q2159 : (Jvm.Cond.instanceMethod ({ cls := "IdealCourtModel$Sum", name := "to", desc := "(LIdealCourtModel$Poly;)V" } : Jvm.MethodName)) ∈ lw_all := lw_g (lw_at lw_m9 141 rfl) rfl
theorem q2160 : (Jvm.Cond.selects "IdealCourtModel$Sum" ({ cls := "IdealCourtModel$Sum", name := "to", desc := "(LIdealCourtModel$Poly;)V" } : Jvm.MethodName) ({ cls := "IdealCourtModel$Sum", name := "to", desc := "(LIdealCourtModel$Poly;)V" } : Jvm.MethodName)) ∈ lw_all := lw_g (lw_at lw_m9 142 rfl) rfl
theorem q2161 : (Jvm.Cond.code ({ cls := "IdealCourtModel$Sum", name := "to", desc := "(LIdealCourtModel$Poly;)V" } : Jvm.MethodName) prog_24_method_6_code (4 : Nat) (Option.none : Option Jvm.ClassFile.FieldType)) ∈ lw_all := lw_g (lw_at lw_m9 143 rfl) rfl
theorem q2162 : (Jvm.Cond.methodLinkNest "IdealCourtModel$Sum" (50 : Nat) ({ cls := "IdealCourtModel", name := "lex", desc := "(II)I" } : Jvm.MethodName) "IdealCourtModel") ∈ lw_tbl := lw_at lw_m9 144 rfl
theorem q2165 : (Jvm.Cond.methodLink "IdealCourtModel$Sum" (55 : Nat) ({ cls := "IdealCourtModel$Num", name := "copy", desc := "(LIdealCourtModel$Num;)V" } : Jvm.MethodName)) ∈ lw_all := lw_g (lw_at lw_m9 147 rfl) rfl
theorem q2288 : (Jvm.Cond.instanceMethod ({ cls := "IdealCourtModel$Sum", name := "lead", desc := "(II)I" } : Jvm.MethodName)) ∈ lw_all := lw_g (lw_at lw_m10 30 rfl) rfl
theorem q2289 : (Jvm.Cond.selects "IdealCourtModel$Sum" ({ cls := "IdealCourtModel$Sum", name := "lead", desc := "(II)I" } : Jvm.MethodName) ({ cls := "IdealCourtModel$Sum", name := "lead", desc := "(II)I" } : Jvm.MethodName)) ∈ lw_all := lw_g (lw_at lw_m10 31 rfl) rfl
theorem q2290 : (Jvm.Cond.code ({ cls := "IdealCourtModel$Sum", name := "lead", desc := "(II)I" } : Jvm.MethodName) prog_24_method_5_code (5 : Nat) (Option.some Jvm.ClassFile.FieldType.int)) ∈ lw_all := lw_g (lw_at lw_m10 32 rfl) rfl
theorem q2291 : (Jvm.Cond.methodLinkNest "IdealCourtModel$Sum" (42 : Nat) ({ cls := "IdealCourtModel", name := "compareTerms", desc := "(IIII)I" } : Jvm.MethodName) "IdealCourtModel") ∈ lw_tbl := lw_at lw_m10 33 rfl
theorem in_X19 : ∀ w ∈ wsX190, w ∈ lw_all := lw_in wsX190 [1725, 1727, 1729, 1731, 1733] (by decide +kernel) (by decide +kernel)
