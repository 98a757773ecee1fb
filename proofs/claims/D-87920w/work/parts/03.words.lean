set_option maxRecDepth 100000
theorem q144 : (Jvm.Cond.arrayOver (Jvm.ClassFile.FieldType.object "IdealCourt$Failure")) ∈ lw_tbl := lw_at lw_m1 46 rfl
set_option maxRecDepth 100000
theorem q152 : (Jvm.Cond.arrayOver (Jvm.ClassFile.FieldType.array Jvm.ClassFile.FieldType.byte)) ∈ lw_tbl := lw_at lw_m1 54 rfl
theorem q154 : (Jvm.Cond.arrayOver (Jvm.ClassFile.FieldType.array Jvm.ClassFile.FieldType.short)) ∈ lw_tbl := lw_at lw_m1 56 rfl
theorem q163 : (Jvm.Cond.arrayClass Jvm.ClassFile.FieldType.int) ∈ lw_all := lw_g (lw_at lw_m1 65 rfl) rfl
theorem q164 : (Jvm.Cond.arrayClass Jvm.ClassFile.FieldType.byte) ∈ lw_all := lw_g (lw_at lw_m1 66 rfl) rfl
theorem q165 : (Jvm.Cond.arrayClass Jvm.ClassFile.FieldType.short) ∈ lw_all := lw_g (lw_at lw_m1 67 rfl) rfl
theorem q323 : (Jvm.Cond.arrayOver (Jvm.ClassFile.FieldType.object "IdealCourt$Whole")) ∈ lw_tbl := lw_at lw_m1 225 rfl
theorem q396 : (Jvm.Cond.arrayOver (Jvm.ClassFile.FieldType.array (Jvm.ClassFile.FieldType.object "IdealCourt$Whole"))) ∈ lw_tbl := lw_at lw_m2 58 rfl
theorem q397 : (Jvm.Cond.arrayClass (Jvm.ClassFile.FieldType.object "IdealCourt$Whole")) ∈ lw_all := lw_g (lw_at lw_m2 59 rfl) rfl
theorem q433 : (Jvm.Cond.arrayOver (Jvm.ClassFile.FieldType.object "IdealCourt$Stand")) ∈ lw_tbl := lw_at lw_m2 95 rfl
theorem q448 : (Jvm.Cond.arrayOver (Jvm.ClassFile.FieldType.object "IdealCourt$Lex")) ∈ lw_tbl := lw_at lw_m2 110 rfl
theorem q478 : (Jvm.Cond.arrayOver (Jvm.ClassFile.FieldType.object "IdealCourt$Poly")) ∈ lw_tbl := lw_at lw_m2 140 rfl
theorem q480 : (Jvm.Cond.arrayOver (Jvm.ClassFile.FieldType.object "IdealCourt$Real")) ∈ lw_tbl := lw_at lw_m2 142 rfl
theorem q1675 : (Jvm.Cond.arrayOver (Jvm.ClassFile.FieldType.object "IdealCourtModel$Poly")) ∈ lw_tbl := lw_at lw_m7 137 rfl
theorem q1677 : (Jvm.Cond.arrayOver (Jvm.ClassFile.FieldType.array Jvm.ClassFile.FieldType.long)) ∈ lw_tbl := lw_at lw_m7 139 rfl
theorem q1681 : (Jvm.Cond.arrayOver (Jvm.ClassFile.FieldType.object "IdealCourtModel$Num")) ∈ lw_tbl := lw_at lw_m7 143 rfl
theorem q1709 : (Jvm.Cond.arrayClass Jvm.ClassFile.FieldType.long) ∈ lw_all := lw_g (lw_at lw_m7 171 rfl) rfl
theorem q1743 : (Jvm.Cond.arrayOver (Jvm.ClassFile.FieldType.array (Jvm.ClassFile.FieldType.object "IdealCourtModel$Num"))) ∈ lw_tbl := lw_at lw_m7 205 rfl
theorem q2024 : (Jvm.Cond.arrayClass Jvm.ClassFile.FieldType.boolean) ∈ lw_all := lw_g (lw_at lw_m9 6 rfl) rfl

theorem q846 : (Jvm.Cond.interfaceMethod "IdealCourt$Thing" "IdealCourt$Thing" "kind" "()I") ∈ lw_tbl := lw_at lw_m4 28 rfl
set_option maxRecDepth 100000
theorem q847 : (Jvm.Cond.declares ({ cls := "IdealCourt$Thing", name := "kind", desc := "()I" } : Jvm.MethodName)) ∈ lw_tbl := lw_at lw_m4 29 rfl

theorem q1093 : (Jvm.Cond.interfaceMethod "IdealCourt$Ranks" "IdealCourt$Ranks" "rank" "(II)I") ∈ lw_tbl := lw_at lw_m5 35 rfl
set_option maxRecDepth 100000
theorem q1094 : (Jvm.Cond.declares ({ cls := "IdealCourt$Ranks", name := "rank", desc := "(II)I" } : Jvm.MethodName)) ∈ lw_tbl := lw_at lw_m5 36 rfl

theorem q1182 : (Jvm.Cond.interfaceMethod "IdealCourt$Told" "IdealCourt$Told" "name" "()Ljava/lang/String;") ∈ lw_tbl := lw_at lw_m5 124 rfl
set_option maxRecDepth 100000
theorem q1183 : (Jvm.Cond.declares ({ cls := "IdealCourt$Told", name := "name", desc := "()Ljava/lang/String;" } : Jvm.MethodName)) ∈ lw_tbl := lw_at lw_m5 125 rfl

theorem q129 : (Jvm.Cond.initialized "java/lang/System") ∈ lw_all := lw_g (lw_at lw_m1 31 rfl) rfl
set_option maxRecDepth 100000
theorem q1009 : (Jvm.Cond.static ({ cls := "java/lang/System", name := "arraycopy", desc := "(Ljava/lang/Object;ILjava/lang/Object;II)V" } : Jvm.MethodName)) ∈ lw_all := lw_g (lw_at lw_m4 191 rfl) rfl
theorem q1010 : (Jvm.Cond.native ({ cls := "java/lang/System", name := "arraycopy", desc := "(Ljava/lang/Object;ILjava/lang/Object;II)V" } : Jvm.MethodName)) ∈ lw_all := lw_g (lw_at lw_m4 192 rfl) rfl

theorem q98 : (Jvm.Cond.initialized "IdealCourtLaw") ∈ lw_all := lw_g (lw_at lw_m1 0 rfl) rfl
set_option maxRecDepth 100000
theorem q135 : (Jvm.Cond.classLink "IdealCourtLaw" (7 : Nat) "IdealCourt") ∈ lw_all := lw_g (lw_at lw_m1 37 rfl) rfl
theorem q137 : (Jvm.Cond.methodLink "IdealCourtLaw" (9 : Nat) ({ cls := "IdealCourt", name := "<init>", desc := "()V" } : Jvm.MethodName)) ∈ lw_all := lw_g (lw_at lw_m1 39 rfl) rfl
theorem q722 : (Jvm.Cond.methodLink "IdealCourtLaw" (13 : Nat) ({ cls := "IdealCourt", name := "order", desc := "(III)I" } : Jvm.MethodName)) ∈ lw_all := lw_g (lw_at lw_m3 144 rfl) rfl
theorem q774 : (Jvm.Cond.methodLink "IdealCourtLaw" (18 : Nat) ({ cls := "IdealCourt", name := "zero", desc := "(I)I" } : Jvm.MethodName)) ∈ lw_all := lw_g (lw_at lw_m3 196 rfl) rfl
theorem q794 : (Jvm.Cond.methodLink "IdealCourtLaw" (23 : Nat) ({ cls := "IdealCourt", name := "term", desc := "(IIII)I" } : Jvm.MethodName)) ∈ lw_all := lw_g (lw_at lw_m3 216 rfl) rfl
theorem q996 : (Jvm.Cond.methodLink "IdealCourtLaw" (28 : Nat) ({ cls := "IdealCourt", name := "add", desc := "(III)I" } : Jvm.MethodName)) ∈ lw_all := lw_g (lw_at lw_m4 178 rfl) rfl
theorem q1019 : (Jvm.Cond.methodLink "IdealCourtLaw" (32 : Nat) ({ cls := "IdealCourt", name := "less", desc := "(III)I" } : Jvm.MethodName)) ∈ lw_all := lw_g (lw_at lw_m4 201 rfl) rfl
theorem q1023 : (Jvm.Cond.methodLink "IdealCourtLaw" (36 : Nat) ({ cls := "IdealCourt", name := "times", desc := "(III)I" } : Jvm.MethodName)) ∈ lw_all := lw_g (lw_at lw_m4 205 rfl) rfl
theorem q1049 : (Jvm.Cond.methodLink "IdealCourtLaw" (40 : Nat) ({ cls := "IdealCourt", name := "part", desc := "(IIII)I" } : Jvm.MethodName)) ∈ lw_all := lw_g (lw_at lw_m4 231 rfl) rfl
theorem q1075 : (Jvm.Cond.methodLink "IdealCourtLaw" (44 : Nat) ({ cls := "IdealCourt", name := "size", desc := "(IZ)I" } : Jvm.MethodName)) ∈ lw_all := lw_g (lw_at lw_m5 17 rfl) rfl
theorem q1079 : (Jvm.Cond.methodLink "IdealCourtLaw" (49 : Nat) ({ cls := "IdealCourt", name := "lead", desc := "(II)I" } : Jvm.MethodName)) ∈ lw_all := lw_g (lw_at lw_m5 21 rfl) rfl
theorem q1150 : (Jvm.Cond.methodLink "IdealCourtLaw" (54 : Nat) ({ cls := "IdealCourt", name := "write", desc := "(II)I" } : Jvm.MethodName)) ∈ lw_all := lw_g (lw_at lw_m5 92 rfl) rfl
theorem q1295 : (Jvm.Cond.methodLink "IdealCourtLaw" (58 : Nat) ({ cls := "IdealCourt", name := "letter", desc := "(I)I" } : Jvm.MethodName)) ∈ lw_all := lw_g (lw_at lw_m5 237 rfl) rfl
theorem q1299 : (Jvm.Cond.methodLink "IdealCourtLaw" (62 : Nat) ({ cls := "IdealCourt", name := "row", desc := "(I)I" } : Jvm.MethodName)) ∈ lw_all := lw_g (lw_at lw_m6 1 rfl) rfl
theorem q1303 : (Jvm.Cond.methodLink "IdealCourtLaw" (66 : Nat) ({ cls := "IdealCourt", name := "unrow", desc := "()I" } : Jvm.MethodName)) ∈ lw_all := lw_g (lw_at lw_m6 5 rfl) rfl
theorem q1307 : (Jvm.Cond.methodLink "IdealCourtLaw" (71 : Nat) ({ cls := "IdealCourt", name := "divide", desc := "(II)I" } : Jvm.MethodName)) ∈ lw_all := lw_g (lw_at lw_m6 9 rfl) rfl
theorem q1351 : (Jvm.Cond.methodLink "IdealCourtLaw" (75 : Nat) ({ cls := "IdealCourt", name := "ideal", desc := "(I)I" } : Jvm.MethodName)) ∈ lw_all := lw_g (lw_at lw_m6 53 rfl) rfl
theorem q1367 : (Jvm.Cond.methodLink "IdealCourtLaw" (79 : Nat) ({ cls := "IdealCourt", name := "unideal", desc := "()I" } : Jvm.MethodName)) ∈ lw_all := lw_g (lw_at lw_m6 69 rfl) rfl
theorem q1371 : (Jvm.Cond.methodLink "IdealCourtLaw" (83 : Nat) ({ cls := "IdealCourt", name := "span", desc := "(II)I" } : Jvm.MethodName)) ∈ lw_all := lw_g (lw_at lw_m6 73 rfl) rfl
theorem q1422 : (Jvm.Cond.methodLink "IdealCourtLaw" (87 : Nat) ({ cls := "IdealCourt", name := "element", desc := "(II)I" } : Jvm.MethodName)) ∈ lw_all := lw_g (lw_at lw_m6 124 rfl) rfl
theorem q1441 : (Jvm.Cond.methodLink "IdealCourtLaw" (91 : Nat) ({ cls := "IdealCourt", name := "closed", desc := "()I" } : Jvm.MethodName)) ∈ lw_all := lw_g (lw_at lw_m6 143 rfl) rfl
theorem q1461 : (Jvm.Cond.methodLink "IdealCourtLaw" (95 : Nat) ({ cls := "IdealCourt", name := "without", desc := "(I)I" } : Jvm.MethodName)) ∈ lw_all := lw_g (lw_at lw_m6 163 rfl) rfl
theorem q1465 : (Jvm.Cond.methodLink "IdealCourtLaw" (99 : Nat) ({ cls := "IdealCourt", name := "many", desc := "()I" } : Jvm.MethodName)) ∈ lw_all := lw_g (lw_at lw_m6 167 rfl) rfl
theorem q1478 : (Jvm.Cond.methodLink "IdealCourtLaw" (103 : Nat) ({ cls := "IdealCourt", name := "member", desc := "(I)I" } : Jvm.MethodName)) ∈ lw_all := lw_g (lw_at lw_m6 180 rfl) rfl
theorem q1488 : (Jvm.Cond.methodLink "IdealCourtLaw" (107 : Nat) ({ cls := "IdealCourt", name := "quotient", desc := "(II)I" } : Jvm.MethodName)) ∈ lw_all := lw_g (lw_at lw_m6 190 rfl) rfl
theorem q1492 : (Jvm.Cond.methodLink "IdealCourtLaw" (111 : Nat) ({ cls := "IdealCourt", name := "rest", desc := "(I)I" } : Jvm.MethodName)) ∈ lw_all := lw_g (lw_at lw_m6 194 rfl) rfl
theorem q1496 : (Jvm.Cond.methodLink "IdealCourtLaw" (115 : Nat) ({ cls := "IdealCourt", name := "roots", desc := "(I)I" } : Jvm.MethodName)) ∈ lw_all := lw_g (lw_at lw_m6 198 rfl) rfl
theorem q1565 : (Jvm.Cond.methodLink "IdealCourtLaw" (119 : Nat) ({ cls := "IdealCourt", name := "root", desc := "(II)I" } : Jvm.MethodName)) ∈ lw_all := lw_g (lw_at lw_m7 27 rfl) rfl
theorem q1573 : (Jvm.Cond.methodLink "IdealCourtLaw" (123 : Nat) ({ cls := "IdealCourt", name := "narrow", desc := "(I)I" } : Jvm.MethodName)) ∈ lw_all := lw_g (lw_at lw_m7 35 rfl) rfl
theorem q1585 : (Jvm.Cond.methodLink "IdealCourtLaw" (127 : Nat) ({ cls := "IdealCourt", name := "sign", desc := "(II)I" } : Jvm.MethodName)) ∈ lw_all := lw_g (lw_at lw_m7 47 rfl) rfl
theorem q1601 : (Jvm.Cond.methodLink "IdealCourtLaw" (131 : Nat) ({ cls := "IdealCourt", name := "same", desc := "(II)I" } : Jvm.MethodName)) ∈ lw_all := lw_g (lw_at lw_m7 63 rfl) rfl
theorem q1614 : (Jvm.Cond.methodLink "IdealCourtLaw" (135 : Nat) ({ cls := "IdealCourt", name := "kind", desc := "(I)I" } : Jvm.MethodName)) ∈ lw_all := lw_g (lw_at lw_m7 76 rfl) rfl
theorem q1618 : (Jvm.Cond.methodLink "IdealCourtLaw" (139 : Nat) ({ cls := "IdealCourt", name := "put", desc := "(II)I" } : Jvm.MethodName)) ∈ lw_all := lw_g (lw_at lw_m7 80 rfl) rfl
theorem q1622 : (Jvm.Cond.methodLink "IdealCourtLaw" (143 : Nat) ({ cls := "IdealCourt", name := "gone", desc := "(I)I" } : Jvm.MethodName)) ∈ lw_all := lw_g (lw_at lw_m7 84 rfl) rfl
theorem q1626 : (Jvm.Cond.methodLink "IdealCourtLaw" (147 : Nat) ({ cls := "IdealCourt", name := "keep", desc := "(I)I" } : Jvm.MethodName)) ∈ lw_all := lw_g (lw_at lw_m7 88 rfl) rfl
theorem q1630 : (Jvm.Cond.methodLink "IdealCourtLaw" (151 : Nat) ({ cls := "IdealCourt", name := "raise", desc := "(I)I" } : Jvm.MethodName)) ∈ lw_all := lw_g (lw_at lw_m7 92 rfl) rfl
theorem q1642 : (Jvm.Cond.methodLink "IdealCourtLaw" (155 : Nat) ({ cls := "IdealCourt", name := "found", desc := "(I)I" } : Jvm.MethodName)) ∈ lw_all := lw_g (lw_at lw_m7 104 rfl) rfl
theorem q1646 : (Jvm.Cond.classLink "IdealCourtLaw" (10 : Nat) "IdealCourtModel") ∈ lw_all := lw_g (lw_at lw_m7 108 rfl) rfl
theorem q1648 : (Jvm.Cond.methodLink "IdealCourtLaw" (12 : Nat) ({ cls := "IdealCourtModel", name := "<init>", desc := "()V" } : Jvm.MethodName)) ∈ lw_all := lw_g (lw_at lw_m7 110 rfl) rfl
theorem q2025 : (Jvm.Cond.methodLink "IdealCourtLaw" (17 : Nat) ({ cls := "IdealCourtModel", name := "order", desc := "(III)I" } : Jvm.MethodName)) ∈ lw_all := lw_g (lw_at lw_m9 7 rfl) rfl
theorem q2040 : (Jvm.Cond.methodLink "IdealCourtLaw" (22 : Nat) ({ cls := "IdealCourtModel", name := "zero", desc := "(I)I" } : Jvm.MethodName)) ∈ lw_all := lw_g (lw_at lw_m9 22 rfl) rfl
theorem q2056 : (Jvm.Cond.methodLink "IdealCourtLaw" (27 : Nat) ({ cls := "IdealCourtModel", name := "term", desc := "(IIII)I" } : Jvm.MethodName)) ∈ lw_all := lw_g (lw_at lw_m9 38 rfl) rfl
theorem q2166 : (Jvm.Cond.methodLink "IdealCourtLaw" (31 : Nat) ({ cls := "IdealCourtModel", name := "add", desc := "(III)I" } : Jvm.MethodName)) ∈ lw_all := lw_g (lw_at lw_m9 148 rfl) rfl
theorem q2177 : (Jvm.Cond.methodLink "IdealCourtLaw" (35 : Nat) ({ cls := "IdealCourtModel", name := "less", desc := "(III)I" } : Jvm.MethodName)) ∈ lw_all := lw_g (lw_at lw_m9 159 rfl) rfl
theorem q2181 : (Jvm.Cond.methodLink "IdealCourtLaw" (39 : Nat) ({ cls := "IdealCourtModel", name := "times", desc := "(III)I" } : Jvm.MethodName)) ∈ lw_all := lw_g (lw_at lw_m9 163 rfl) rfl
theorem q2191 : (Jvm.Cond.methodLink "IdealCourtLaw" (43 : Nat) ({ cls := "IdealCourtModel", name := "part", desc := "(IIII)I" } : Jvm.MethodName)) ∈ lw_all := lw_g (lw_at lw_m9 173 rfl) rfl
theorem q2198 : (Jvm.Cond.methodLink "IdealCourtLaw" (48 : Nat) ({ cls := "IdealCourtModel", name := "size", desc := "(IZ)I" } : Jvm.MethodName)) ∈ lw_all := lw_g (lw_at lw_m9 180 rfl) rfl
theorem q2202 : (Jvm.Cond.methodLink "IdealCourtLaw" (53 : Nat) ({ cls := "IdealCourtModel", name := "lead", desc := "(II)I" } : Jvm.MethodName)) ∈ lw_all := lw_g (lw_at lw_m9 184 rfl) rfl
theorem q2220 : (Jvm.Cond.methodLink "IdealCourtLaw" (57 : Nat) ({ cls := "IdealCourtModel", name := "write", desc := "(II)I" } : Jvm.MethodName)) ∈ lw_all := lw_g (lw_at lw_m9 202 rfl) rfl
theorem q2267 : (Jvm.Cond.methodLink "IdealCourtLaw" (61 : Nat) ({ cls := "IdealCourtModel", name := "letter", desc := "(I)I" } : Jvm.MethodName)) ∈ lw_all := lw_g (lw_at lw_m10 9 rfl) rfl
theorem q2271 : (Jvm.Cond.methodLink "IdealCourtLaw" (65 : Nat) ({ cls := "IdealCourtModel", name := "row", desc := "(I)I" } : Jvm.MethodName)) ∈ lw_all := lw_g (lw_at lw_m10 13 rfl) rfl
theorem q2275 : (Jvm.Cond.methodLink "IdealCourtLaw" (70 : Nat) ({ cls := "IdealCourtModel", name := "unrow", desc := "()I" } : Jvm.MethodName)) ∈ lw_all := lw_g (lw_at lw_m10 17 rfl) rfl
theorem q2279 : (Jvm.Cond.methodLink "IdealCourtLaw" (74 : Nat) ({ cls := "IdealCourtModel", name := "divide", desc := "(II)I" } : Jvm.MethodName)) ∈ lw_all := lw_g (lw_at lw_m10 21 rfl) rfl
theorem q2298 : (Jvm.Cond.methodLink "IdealCourtLaw" (110 : Nat) ({ cls := "IdealCourtModel", name := "quotient", desc := "(II)I" } : Jvm.MethodName)) ∈ lw_all := lw_g (lw_at lw_m10 40 rfl) rfl
theorem q2302 : (Jvm.Cond.methodLink "IdealCourtLaw" (114 : Nat) ({ cls := "IdealCourtModel", name := "rest", desc := "(I)I" } : Jvm.MethodName)) ∈ lw_all := lw_g (lw_at lw_m10 44 rfl) rfl
theorem q2306 : (Jvm.Cond.methodLink "IdealCourtLaw" (78 : Nat) ({ cls := "IdealCourtModel", name := "ideal", desc := "(I)I" } : Jvm.MethodName)) ∈ lw_all := lw_g (lw_at lw_m10 48 rfl) rfl
theorem q2315 : (Jvm.Cond.methodLink "IdealCourtLaw" (82 : Nat) ({ cls := "IdealCourtModel", name := "unideal", desc := "()I" } : Jvm.MethodName)) ∈ lw_all := lw_g (lw_at lw_m10 57 rfl) rfl
theorem q2319 : (Jvm.Cond.methodLink "IdealCourtLaw" (86 : Nat) ({ cls := "IdealCourtModel", name := "span", desc := "(II)I" } : Jvm.MethodName)) ∈ lw_all := lw_g (lw_at lw_m10 61 rfl) rfl
theorem q2339 : (Jvm.Cond.methodLink "IdealCourtLaw" (90 : Nat) ({ cls := "IdealCourtModel", name := "element", desc := "(II)I" } : Jvm.MethodName)) ∈ lw_all := lw_g (lw_at lw_m10 81 rfl) rfl
theorem q2343 : (Jvm.Cond.methodLink "IdealCourtLaw" (94 : Nat) ({ cls := "IdealCourtModel", name := "closed", desc := "()I" } : Jvm.MethodName)) ∈ lw_all := lw_g (lw_at lw_m10 85 rfl) rfl
theorem q2362 : (Jvm.Cond.methodLink "IdealCourtLaw" (98 : Nat) ({ cls := "IdealCourtModel", name := "without", desc := "(I)I" } : Jvm.MethodName)) ∈ lw_all := lw_g (lw_at lw_m10 104 rfl) rfl
theorem q2366 : (Jvm.Cond.methodLink "IdealCourtLaw" (102 : Nat) ({ cls := "IdealCourtModel", name := "many", desc := "()I" } : Jvm.MethodName)) ∈ lw_all := lw_g (lw_at lw_m10 108 rfl) rfl
theorem q2374 : (Jvm.Cond.methodLink "IdealCourtLaw" (106 : Nat) ({ cls := "IdealCourtModel", name := "member", desc := "(I)I" } : Jvm.MethodName)) ∈ lw_all := lw_g (lw_at lw_m10 116 rfl) rfl
theorem q2385 : (Jvm.Cond.methodLink "IdealCourtLaw" (118 : Nat) ({ cls := "IdealCourtModel", name := "roots", desc := "(I)I" } : Jvm.MethodName)) ∈ lw_all := lw_g (lw_at lw_m10 127 rfl) rfl
theorem q2422 : (Jvm.Cond.methodLink "IdealCourtLaw" (122 : Nat) ({ cls := "IdealCourtModel", name := "root", desc := "(II)I" } : Jvm.MethodName)) ∈ lw_all := lw_g (lw_at lw_m10 164 rfl) rfl
theorem q2426 : (Jvm.Cond.methodLink "IdealCourtLaw" (126 : Nat) ({ cls := "IdealCourtModel", name := "narrow", desc := "(I)I" } : Jvm.MethodName)) ∈ lw_all := lw_g (lw_at lw_m10 168 rfl) rfl
theorem q2434 : (Jvm.Cond.methodLink "IdealCourtLaw" (130 : Nat) ({ cls := "IdealCourtModel", name := "sign", desc := "(II)I" } : Jvm.MethodName)) ∈ lw_all := lw_g (lw_at lw_m10 176 rfl) rfl
theorem q2442 : (Jvm.Cond.methodLink "IdealCourtLaw" (134 : Nat) ({ cls := "IdealCourtModel", name := "same", desc := "(II)I" } : Jvm.MethodName)) ∈ lw_all := lw_g (lw_at lw_m10 184 rfl) rfl
theorem q2455 : (Jvm.Cond.methodLink "IdealCourtLaw" (138 : Nat) ({ cls := "IdealCourtModel", name := "kind", desc := "(I)I" } : Jvm.MethodName)) ∈ lw_all := lw_g (lw_at lw_m10 197 rfl) rfl
theorem q2459 : (Jvm.Cond.methodLink "IdealCourtLaw" (142 : Nat) ({ cls := "IdealCourtModel", name := "put", desc := "(II)I" } : Jvm.MethodName)) ∈ lw_all := lw_g (lw_at lw_m10 201 rfl) rfl
theorem q2463 : (Jvm.Cond.methodLink "IdealCourtLaw" (146 : Nat) ({ cls := "IdealCourtModel", name := "gone", desc := "(I)I" } : Jvm.MethodName)) ∈ lw_all := lw_g (lw_at lw_m10 205 rfl) rfl
theorem q2467 : (Jvm.Cond.methodLink "IdealCourtLaw" (150 : Nat) ({ cls := "IdealCourtModel", name := "keep", desc := "(I)I" } : Jvm.MethodName)) ∈ lw_all := lw_g (lw_at lw_m10 209 rfl) rfl
theorem q2471 : (Jvm.Cond.methodLink "IdealCourtLaw" (154 : Nat) ({ cls := "IdealCourtModel", name := "raise", desc := "(I)I" } : Jvm.MethodName)) ∈ lw_all := lw_g (lw_at lw_m10 213 rfl) rfl
theorem q2475 : (Jvm.Cond.methodLink "IdealCourtLaw" (158 : Nat) ({ cls := "IdealCourtModel", name := "found", desc := "(I)I" } : Jvm.MethodName)) ∈ lw_all := lw_g (lw_at lw_m10 217 rfl) rfl
