/-! what the second programs ask beside -/
set_option maxRecDepth 100000
def knm : Nat → String
  | 5 => "IdealCourt$Poly"
  | 9 => "IdealCourt$Lex"
  | 10 => "IdealCourt$Degree"
  | 11 => "IdealCourt$Reverse"
  | 12 => "IdealCourt$Block"
  | 13 => "IdealCourt$Real"
  | 14 => "IdealCourt$Failure"
  | _ => ""
theorem xk_ : xcl lw_all pmcl pmft knm [] := (List.forall_mem_nil _)
theorem xk_5 : xcl lw_all pmcl pmft knm [5] := (List.forall_mem_cons.mpr ⟨⟨_, _, _, cls_5⟩, (List.forall_mem_nil _)⟩)
theorem xk_5_9_10_11_12_13 : xcl lw_all pmcl pmft knm [5, 9, 10, 11, 12, 13] := (List.forall_mem_cons.mpr ⟨⟨_, _, _, cls_5⟩, (List.forall_mem_cons.mpr ⟨⟨_, _, _, cls_9⟩, (List.forall_mem_cons.mpr ⟨⟨_, _, _, cls_10⟩, (List.forall_mem_cons.mpr ⟨⟨_, _, _, cls_11⟩, (List.forall_mem_cons.mpr ⟨⟨_, _, _, cls_12⟩, (List.forall_mem_cons.mpr ⟨⟨_, _, _, cls_13⟩, (List.forall_mem_nil _)⟩)⟩)⟩)⟩)⟩)⟩)
theorem xk_5_9_10_11_12_13_14 : xcl lw_all pmcl pmft knm [5, 9, 10, 11, 12, 13, 14] := (List.forall_mem_cons.mpr ⟨⟨_, _, _, cls_5⟩, (List.forall_mem_cons.mpr ⟨⟨_, _, _, cls_9⟩, (List.forall_mem_cons.mpr ⟨⟨_, _, _, cls_10⟩, (List.forall_mem_cons.mpr ⟨⟨_, _, _, cls_11⟩, (List.forall_mem_cons.mpr ⟨⟨_, _, _, cls_12⟩, (List.forall_mem_cons.mpr ⟨⟨_, _, _, cls_13⟩, (List.forall_mem_cons.mpr ⟨⟨_, _, _, cls_14⟩, (List.forall_mem_nil _)⟩)⟩)⟩)⟩)⟩)⟩)⟩)
theorem xk_5_9_10_11_12_14 : xcl lw_all pmcl pmft knm [5, 9, 10, 11, 12, 14] := (List.forall_mem_cons.mpr ⟨⟨_, _, _, cls_5⟩, (List.forall_mem_cons.mpr ⟨⟨_, _, _, cls_9⟩, (List.forall_mem_cons.mpr ⟨⟨_, _, _, cls_10⟩, (List.forall_mem_cons.mpr ⟨⟨_, _, _, cls_11⟩, (List.forall_mem_cons.mpr ⟨⟨_, _, _, cls_12⟩, (List.forall_mem_cons.mpr ⟨⟨_, _, _, cls_14⟩, (List.forall_mem_nil _)⟩)⟩)⟩)⟩)⟩)⟩)
theorem xk_5_13_14 : xcl lw_all pmcl pmft knm [5, 13, 14] := (List.forall_mem_cons.mpr ⟨⟨_, _, _, cls_5⟩, (List.forall_mem_cons.mpr ⟨⟨_, _, _, cls_13⟩, (List.forall_mem_cons.mpr ⟨⟨_, _, _, cls_14⟩, (List.forall_mem_nil _)⟩)⟩)⟩)
theorem xk_9_10_11_12 : xcl lw_all pmcl pmft knm [9, 10, 11, 12] := (List.forall_mem_cons.mpr ⟨⟨_, _, _, cls_9⟩, (List.forall_mem_cons.mpr ⟨⟨_, _, _, cls_10⟩, (List.forall_mem_cons.mpr ⟨⟨_, _, _, cls_11⟩, (List.forall_mem_cons.mpr ⟨⟨_, _, _, cls_12⟩, (List.forall_mem_nil _)⟩)⟩)⟩)⟩)
theorem xk_9_10_11_12_13_14 : xcl lw_all pmcl pmft knm [9, 10, 11, 12, 13, 14] := (List.forall_mem_cons.mpr ⟨⟨_, _, _, cls_9⟩, (List.forall_mem_cons.mpr ⟨⟨_, _, _, cls_10⟩, (List.forall_mem_cons.mpr ⟨⟨_, _, _, cls_11⟩, (List.forall_mem_cons.mpr ⟨⟨_, _, _, cls_12⟩, (List.forall_mem_cons.mpr ⟨⟨_, _, _, cls_13⟩, (List.forall_mem_cons.mpr ⟨⟨_, _, _, cls_14⟩, (List.forall_mem_nil _)⟩)⟩)⟩)⟩)⟩)⟩)
theorem xk_13 : xcl lw_all pmcl pmft knm [13] := (List.forall_mem_cons.mpr ⟨⟨_, _, _, cls_13⟩, (List.forall_mem_nil _)⟩)
theorem xk_14 : xcl lw_all pmcl pmft knm [14] := (List.forall_mem_cons.mpr ⟨⟨_, _, _, cls_14⟩, (List.forall_mem_nil _)⟩)
def xxC : List (String × String) := [("IdealCourt$Poly", "IdealCourt$Failure"), ("IdealCourt$Lex", "IdealCourt$Failure"), ("IdealCourt$Degree", "IdealCourt$Failure"), ("IdealCourt$Reverse", "IdealCourt$Failure"), ("IdealCourt$Block", "IdealCourt$Failure"), ("IdealCourt$Real", "IdealCourt$Failure"), ("IdealCourt$Failure", "java/lang/NullPointerException"), ("IdealCourt$Poly", "IdealCourt$Lex"), ("IdealCourt$Real", "IdealCourt$Lex"), ("IdealCourt$Failure", "IdealCourt$Lex"), ("IdealCourt$Poly", "IdealCourt$Real"), ("IdealCourt$Lex", "IdealCourt$Real"), ("IdealCourt$Degree", "IdealCourt$Real"), ("IdealCourt$Reverse", "IdealCourt$Real"), ("IdealCourt$Block", "IdealCourt$Real"), ("IdealCourt$Failure", "IdealCourt$Real"), ("IdealCourt$Lex", "IdealCourt$Poly"), ("IdealCourt$Degree", "IdealCourt$Poly"), ("IdealCourt$Reverse", "IdealCourt$Poly"), ("IdealCourt$Block", "IdealCourt$Poly"), ("IdealCourt$Real", "IdealCourt$Poly"), ("IdealCourt$Failure", "IdealCourt$Poly")]
theorem xc_0 : (("IdealCourt$Poly", "IdealCourt$Failure") : String × String) ∈ xxC := List.mem_of_getElem? (i := 0) rfl
theorem xc_1 : (("IdealCourt$Lex", "IdealCourt$Failure") : String × String) ∈ xxC := List.mem_of_getElem? (i := 1) rfl
theorem xc_2 : (("IdealCourt$Degree", "IdealCourt$Failure") : String × String) ∈ xxC := List.mem_of_getElem? (i := 2) rfl
theorem xc_3 : (("IdealCourt$Reverse", "IdealCourt$Failure") : String × String) ∈ xxC := List.mem_of_getElem? (i := 3) rfl
theorem xc_4 : (("IdealCourt$Block", "IdealCourt$Failure") : String × String) ∈ xxC := List.mem_of_getElem? (i := 4) rfl
theorem xc_5 : (("IdealCourt$Real", "IdealCourt$Failure") : String × String) ∈ xxC := List.mem_of_getElem? (i := 5) rfl
theorem xc_6 : (("IdealCourt$Failure", "java/lang/NullPointerException") : String × String) ∈ xxC := List.mem_of_getElem? (i := 6) rfl
theorem xc_7 : (("IdealCourt$Poly", "IdealCourt$Lex") : String × String) ∈ xxC := List.mem_of_getElem? (i := 7) rfl
theorem xc_8 : (("IdealCourt$Real", "IdealCourt$Lex") : String × String) ∈ xxC := List.mem_of_getElem? (i := 8) rfl
theorem xc_9 : (("IdealCourt$Failure", "IdealCourt$Lex") : String × String) ∈ xxC := List.mem_of_getElem? (i := 9) rfl
theorem xc_10 : (("IdealCourt$Poly", "IdealCourt$Real") : String × String) ∈ xxC := List.mem_of_getElem? (i := 10) rfl
theorem xc_11 : (("IdealCourt$Lex", "IdealCourt$Real") : String × String) ∈ xxC := List.mem_of_getElem? (i := 11) rfl
theorem xc_12 : (("IdealCourt$Degree", "IdealCourt$Real") : String × String) ∈ xxC := List.mem_of_getElem? (i := 12) rfl
theorem xc_13 : (("IdealCourt$Reverse", "IdealCourt$Real") : String × String) ∈ xxC := List.mem_of_getElem? (i := 13) rfl
theorem xc_14 : (("IdealCourt$Block", "IdealCourt$Real") : String × String) ∈ xxC := List.mem_of_getElem? (i := 14) rfl
theorem xc_15 : (("IdealCourt$Failure", "IdealCourt$Real") : String × String) ∈ xxC := List.mem_of_getElem? (i := 15) rfl
theorem xc_16 : (("IdealCourt$Lex", "IdealCourt$Poly") : String × String) ∈ xxC := List.mem_of_getElem? (i := 16) rfl
theorem xc_17 : (("IdealCourt$Degree", "IdealCourt$Poly") : String × String) ∈ xxC := List.mem_of_getElem? (i := 17) rfl
theorem xc_18 : (("IdealCourt$Reverse", "IdealCourt$Poly") : String × String) ∈ xxC := List.mem_of_getElem? (i := 18) rfl
theorem xc_19 : (("IdealCourt$Block", "IdealCourt$Poly") : String × String) ∈ xxC := List.mem_of_getElem? (i := 19) rfl
theorem xc_20 : (("IdealCourt$Real", "IdealCourt$Poly") : String × String) ∈ xxC := List.mem_of_getElem? (i := 20) rfl
theorem xc_21 : (("IdealCourt$Failure", "IdealCourt$Poly") : String × String) ∈ xxC := List.mem_of_getElem? (i := 21) rfl
def xxF : List (String × MethodName × MethodName) := [("IdealCourt$Poly", ⟨"IdealCourt$Thing", "kind", "()I"⟩, ⟨"IdealCourt$Poly", "kind", "()I"⟩), ("IdealCourt$Lex", ⟨"IdealCourt$Thing", "kind", "()I"⟩, ⟨"IdealCourt$Lex", "kind", "()I"⟩), ("IdealCourt$Degree", ⟨"IdealCourt$Thing", "kind", "()I"⟩, ⟨"IdealCourt$Lex", "kind", "()I"⟩), ("IdealCourt$Reverse", ⟨"IdealCourt$Thing", "kind", "()I"⟩, ⟨"IdealCourt$Lex", "kind", "()I"⟩), ("IdealCourt$Block", ⟨"IdealCourt$Thing", "kind", "()I"⟩, ⟨"IdealCourt$Lex", "kind", "()I"⟩), ("IdealCourt$Real", ⟨"IdealCourt$Thing", "kind", "()I"⟩, ⟨"IdealCourt$Real", "kind", "()I"⟩), ("IdealCourt$Failure", ⟨"IdealCourt$Thing", "kind", "()I"⟩, ⟨"IdealCourt$Failure", "kind", "()I"⟩), ("IdealCourt$Lex", ⟨"IdealCourt$Ranks", "rank", "(II)I"⟩, ⟨"IdealCourt$Lex", "rank", "(II)I"⟩), ("IdealCourt$Degree", ⟨"IdealCourt$Ranks", "rank", "(II)I"⟩, ⟨"IdealCourt$Degree", "rank", "(II)I"⟩), ("IdealCourt$Reverse", ⟨"IdealCourt$Ranks", "rank", "(II)I"⟩, ⟨"IdealCourt$Reverse", "rank", "(II)I"⟩), ("IdealCourt$Block", ⟨"IdealCourt$Ranks", "rank", "(II)I"⟩, ⟨"IdealCourt$Block", "rank", "(II)I"⟩), ("IdealCourt$Lex", ⟨"IdealCourt$Told", "name", "()Ljava/lang/String;"⟩, ⟨"IdealCourt$Lex", "name", "()Ljava/lang/String;"⟩), ("IdealCourt$Degree", ⟨"IdealCourt$Told", "name", "()Ljava/lang/String;"⟩, ⟨"IdealCourt$Degree", "name", "()Ljava/lang/String;"⟩), ("IdealCourt$Reverse", ⟨"IdealCourt$Told", "name", "()Ljava/lang/String;"⟩, ⟨"IdealCourt$Reverse", "name", "()Ljava/lang/String;"⟩), ("IdealCourt$Block", ⟨"IdealCourt$Told", "name", "()Ljava/lang/String;"⟩, ⟨"IdealCourt$Block", "name", "()Ljava/lang/String;"⟩)]
theorem xf_0 : (("IdealCourt$Poly", ⟨"IdealCourt$Thing", "kind", "()I"⟩, ⟨"IdealCourt$Poly", "kind", "()I"⟩) : String × MethodName × MethodName) ∈ xxF := List.mem_of_getElem? (i := 0) rfl
theorem xf_1 : (("IdealCourt$Lex", ⟨"IdealCourt$Thing", "kind", "()I"⟩, ⟨"IdealCourt$Lex", "kind", "()I"⟩) : String × MethodName × MethodName) ∈ xxF := List.mem_of_getElem? (i := 1) rfl
theorem xf_2 : (("IdealCourt$Degree", ⟨"IdealCourt$Thing", "kind", "()I"⟩, ⟨"IdealCourt$Lex", "kind", "()I"⟩) : String × MethodName × MethodName) ∈ xxF := List.mem_of_getElem? (i := 2) rfl
theorem xf_3 : (("IdealCourt$Reverse", ⟨"IdealCourt$Thing", "kind", "()I"⟩, ⟨"IdealCourt$Lex", "kind", "()I"⟩) : String × MethodName × MethodName) ∈ xxF := List.mem_of_getElem? (i := 3) rfl
theorem xf_4 : (("IdealCourt$Block", ⟨"IdealCourt$Thing", "kind", "()I"⟩, ⟨"IdealCourt$Lex", "kind", "()I"⟩) : String × MethodName × MethodName) ∈ xxF := List.mem_of_getElem? (i := 4) rfl
theorem xf_5 : (("IdealCourt$Real", ⟨"IdealCourt$Thing", "kind", "()I"⟩, ⟨"IdealCourt$Real", "kind", "()I"⟩) : String × MethodName × MethodName) ∈ xxF := List.mem_of_getElem? (i := 5) rfl
theorem xf_6 : (("IdealCourt$Failure", ⟨"IdealCourt$Thing", "kind", "()I"⟩, ⟨"IdealCourt$Failure", "kind", "()I"⟩) : String × MethodName × MethodName) ∈ xxF := List.mem_of_getElem? (i := 6) rfl
theorem xf_7 : (("IdealCourt$Lex", ⟨"IdealCourt$Ranks", "rank", "(II)I"⟩, ⟨"IdealCourt$Lex", "rank", "(II)I"⟩) : String × MethodName × MethodName) ∈ xxF := List.mem_of_getElem? (i := 7) rfl
theorem xf_8 : (("IdealCourt$Degree", ⟨"IdealCourt$Ranks", "rank", "(II)I"⟩, ⟨"IdealCourt$Degree", "rank", "(II)I"⟩) : String × MethodName × MethodName) ∈ xxF := List.mem_of_getElem? (i := 8) rfl
theorem xf_9 : (("IdealCourt$Reverse", ⟨"IdealCourt$Ranks", "rank", "(II)I"⟩, ⟨"IdealCourt$Reverse", "rank", "(II)I"⟩) : String × MethodName × MethodName) ∈ xxF := List.mem_of_getElem? (i := 9) rfl
theorem xf_10 : (("IdealCourt$Block", ⟨"IdealCourt$Ranks", "rank", "(II)I"⟩, ⟨"IdealCourt$Block", "rank", "(II)I"⟩) : String × MethodName × MethodName) ∈ xxF := List.mem_of_getElem? (i := 10) rfl
theorem xf_11 : (("IdealCourt$Lex", ⟨"IdealCourt$Told", "name", "()Ljava/lang/String;"⟩, ⟨"IdealCourt$Lex", "name", "()Ljava/lang/String;"⟩) : String × MethodName × MethodName) ∈ xxF := List.mem_of_getElem? (i := 11) rfl
theorem xf_12 : (("IdealCourt$Degree", ⟨"IdealCourt$Told", "name", "()Ljava/lang/String;"⟩, ⟨"IdealCourt$Degree", "name", "()Ljava/lang/String;"⟩) : String × MethodName × MethodName) ∈ xxF := List.mem_of_getElem? (i := 12) rfl
theorem xf_13 : (("IdealCourt$Reverse", ⟨"IdealCourt$Told", "name", "()Ljava/lang/String;"⟩, ⟨"IdealCourt$Reverse", "name", "()Ljava/lang/String;"⟩) : String × MethodName × MethodName) ∈ xxF := List.mem_of_getElem? (i := 13) rfl
theorem xf_14 : (("IdealCourt$Block", ⟨"IdealCourt$Told", "name", "()Ljava/lang/String;"⟩, ⟨"IdealCourt$Block", "name", "()Ljava/lang/String;"⟩) : String × MethodName × MethodName) ∈ xxF := List.mem_of_getElem? (i := 14) rfl
def xxA : List FieldType := [.short, .byte, (.object "IdealCourt$Whole"), (.object "IdealCourtModel$Num"), .long]
theorem xa_0 : (.short : FieldType) ∈ xxA := List.mem_of_getElem? (i := 0) rfl
theorem xa_1 : (.byte : FieldType) ∈ xxA := List.mem_of_getElem? (i := 1) rfl
theorem xa_2 : ((.object "IdealCourt$Whole") : FieldType) ∈ xxA := List.mem_of_getElem? (i := 2) rfl
theorem xa_3 : ((.object "IdealCourtModel$Num") : FieldType) ∈ xxA := List.mem_of_getElem? (i := 3) rfl
theorem xa_4 : (.long : FieldType) ∈ xxA := List.mem_of_getElem? (i := 4) rfl
def xxN : List Cond := [Jvm.Cond.arrayOver (Jvm.ClassFile.FieldType.object "IdealCourt$Failure"), Jvm.Cond.methodLinkNest "IdealCourt" (28 : Nat) ({ cls := "IdealCourt$Reckoner", name := "<init>", desc := "()V" } : Jvm.MethodName) "IdealCourt", Jvm.Cond.fieldLinkNest "IdealCourt$Divider" (65 : Nat) "IdealCourt$Poly" "many" "I" "IdealCourt", Jvm.Cond.fieldLinkNest "IdealCourt" (226 : Nat) "IdealCourt$Poly" "many" "I" "IdealCourt", Jvm.Cond.fieldLinkNest "IdealCourt" (430 : Nat) "IdealCourt$Divider" "f" "LIdealCourt$Poly;" "IdealCourt", Jvm.Cond.fieldLinkNest "IdealCourt" (497 : Nat) "IdealCourt$Square" "told" "I" "IdealCourt", Jvm.Cond.fieldLinkNest "IdealCourt" (473 : Nat) "IdealCourt$Square" "order" "LIdealCourt$Ranks;" "IdealCourt", Jvm.Cond.arrayOver (Jvm.ClassFile.FieldType.object "IdealCourt$Stand"), Jvm.Cond.arrayOver (Jvm.ClassFile.FieldType.object "IdealCourt$Lex"), Jvm.Cond.arrayOver (Jvm.ClassFile.FieldType.object "IdealCourt$Poly"), Jvm.Cond.arrayOver (Jvm.ClassFile.FieldType.object "IdealCourt$Real"), Jvm.Cond.fieldLinkNest "IdealCourt" (515 : Nat) "IdealCourt$Real" "numbers" "[I" "IdealCourt", Jvm.Cond.fieldLinkNest "IdealCourt" (516 : Nat) "IdealCourt$Real" "degree" "I" "IdealCourt", Jvm.Cond.fieldLinkNest "IdealCourt" (521 : Nat) "IdealCourt$Real" "since" "I" "IdealCourt", Jvm.Cond.methodLinkNest "IdealCourt" (177 : Nat) ({ cls := "IdealCourt$Stand", name := "<init>", desc := "()V" } : Jvm.MethodName) "IdealCourt"]
theorem nx_q144 : (Jvm.Cond.arrayOver (Jvm.ClassFile.FieldType.object "IdealCourt$Failure")) ∈ xxN := List.mem_of_getElem? (i := 0) rfl
theorem nx_q168 : (Jvm.Cond.methodLinkNest "IdealCourt" (28 : Nat) ({ cls := "IdealCourt$Reckoner", name := "<init>", desc := "()V" } : Jvm.MethodName) "IdealCourt") ∈ xxN := List.mem_of_getElem? (i := 1) rfl
theorem nx_q236 : (Jvm.Cond.fieldLinkNest "IdealCourt$Divider" (65 : Nat) "IdealCourt$Poly" "many" "I" "IdealCourt") ∈ xxN := List.mem_of_getElem? (i := 2) rfl
theorem nx_q238 : (Jvm.Cond.fieldLinkNest "IdealCourt" (226 : Nat) "IdealCourt$Poly" "many" "I" "IdealCourt") ∈ xxN := List.mem_of_getElem? (i := 3) rfl
theorem nx_q282 : (Jvm.Cond.fieldLinkNest "IdealCourt" (430 : Nat) "IdealCourt$Divider" "f" "LIdealCourt$Poly;" "IdealCourt") ∈ xxN := List.mem_of_getElem? (i := 4) rfl
theorem nx_q344 : (Jvm.Cond.fieldLinkNest "IdealCourt" (497 : Nat) "IdealCourt$Square" "told" "I" "IdealCourt") ∈ xxN := List.mem_of_getElem? (i := 5) rfl
theorem nx_q346 : (Jvm.Cond.fieldLinkNest "IdealCourt" (473 : Nat) "IdealCourt$Square" "order" "LIdealCourt$Ranks;" "IdealCourt") ∈ xxN := List.mem_of_getElem? (i := 6) rfl
theorem nx_q433 : (Jvm.Cond.arrayOver (Jvm.ClassFile.FieldType.object "IdealCourt$Stand")) ∈ xxN := List.mem_of_getElem? (i := 7) rfl
theorem nx_q448 : (Jvm.Cond.arrayOver (Jvm.ClassFile.FieldType.object "IdealCourt$Lex")) ∈ xxN := List.mem_of_getElem? (i := 8) rfl
theorem nx_q478 : (Jvm.Cond.arrayOver (Jvm.ClassFile.FieldType.object "IdealCourt$Poly")) ∈ xxN := List.mem_of_getElem? (i := 9) rfl
theorem nx_q480 : (Jvm.Cond.arrayOver (Jvm.ClassFile.FieldType.object "IdealCourt$Real")) ∈ xxN := List.mem_of_getElem? (i := 10) rfl
theorem nx_q489 : (Jvm.Cond.fieldLinkNest "IdealCourt" (515 : Nat) "IdealCourt$Real" "numbers" "[I" "IdealCourt") ∈ xxN := List.mem_of_getElem? (i := 11) rfl
theorem nx_q491 : (Jvm.Cond.fieldLinkNest "IdealCourt" (516 : Nat) "IdealCourt$Real" "degree" "I" "IdealCourt") ∈ xxN := List.mem_of_getElem? (i := 12) rfl
theorem nx_q495 : (Jvm.Cond.fieldLinkNest "IdealCourt" (521 : Nat) "IdealCourt$Real" "since" "I" "IdealCourt") ∈ xxN := List.mem_of_getElem? (i := 13) rfl
theorem nx_q593 : (Jvm.Cond.methodLinkNest "IdealCourt" (177 : Nat) ({ cls := "IdealCourt$Stand", name := "<init>", desc := "()V" } : Jvm.MethodName) "IdealCourt") ∈ xxN := List.mem_of_getElem? (i := 14) rfl
/-- what holds along the run beside the lists -/
def strTx : List (List Int) := [[108, 101, 120], [100, 101, 103, 114, 101, 101], [114, 101, 118, 101, 114, 115, 101], [98, 108, 111, 99, 107, 50], [98, 108, 111, 99, 107, 49], [98, 108, 111, 99, 107, 50], [98, 108, 111, 99, 107, 49], [114, 101, 118, 101, 114, 115, 101], [100, 101, 103, 114, 101, 101], [108, 101, 120]]
def strOw : List (String × Nat × String) := [("IdealCourt$Lex", 21, "lex"), ("IdealCourt$Degree", 17, "degree"), ("IdealCourt$Reverse", 13, "reverse"), ("IdealCourt$Block", 19, "block2"), ("IdealCourt$Block", 17, "block1"), ("IdealCourtModel", 487, "block2"), ("IdealCourtModel", 485, "block1"), ("IdealCourtModel", 484, "reverse"), ("IdealCourtModel", 483, "degree"), ("IdealCourtModel", 482, "lex")]
/-- the String constants and what the JDK's methods over them read -/
def xS (lo : Nat) (H0 : Heap) (Z : Nat → Nat) (U : State) : Prop := (∀ k, k < 10 → va_O "java/lang/String" (Z k) (fun q => lo ≤ q) U H0 ∧ va_OF "java/lang/String" "coder" "B" (.int 0) (Z k) (fun q => lo ≤ q) U H0 ∧ va_OF "java/lang/String" "value" "[B" (.ref (Z (k + 10))) (Z k) (fun q => lo ≤ q) U H0 ∧ va_T .byte (Z (k + 10)) (strTx.getD k []).length (fun j => .int (Int32.ofInt ((strTx.getD k []).getD j 0))) (fun q => lo ≤ q) U H0 ∧ vk_R (strOw.getD k ("", 0, "")).1 (strOw.getD k ("", 0, "")).2.1 (strOw.getD k ("", 0, "")).2.2 (Z k) U) ∧ va_Z "java/lang/String" "COMPACT_STRINGS" "Z" (.int 1) (fun q => lo ≤ q) U H0 ∧ va_Zq "jdk/internal/util/Preconditions" "SIOOBE_FORMATTER" "Ljava/util/function/BiFunction;" (fun q => lo ≤ q) U H0
theorem xS.moved {lo : Nat} {H0 : Heap} {Z : Nat → Nat} {s U : State} (hW : s.WarmedH U.vm) (h : xS lo H0 Z s) : xS lo H0 Z U :=
  ⟨fun k hk => ⟨(h.1 k hk).1.moved hW.alike, (h.1 k hk).2.1.moved hW.alike, (h.1 k hk).2.2.1.moved hW.alike, (h.1 k hk).2.2.2.1.moved hW.alike, (h.1 k hk).2.2.2.2.warm hW⟩, h.2.1.moved hW.alike, h.2.2.moved hW.alike⟩
def xE (lo : Nat) (H0 : Heap) (Z : Nat → Nat) (U : State) : Prop := pmE xxW xxC xxF lo H0 U ∧ xMod U ∧ (∀ t ∈ xxA, xAA t U) ∧ (∀ w ∈ xxN, nwk w = true ∧ va_Nw w U) ∧ xS lo H0 Z U
theorem xE.moved {lo : Nat} {H0 : Heap} {Z : Nat → Nat} {s U : State} (hW : s.WarmedH U.vm) (h : xE lo H0 Z s) : xE lo H0 Z U :=
  ⟨h.1.moved hW, h.2.1.moved hW.alike, fun t ht => (h.2.2.1 t ht).moved hW.alike, fun w hw => ⟨(h.2.2.2.1 w hw).1, nwk_moved (h.2.2.2.1 w hw).1 hW (h.2.2.2.1 w hw).2⟩, h.2.2.2.2.moved hW⟩
/-- ops of the second programs -/
def i_ref (a : Nat) (K : Tm) : Tm := fun ls st B S D => K ls (.inr (.inr (some a)) :: st) B S D
def i_slen (Z : Nat → Nat) (K : Tm) : Tm := fun ls st B S D => match st with
  | .inr (.inr (some a)) :: r => catv r ≤ 8 ∧ ∃ k, k < strTx.length ∧ a = Z k ∧ K ls (.inl ((strTx.getD k []).length : Int) :: r) B S D
  | _ => False
def i_schr (Z : Nat → Nat) (K : Tm) : Tm := fun ls st B S D => match st with
  | .inl i :: .inr (.inr (some a)) :: r => catv r ≤ 8 ∧ ∃ k, k < strTx.length ∧ a = Z k ∧ 0 ≤ i ∧ i < (strTx.getD k []).length ∧ K ls (.inl ((strTx.getD k []).getD i.toNat 0) :: r) B S D
  | _ => False
def i_rtinit (K : Tm) : Tm := fun ls st B S D => match st with
  | .inr (.inr (some a)) :: r => catv r ≤ 8 ∧ S.1 a = some (14, 0) ∧ S.2.1 a 4 = none ∧ ∀ S' : Stat, S'.1 = S.1 → S'.2.2 = S.2.2 → (∀ b i, b ≠ a → S'.2.1 b i = S.2.1 b i) → K ls r B S' D
  | _ => False
def i_copyX (t : Nat) (K Hn : Tm) : Tm := fun ls st B S D => match st with
  | .inl n :: .inl dp :: .inr (.inr (some dst)) :: .inl sp :: .inr (.inr (some src)) :: r => catv r ≤ 8 ∧ ∃ ns nd : Nat, S.1 src = some (t, ns) ∧ S.1 dst = some (t, nd) ∧ ns < 60000000 ∧ nd < 60000000 ∧
      (0 ≤ sp → 0 ≤ dp → 0 ≤ n → sp + n ≤ ns → dp + n ≤ nd → (∀ j : Int, 0 ≤ j → j < n → okT t (D src (sp + j))) ∧ K ls r B S (cpD D src sp dst dp n)) ∧
      (¬ (0 ≤ sp ∧ 0 ≤ dp ∧ 0 ≤ n ∧ sp + n ≤ ns ∧ dp + n ≤ nd) → i_vm 3 610 Hn ls r B S D)
  | _ => False
def i_getRm (K : Tm) (cs : List Nat) (k : Int) : Tm := fun ls st B S D => ∃ c, c ∈ cs ∧ i_getR K c k ls st B S D
def i_getIm (K : Tm) (cs : List Nat) (k : Int) : Tm := fun ls st B S D => ∃ c, c ∈ cs ∧ i_getI K c k ls st B S D
def i_putRm (K : Tm) (cs : List Nat) (k : Int) : Tm := fun ls st B S D => ∃ c, c ∈ cs ∧ i_putR K c k ls st B S D
def i_putIm (K : Tm) (cs : List Nat) (k : Int) : Tm := fun ls st B S D => ∃ c, c ∈ cs ∧ i_putI K c k ls st B S D
def i_vcall (K : Tm) (tab : List (Nat × Prg)) (n w : Nat) (Hn : Tm) : Tm := fun ls st B S D => ∃ q, q ∈ tab ∧ i_recv (i_call K q.2 (n + 1) w Hn) q.1 n ls st B S D
section MM
variable {K V V' Hn : Tm} {cs : List Nat} {k : Int} {tab : List (Nat × Prg)} {n w : Nat}
theorem sm_getRm (hh : ∀ c ∈ cs, ∀ K, pm_le K V' → pm_le (i_getR K c k) V) (h : pm_le K V') : pm_le (i_getRm K cs k) V := fun ls st B S D q => by obtain ⟨c, h1, h2⟩ := q; exact hh c h1 K h ls st B S D h2
theorem sm_getIm (hh : ∀ c ∈ cs, ∀ K, pm_le K V' → pm_le (i_getI K c k) V) (h : pm_le K V') : pm_le (i_getIm K cs k) V := fun ls st B S D q => by obtain ⟨c, h1, h2⟩ := q; exact hh c h1 K h ls st B S D h2
theorem sm_putRm (hh : ∀ c ∈ cs, ∀ K, pm_le K V' → pm_le (i_putR K c k) V) (h : pm_le K V') : pm_le (i_putRm K cs k) V := fun ls st B S D q => by obtain ⟨c, h1, h2⟩ := q; exact hh c h1 K h ls st B S D h2
theorem sm_putIm (hh : ∀ c ∈ cs, ∀ K, pm_le K V' → pm_le (i_putI K c k) V) (h : pm_le K V') : pm_le (i_putIm K cs k) V := fun ls st B S D q => by obtain ⟨c, h1, h2⟩ := q; exact hh c h1 K h ls st B S D h2
theorem sm_vcall (hh : ∀ q ∈ tab, ∀ K, pm_le K V' → pm_le (i_recv (i_call K q.2 (n + 1) w Hn) q.1 n) V) (h : pm_le K V') : pm_le (i_vcall K tab n w Hn) V := fun ls st B S D q => by obtain ⟨c, h1, h2⟩ := q; exact hh c h1 K h ls st B S D h2
end MM
section SM
variable {p : Program} {l : Launch} {e : Env} {R : Room} {s : State} {m : MethodId} {args : Array Value} {below : List Frame} {meth : Method} {c : Code} {G : pmG} {lo : Nat} {H0 : Heap} {nL : Nat} {cl : List vw_C} {ft : Nat → Nat → Bool} {kt : List (Nat × FieldType)} {XN : String} {Ts : List Cond} {own : String} {cc : ByteArray} {pc : Nat}
theorem sx_outP {E : Ex} (F : pmF p s m args c G nL cl kt Ts own cc) (hlocks : meth.locks = false) (hpass : ∀ z ∈ c.exceptionTable.toList, covers z pc = false ∨ (z.catchType ≠ 0 ∧ ∃ nm : String, (Cond.classLink own z.catchType nm).before args s = true ∧ va_Nc XN nm s)) : pmX p l e R s m args below meth c G lo H0 nL cl ft XN (vy_MQ below (pmQc G cl ft lo H0 E) (pmXC G cl ft XN lo H0 E) args s R.cells R.slots (fun q => lo ≤ q)) pc (i_raise E) := by
  intro q ls B S D H locs la cells slots rest ce k hc hs hR hL hl hq hvm hcls
  exact vy_outP F.1.2.2.2.1 hlocks hpass hq hvm hcls (fun t ht hW => ⟨B, S, D, rfl, k, by rw [ht]; exact hR⟩) hL (by omega) (by omega)
end SM
