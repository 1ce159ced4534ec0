theorem q373 : (Jvm.Cond.sameMethod "[B" "java/lang/Object" "clone" "()Ljava/lang/Object;") ∈ lw_all := lw_g (lw_at lw_m2 34 rfl) rfl
set_option maxRecDepth 100000
theorem q376 : (Jvm.Cond.selects "[B" ({ cls := "[B", name := "clone", desc := "()Ljava/lang/Object;" } : Jvm.MethodName) ({ cls := "java/lang/Object", name := "clone", desc := "()Ljava/lang/Object;" } : Jvm.MethodName)) ∈ lw_all := lw_g (lw_at lw_m2 37 rfl) rfl
theorem q377 : (Jvm.Cond.castable "[B" "java/lang/Cloneable") ∈ lw_tbl := lw_at lw_m2 38 rfl

theorem q117 : (Jvm.Cond.initialized "java/lang/System") ∈ lw_all := lw_g (lw_at lw_m1 18 rfl) rfl
set_option maxRecDepth 100000
theorem q381 : (Jvm.Cond.static ({ cls := "java/lang/System", name := "arraycopy", desc := "(Ljava/lang/Object;ILjava/lang/Object;II)V" } : Jvm.MethodName)) ∈ lw_all := lw_g (lw_at lw_m2 42 rfl) rfl
theorem q382 : (Jvm.Cond.native ({ cls := "java/lang/System", name := "arraycopy", desc := "(Ljava/lang/Object;ILjava/lang/Object;II)V" } : Jvm.MethodName)) ∈ lw_all := lw_g (lw_at lw_m2 43 rfl) rfl

theorem q163 : (Jvm.Cond.arrayClass Jvm.ClassFile.FieldType.byte) ∈ lw_all := lw_g (lw_at lw_m1 64 rfl) rfl
set_option maxRecDepth 100000
theorem q219 : (Jvm.Cond.arrayOver (Jvm.ClassFile.FieldType.object "ClassGate$Fld")) ∈ lw_tbl := lw_at lw_m1 120 rfl
theorem q221 : (Jvm.Cond.arrayOver (Jvm.ClassFile.FieldType.object "ClassGate$Mth")) ∈ lw_tbl := lw_at lw_m1 122 rfl
theorem q223 : (Jvm.Cond.arrayOver (Jvm.ClassFile.FieldType.array Jvm.ClassFile.FieldType.int)) ∈ lw_tbl := lw_at lw_m1 124 rfl
theorem q297 : (Jvm.Cond.arrayClass Jvm.ClassFile.FieldType.int) ∈ lw_all := lw_g (lw_at lw_m1 198 rfl) rfl
theorem q334 : (Jvm.Cond.arrayOver (Jvm.ClassFile.FieldType.object "java/lang/String")) ∈ lw_tbl := lw_at lw_m1 235 rfl
theorem q609 : (Jvm.Cond.arrayClass Jvm.ClassFile.FieldType.long) ∈ lw_all := lw_g (lw_at lw_m3 30 rfl) rfl
theorem q1474 : (Jvm.Cond.arrayClass Jvm.ClassFile.FieldType.char) ∈ lw_all := lw_g (lw_at lw_m6 175 rfl) rfl

/-! java/lang/Object -/
set_option maxRecDepth 100000
def RJ16 : String := "java/lang/Object"
abbrev cJ16_init : ByteArray := object_method_1_code
def yJ16_init : MethodName := ⟨RJ16, "<init>", "()V"⟩
theorem q128 : (Jvm.Cond.instanceMethod ({ cls := "java/lang/Object", name := "<init>", desc := "()V" } : Jvm.MethodName)) ∈ lw_all := lw_g (lw_at lw_m1 29 rfl) rfl
theorem q129 : (Jvm.Cond.code ({ cls := "java/lang/Object", name := "<init>", desc := "()V" } : Jvm.MethodName) object_method_1_code (1 : Nat) (Option.none : Option Jvm.ClassFile.FieldType)) ∈ lw_all := lw_g (lw_at lw_m1 30 rfl) rfl
theorem q374 : (Jvm.Cond.native ({ cls := "java/lang/Object", name := "clone", desc := "()Ljava/lang/Object;" } : Jvm.MethodName)) ∈ lw_all := lw_g (lw_at lw_m2 35 rfl) rfl
theorem q375 : (Jvm.Cond.instanceMethod ({ cls := "java/lang/Object", name := "clone", desc := "()Ljava/lang/Object;" } : Jvm.MethodName)) ∈ lw_all := lw_g (lw_at lw_m2 36 rfl) rfl

/-! ClassGateModel -/
set_option maxRecDepth 100000
def RX2 : String := "ClassGateModel"
def TX2 : u_T := fun k => match k with
  | 0 => ("ClassGateModel", "thrown", "I", false)
  | 1 => ("ClassGateModel", "chars", "[C", true)
  | 2 => ("ClassGateModel", "cut", "[C", true)
  | 3 => ("ClassGateModel", "charsN", "I", false)
  | 4 => ("ClassGateModel", "symAt", "[I", true)
  | 5 => ("ClassGateModel", "symLen", "[I", true)
  | 6 => ("ClassGateModel", "symNext", "[I", true)
  | 7 => ("ClassGateModel", "symHead", "[I", true)
  | 8 => ("ClassGateModel", "syms", "I", false)
  | 9 => ("ClassGateModel", "S_INIT", "I", false)
  | 10 => ("ClassGateModel", "S_CLINIT", "I", false)
  | 11 => ("ClassGateModel", "S_OBJECT", "I", false)
  | 12 => ("ClassGateModel", "files", "[B", true)
  | 13 => ("ClassGateModel", "file", "[B", true)
  | 14 => ("ClassGateModel", "kept", "[B", true)
  | 15 => ("ClassGateModel", "came", "[B", true)
  | 16 => ("ClassGateModel", "size", "I", false)
  | 17 => ("ClassGateModel", "fileN", "I", false)
  | 18 => ("ClassGateModel", "keptN", "I", false)
  | 19 => ("ClassGateModel", "cameN", "I", false)
  | 20 => ("ClassGateModel", "pool", "I", false)
  | 21 => ("ClassGateModel", "pAt", "[I", true)
  | 22 => ("ClassGateModel", "pSym", "[I", true)
  | 23 => ("ClassGateModel", "pState", "[I", true)
  | 24 => ("ClassGateModel", "pObj", "[I", true)
  | 25 => ("ClassGateModel", "fields", "I", false)
  | 26 => ("ClassGateModel", "methods", "I", false)
  | 27 => ("ClassGateModel", "fFlags", "[I", true)
  | 28 => ("ClassGateModel", "fName", "[I", true)
  | 29 => ("ClassGateModel", "fDesc", "[I", true)
  | 30 => ("ClassGateModel", "fConst", "[I", true)
  | 31 => ("ClassGateModel", "fKnown", "[I", true)
  | 32 => ("ClassGateModel", "fNameAt", "[I", true)
  | 33 => ("ClassGateModel", "fDescAt", "[I", true)
  | 34 => ("ClassGateModel", "mFlags", "[I", true)
  | 35 => ("ClassGateModel", "mName", "[I", true)
  | 36 => ("ClassGateModel", "mDesc", "[I", true)
  | 37 => ("ClassGateModel", "mCode", "[I", true)
  | 38 => ("ClassGateModel", "mLen", "[I", true)
  | 39 => ("ClassGateModel", "mStack", "[I", true)
  | 40 => ("ClassGateModel", "mLocals", "[I", true)
  | 41 => ("ClassGateModel", "mRows", "[I", true)
  | 42 => ("ClassGateModel", "mRowN", "[I", true)
  | 43 => ("ClassGateModel", "mKnown", "[I", true)
  | 44 => ("ClassGateModel", "mThrows", "[I", true)
  | 45 => ("ClassGateModel", "mNameAt", "[I", true)
  | 46 => ("ClassGateModel", "mDescAt", "[I", true)
  | 47 => ("ClassGateModel", "rule", "I", false)
  | 48 => ("ClassGateModel", "wrongAt", "I", false)
  | 49 => ("ClassGateModel", "base", "I", false)
  | 50 => ("ClassGateModel", "pos", "I", false)
  | 51 => ("ClassGateModel", "cpBase", "I", false)
  | 52 => ("ClassGateModel", "cpN", "I", false)
  | 53 => ("ClassGateModel", "major", "I", false)
  | 54 => ("ClassGateModel", "headAt", "I", false)
  | 55 => ("ClassGateModel", "fieldsAt", "I", false)
  | 56 => ("ClassGateModel", "methodsAt", "I", false)
  | 57 => ("ClassGateModel", "attributesAt", "I", false)
  | 58 => ("ClassGateModel", "newFlags", "I", false)
  | 59 => ("ClassGateModel", "newName", "I", false)
  | 60 => ("ClassGateModel", "newSuper", "I", false)
  | 61 => ("ClassGateModel", "newIfs", "I", false)
  | 62 => ("ClassGateModel", "KNOWN", "[Ljava/lang/String;", true)
  | 63 => ("ClassGateModel", "KNOWN_IN", "[I", true)
  | 64 => ("ClassGateModel", "KNOWN_FROM", "[I", true)
  | 65 => ("ClassGateModel", "newInners", "I", false)
  | 66 => ("ClassGateModel", "newKnown", "I", false)
  | 67 => ("ClassGateModel", "newHost", "I", false)
  | 68 => ("ClassGateModel", "newMembers", "I", false)
  | 69 => ("ClassGateModel", "newPermitted", "I", false)
  | 70 => ("ClassGateModel", "newBoot", "I", false)
  | 71 => ("ClassGateModel", "newBootN", "I", false)
  | 72 => ("ClassGateModel", "newRecord", "I", false)
  | 73 => ("ClassGateModel", "lastPlace", "I", false)
  | 74 => ("ClassGateModel", "cutOf", "I", false)
  | 75 => ("ClassGateModel", "many", "I", false)
  | 76 => ("ClassGateModel", "wrongCode", "I", false)
  | 77 => ("ClassGateModel", "codeAt", "I", false)
  | 78 => ("ClassGateModel", "codeLen", "I", false)
  | 79 => ("ClassGateModel", "maxL", "I", false)
  | 80 => ("ClassGateModel", "begins", "[I", true)
  | _ => ("ClassGateModel", "which", "[I", true)
def tyX2 : Nat → FieldType := fun k => match k with
  | 0 => .int
  | 1 => .array .char
  | 2 => .array .char
  | 3 => .int
  | 4 => .array .int
  | 5 => .array .int
  | 6 => .array .int
  | 7 => .array .int
  | 8 => .int
  | 9 => .int
  | 10 => .int
  | 11 => .int
  | 12 => .array .byte
  | 13 => .array .byte
  | 14 => .array .byte
  | 15 => .array .byte
  | 16 => .int
  | 17 => .int
  | 18 => .int
  | 19 => .int
  | 20 => .int
  | 21 => .array .int
  | 22 => .array .int
  | 23 => .array .int
  | 24 => .array .int
  | 25 => .int
  | 26 => .int
  | 27 => .array .int
  | 28 => .array .int
  | 29 => .array .int
  | 30 => .array .int
  | 31 => .array .int
  | 32 => .array .int
  | 33 => .array .int
  | 34 => .array .int
  | 35 => .array .int
  | 36 => .array .int
  | 37 => .array .int
  | 38 => .array .int
  | 39 => .array .int
  | 40 => .array .int
  | 41 => .array .int
  | 42 => .array .int
  | 43 => .array .int
  | 44 => .array .int
  | 45 => .array .int
  | 46 => .array .int
  | 47 => .int
  | 48 => .int
  | 49 => .int
  | 50 => .int
  | 51 => .int
  | 52 => .int
  | 53 => .int
  | 54 => .int
  | 55 => .int
  | 56 => .int
  | 57 => .int
  | 58 => .int
  | 59 => .int
  | 60 => .int
  | 61 => .int
  | 62 => .array (.object "java/lang/String")
  | 63 => .array .int
  | 64 => .array .int
  | 65 => .int
  | 66 => .int
  | 67 => .int
  | 68 => .int
  | 69 => .int
  | 70 => .int
  | 71 => .int
  | 72 => .int
  | 73 => .int
  | 74 => .int
  | 75 => .int
  | 76 => .int
  | 77 => .int
  | 78 => .int
  | 79 => .int
  | 80 => .array .int
  | _ => .array .int
abbrev wsX20 : List Cond := u_ws RX2 TX2 82
set_option maxRecDepth 100000 in
theorem nmX2 : ∀ a, a < 82 → ∀ b, b < 82 → a ≠ b → (TX2 a).2.1 ≠ (TX2 b).2.1 := by decide +kernel
set_option maxRecDepth 100000 in
theorem tyX2_ok : ∀ k, k < 82 → parseFieldDescriptor (TX2 k).2.2.1 = some (tyX2 k) := by decide +kernel
abbrev cX2_thrown : ByteArray := prog_6_method_1_code
def yX2_thrown : MethodName := ⟨RX2, "thrown", "()I"⟩
abbrev cX2_init : ByteArray := prog_6_method_2_code
def yX2_init : MethodName := ⟨RX2, "<init>", "()V"⟩
abbrev cX2_clear : ByteArray := prog_6_method_3_code
def yX2_clear : MethodName := ⟨RX2, "clear", "()V"⟩
abbrev cX2_symbol : ByteArray := prog_6_method_4_code
def yX2_symbol : MethodName := ⟨RX2, "symbol", "(Ljava/lang/String;)I"⟩
abbrev cX2_symbol_2 : ByteArray := prog_6_method_5_code
def yX2_symbol_2 : MethodName := ⟨RX2, "symbol", "(I)I"⟩
abbrev cX2_feed : ByteArray := prog_6_method_47_code
def yX2_feed : MethodName := ⟨RX2, "feed", "(IIIII)I"⟩
abbrev cX2_four : ByteArray := prog_6_method_48_code
def yX2_four : MethodName := ⟨RX2, "four", "(I)V"⟩
abbrev cX2_end : ByteArray := prog_6_method_50_code
def yX2_end : MethodName := ⟨RX2, "end", "(I)I"⟩
abbrev cX2_bad : ByteArray := prog_6_method_49_code
def yX2_bad : MethodName := ⟨RX2, "bad", "()I"⟩
abbrev cX2_read : ByteArray := prog_6_method_51_code
def yX2_read : MethodName := ⟨RX2, "read", "()I"⟩
abbrev cX2_parse : ByteArray := prog_6_method_52_code
def yX2_parse : MethodName := ⟨RX2, "parse", "([BI)Z"⟩
abbrev cX2_checkFile : ByteArray := prog_6_method_46_code
def yX2_checkFile : MethodName := ⟨RX2, "checkFile", "()Z"⟩
abbrev cX2_readFile : ByteArray := prog_6_method_17_code
def yX2_readFile : MethodName := ⟨RX2, "readFile", "()Z"⟩
abbrev cX2_item : ByteArray := prog_6_method_13_code
def yX2_item : MethodName := ⟨RX2, "item", "(J)Z"⟩
abbrev cX2_wrong : ByteArray := prog_6_method_12_code
def yX2_wrong : MethodName := ⟨RX2, "wrong", "(II)Z"⟩
abbrev cX2_u4 : ByteArray := prog_6_method_11_code
def yX2_u4 : MethodName := ⟨RX2, "u4", "(I)J"⟩
abbrev cX2_u2 : ByteArray := prog_6_method_10_code
def yX2_u2 : MethodName := ⟨RX2, "u2", "(I)I"⟩
abbrev cX2_u1 : ByteArray := prog_6_method_9_code
def yX2_u1 : MethodName := ⟨RX2, "u1", "(I)I"⟩
abbrev cX2_readPool : ByteArray := prog_6_method_20_code
def yX2_readPool : MethodName := ⟨RX2, "readPool", "()Z"⟩
abbrev cX2_utf8 : ByteArray := prog_6_method_21_code
def yX2_utf8 : MethodName := ⟨RX2, "utf8", "(III)Z"⟩
abbrev cX2_members : ByteArray := prog_6_method_18_code
def yX2_members : MethodName := ⟨RX2, "members", "()Z"⟩
abbrev cX2_attributes : ByteArray := prog_6_method_19_code
def yX2_attributes : MethodName := ⟨RX2, "attributes", "()Z"⟩
abbrev cX2_checkPool : ByteArray := prog_6_method_30_code
def yX2_checkPool : MethodName := ⟨RX2, "checkPool", "()Z"⟩
abbrev cX2_indexes : ByteArray := prog_6_method_32_code
def yX2_indexes : MethodName := ⟨RX2, "indexes", "(IIZ)Z"⟩
abbrev cX2_index : ByteArray := prog_6_method_15_code
def yX2_index : MethodName := ⟨RX2, "index", "(II)I"⟩
abbrev cX2_tag : ByteArray := prog_6_method_14_code
def yX2_tag : MethodName := ⟨RX2, "tag", "(I)I"⟩
abbrev cX2_symOf : ByteArray := prog_6_method_16_code
def yX2_symOf : MethodName := ⟨RX2, "symOf", "(I)I"⟩
abbrev cX2_classText : ByteArray := prog_6_method_23_code
def yX2_classText : MethodName := ⟨RX2, "classText", "(I)Z"⟩
abbrev cX2_length : ByteArray := prog_6_method_6_code
def yX2_length : MethodName := ⟨RX2, "length", "(I)I"⟩
abbrev cX2_at : ByteArray := prog_6_method_7_code
def yX2_at : MethodName := ⟨RX2, "at", "(II)C"⟩
abbrev cX2_fieldText : ByteArray := prog_6_method_25_code
def yX2_fieldText : MethodName := ⟨RX2, "fieldText", "(II)I"⟩
abbrev cX2_nameText : ByteArray := prog_6_method_24_code
def yX2_nameText : MethodName := ⟨RX2, "nameText", "(III)Z"⟩
abbrev cX2_unqualified : ByteArray := prog_6_method_22_code
def yX2_unqualified : MethodName := ⟨RX2, "unqualified", "(IZ)Z"⟩
abbrev cX2_isField : ByteArray := prog_6_method_26_code
def yX2_isField : MethodName := ⟨RX2, "isField", "(I)Z"⟩
abbrev cX2_isMethod : ByteArray := prog_6_method_27_code
def yX2_isMethod : MethodName := ⟨RX2, "isMethod", "(I)Z"⟩
abbrev cX2_places0 : ByteArray := prog_6_method_28_code
def yX2_places0 : MethodName := ⟨RX2, "places0", "(I)I"⟩
abbrev cX2_angles : ByteArray := prog_6_method_31_code
def yX2_angles : MethodName := ⟨RX2, "angles", "(I)Z"⟩
abbrev cX2_endsV : ByteArray := prog_6_method_29_code
def yX2_endsV : MethodName := ⟨RX2, "endsV", "(I)Z"⟩
abbrev cX2_handleEntry : ByteArray := prog_6_method_33_code
def yX2_handleEntry : MethodName := ⟨RX2, "handleEntry", "(I)Z"⟩
abbrev cX2_checkClass : ByteArray := prog_6_method_36_code
def yX2_checkClass : MethodName := ⟨RX2, "checkClass", "()Z"⟩
abbrev cX2_plainClass : ByteArray := prog_6_method_35_code
def yX2_plainClass : MethodName := ⟨RX2, "plainClass", "(I)Z"⟩
abbrev cX2_className : ByteArray := prog_6_method_34_code
def yX2_className : MethodName := ⟨RX2, "className", "(I)I"⟩
abbrev cX2_checkFields : ByteArray := prog_6_method_38_code
def yX2_checkFields : MethodName := ⟨RX2, "checkFields", "()Z"⟩
abbrev cX2_several : ByteArray := prog_6_method_37_code
def yX2_several : MethodName := ⟨RX2, "several", "(IIII)Z"⟩
abbrev cX2_checkAttributes : ByteArray := prog_6_method_41_code
def yX2_checkAttributes : MethodName := ⟨RX2, "checkAttributes", "(III)I"⟩
abbrev cX2_is : ByteArray := prog_6_method_8_code
def yX2_is : MethodName := ⟨RX2, "is", "(ILjava/lang/String;)Z"⟩
abbrev cX2_attribute : ByteArray := prog_6_method_42_code
def yX2_attribute : MethodName := ⟨RX2, "attribute", "(IIIIII)I"⟩
abbrev cX2_code : ByteArray := prog_6_method_45_code
def yX2_code : MethodName := ⟨RX2, "code", "(IIII)I"⟩
abbrev cX2_bootstraps : ByteArray := prog_6_method_43_code
def yX2_bootstraps : MethodName := ⟨RX2, "bootstraps", "(II)I"⟩
abbrev cX2_components : ByteArray := prog_6_method_44_code
def yX2_components : MethodName := ⟨RX2, "components", "(II)I"⟩
abbrev cX2_checkMethods : ByteArray := prog_6_method_39_code
def yX2_checkMethods : MethodName := ⟨RX2, "checkMethods", "()Z"⟩
abbrev cX2_flagsFit : ByteArray := prog_6_method_40_code
def yX2_flagsFit : MethodName := ⟨RX2, "flagsFit", "(IZZ)Z"⟩
abbrev cX2_place : ByteArray := prog_6_method_53_code
def yX2_place : MethodName := ⟨RX2, "place", "()I"⟩
abbrev cX2_count : ByteArray := prog_6_method_54_code
def yX2_count : MethodName := ⟨RX2, "count", "(I)I"⟩
abbrev cX2_entry : ByteArray := prog_6_method_55_code
def yX2_entry : MethodName := ⟨RX2, "entry", "(II)I"⟩
abbrev cX2_bits : ByteArray := prog_6_method_56_code
def yX2_bits : MethodName := ⟨RX2, "bits", "(I)J"⟩
abbrev cX2_character : ByteArray := prog_6_method_57_code
def yX2_character : MethodName := ⟨RX2, "character", "(II)I"⟩
abbrev cX2_member : ByteArray := prog_6_method_58_code
def yX2_member : MethodName := ⟨RX2, "member", "(ZII)I"⟩
abbrev cX2_find : ByteArray := prog_6_method_59_code
def yX2_find : MethodName := ⟨RX2, "find", "(ZII)I"⟩
abbrev cX2_row : ByteArray := prog_6_method_60_code
def yX2_row : MethodName := ⟨RX2, "row", "(III)I"⟩
abbrev cX2_bootstrap : ByteArray := prog_6_method_61_code
def yX2_bootstrap : MethodName := ⟨RX2, "bootstrap", "(II)I"⟩
abbrev cX2_places : ByteArray := prog_6_method_62_code
def yX2_places : MethodName := ⟨RX2, "places", "(I)I"⟩
abbrev cX2_wide : ByteArray := prog_6_method_63_code
def yX2_wide : MethodName := ⟨RX2, "wide", "(II)Z"⟩
abbrev cX2_cut : ByteArray := prog_6_method_80_code
def yX2_cut : MethodName := ⟨RX2, "cut", "(I)I"⟩
abbrev cX2_noCode : ByteArray := prog_6_method_69_code
def yX2_noCode : MethodName := ⟨RX2, "noCode", "(I)Z"⟩
abbrev cX2_cuts : ByteArray := prog_6_method_70_code
def yX2_cuts : MethodName := ⟨RX2, "cuts", "(I)Z"⟩
abbrev cX2_b1 : ByteArray := prog_6_method_64_code
def yX2_b1 : MethodName := ⟨RX2, "b1", "(I)I"⟩
abbrev cX2_formed : ByteArray := prog_6_method_71_code
def yX2_formed : MethodName := ⟨RX2, "formed", "(II)I"⟩
abbrev cX2_pad : ByteArray := prog_6_method_68_code
def yX2_pad : MethodName := ⟨RX2, "pad", "(I)I"⟩
abbrev cX2_b4 : ByteArray := prog_6_method_67_code
def yX2_b4 : MethodName := ⟨RX2, "b4", "(I)I"⟩
abbrev cX2_operands : ByteArray := prog_6_method_75_code
def yX2_operands : MethodName := ⟨RX2, "operands", "(II)Z"⟩
abbrev cX2_local : ByteArray := prog_6_method_72_code
def yX2_local : MethodName := ⟨RX2, "local", "(II)Z"⟩
abbrev cX2_b2 : ByteArray := prog_6_method_65_code
def yX2_b2 : MethodName := ⟨RX2, "b2", "(I)I"⟩
abbrev cX2_descOf : ByteArray := prog_6_method_74_code
def yX2_descOf : MethodName := ⟨RX2, "descOf", "(I)I"⟩
abbrev cX2_nameOf : ByteArray := prog_6_method_73_code
def yX2_nameOf : MethodName := ⟨RX2, "nameOf", "(I)I"⟩
abbrev cX2_aims : ByteArray := prog_6_method_77_code
def yX2_aims : MethodName := ⟨RX2, "aims", "(I)Z"⟩
abbrev cX2_s2 : ByteArray := prog_6_method_66_code
def yX2_s2 : MethodName := ⟨RX2, "s2", "(I)I"⟩
abbrev cX2_starts : ByteArray := prog_6_method_76_code
def yX2_starts : MethodName := ⟨RX2, "starts", "(J)Z"⟩
abbrev cX2_ways : ByteArray := prog_6_method_78_code
def yX2_ways : MethodName := ⟨RX2, "ways", "(I)I"⟩
abbrev cX2_wayAt : ByteArray := prog_6_method_79_code
def yX2_wayAt : MethodName := ⟨RX2, "wayAt", "(II)I"⟩
abbrev cX2_instruction : ByteArray := prog_6_method_81_code
def yX2_instruction : MethodName := ⟨RX2, "instruction", "(III)I"⟩
abbrev cX2_plain : ByteArray := prog_6_method_82_code
def yX2_plain : MethodName := ⟨RX2, "plain", "(II)I"⟩
abbrev cX2_first : ByteArray := prog_6_method_83_code
def yX2_first : MethodName := ⟨RX2, "first", "(II)I"⟩
abbrev cX2_second : ByteArray := prog_6_method_84_code
def yX2_second : MethodName := ⟨RX2, "second", "(II)I"⟩
abbrev cX2_jump : ByteArray := prog_6_method_85_code
def yX2_jump : MethodName := ⟨RX2, "jump", "(IIIZ)I"⟩
theorem q105 : (Jvm.Cond.initialized "ClassGateModel") ∈ lw_all := lw_g (lw_at lw_m1 6 rfl) rfl
theorem q1186 : (Jvm.Cond.instanceMethod ({ cls := "ClassGateModel", name := "thrown", desc := "()I" } : Jvm.MethodName)) ∈ lw_all := lw_g (lw_at lw_m5 127 rfl) rfl
theorem q1187 : (Jvm.Cond.selects "ClassGateModel" ({ cls := "ClassGateModel", name := "thrown", desc := "()I" } : Jvm.MethodName) ({ cls := "ClassGateModel", name := "thrown", desc := "()I" } : Jvm.MethodName)) ∈ lw_all := lw_g (lw_at lw_m5 128 rfl) rfl
theorem q1188 : (Jvm.Cond.code ({ cls := "ClassGateModel", name := "thrown", desc := "()I" } : Jvm.MethodName) prog_6_method_1_code (1 : Nat) (Option.some Jvm.ClassFile.FieldType.int)) ∈ lw_all := lw_g (lw_at lw_m5 129 rfl) rfl
theorem q1190 : (Jvm.Cond.instantiable "ClassGateModel" (82 : Nat)) ∈ lw_all := lw_g (lw_at lw_m5 131 rfl) rfl
theorem q1192 : (Jvm.Cond.instanceMethod ({ cls := "ClassGateModel", name := "<init>", desc := "()V" } : Jvm.MethodName)) ∈ lw_all := lw_g (lw_at lw_m5 133 rfl) rfl
theorem q1193 : (Jvm.Cond.code ({ cls := "ClassGateModel", name := "<init>", desc := "()V" } : Jvm.MethodName) prog_6_method_2_code (1 : Nat) (Option.none : Option Jvm.ClassFile.FieldType)) ∈ lw_all := lw_g (lw_at lw_m5 134 rfl) rfl
theorem q1194 : (Jvm.Cond.methodLink "ClassGateModel" (7 : Nat) ({ cls := "java/lang/Object", name := "<init>", desc := "()V" } : Jvm.MethodName)) ∈ lw_all := lw_g (lw_at lw_m5 135 rfl) rfl
theorem q1195 : (Jvm.Cond.constant "ClassGateModel" (13 : Nat) (66000 : Int32)) ∈ lw_all := lw_g (lw_at lw_m5 136 rfl) rfl
theorem q1196 : (Jvm.Cond.constant "ClassGateModel" (34 : Nat) (65600 : Int32)) ∈ lw_all := lw_g (lw_at lw_m5 137 rfl) rfl
theorem q1197 : (Jvm.Cond.constant "ClassGateModel" (39 : Nat) (65560 : Int32)) ∈ lw_all := lw_g (lw_at lw_m5 138 rfl) rfl
theorem q1198 : (Jvm.Cond.constant "ClassGateModel" (52 : Nat) (65540 : Int32)) ∈ lw_all := lw_g (lw_at lw_m5 139 rfl) rfl
theorem q1199 : (Jvm.Cond.classLink "ClassGateModel" (125 : Nat) "java/lang/String") ∈ lw_all := lw_g (lw_at lw_m5 140 rfl) rfl
theorem q1200 : (Jvm.Cond.stringRef "ClassGateModel" (127 : Nat) "ConstantValue") ∈ lw_tbl := lw_at lw_m5 141 rfl
theorem q1201 : (Jvm.Cond.stringRef "ClassGateModel" (129 : Nat) "Code") ∈ lw_tbl := lw_at lw_m5 142 rfl
theorem q1202 : (Jvm.Cond.stringRef "ClassGateModel" (131 : Nat) "Exceptions") ∈ lw_tbl := lw_at lw_m5 143 rfl
theorem q1203 : (Jvm.Cond.stringRef "ClassGateModel" (133 : Nat) "StackMapTable") ∈ lw_tbl := lw_at lw_m5 144 rfl
theorem q1204 : (Jvm.Cond.stringRef "ClassGateModel" (135 : Nat) "InnerClasses") ∈ lw_tbl := lw_at lw_m5 145 rfl
theorem q1205 : (Jvm.Cond.stringRef "ClassGateModel" (137 : Nat) "BootstrapMethods") ∈ lw_tbl := lw_at lw_m5 146 rfl
theorem q1206 : (Jvm.Cond.stringRef "ClassGateModel" (139 : Nat) "NestHost") ∈ lw_tbl := lw_at lw_m5 147 rfl
theorem q1207 : (Jvm.Cond.stringRef "ClassGateModel" (141 : Nat) "NestMembers") ∈ lw_tbl := lw_at lw_m5 148 rfl
theorem q1208 : (Jvm.Cond.stringRef "ClassGateModel" (143 : Nat) "Record") ∈ lw_tbl := lw_at lw_m5 149 rfl
theorem q1209 : (Jvm.Cond.stringRef "ClassGateModel" (145 : Nat) "PermittedSubclasses") ∈ lw_tbl := lw_at lw_m5 150 rfl
theorem q1210 : (Jvm.Cond.methodLink "ClassGateModel" (169 : Nat) ({ cls := "ClassGateModel", name := "clear", desc := "()V" } : Jvm.MethodName)) ∈ lw_all := lw_g (lw_at lw_m5 151 rfl) rfl
theorem q1211 : (Jvm.Cond.privateMethod ({ cls := "ClassGateModel", name := "clear", desc := "()V" } : Jvm.MethodName)) ∈ lw_tbl := lw_at lw_m5 152 rfl
theorem q1212 : (Jvm.Cond.instanceMethod ({ cls := "ClassGateModel", name := "clear", desc := "()V" } : Jvm.MethodName)) ∈ lw_all := lw_g (lw_at lw_m5 153 rfl) rfl
theorem q1213 : (Jvm.Cond.code ({ cls := "ClassGateModel", name := "clear", desc := "()V" } : Jvm.MethodName) prog_6_method_3_code (2 : Nat) (Option.none : Option Jvm.ClassFile.FieldType)) ∈ lw_all := lw_g (lw_at lw_m5 154 rfl) rfl
theorem q1214 : (Jvm.Cond.stringRef "ClassGateModel" (178 : Nat) "<init>") ∈ lw_tbl := lw_at lw_m5 155 rfl
theorem q1215 : (Jvm.Cond.methodLink "ClassGateModel" (179 : Nat) ({ cls := "ClassGateModel", name := "symbol", desc := "(Ljava/lang/String;)I" } : Jvm.MethodName)) ∈ lw_all := lw_g (lw_at lw_m5 156 rfl) rfl
theorem q1216 : (Jvm.Cond.privateMethod ({ cls := "ClassGateModel", name := "symbol", desc := "(Ljava/lang/String;)I" } : Jvm.MethodName)) ∈ lw_tbl := lw_at lw_m5 157 rfl
theorem q1217 : (Jvm.Cond.instanceMethod ({ cls := "ClassGateModel", name := "symbol", desc := "(Ljava/lang/String;)I" } : Jvm.MethodName)) ∈ lw_all := lw_g (lw_at lw_m5 158 rfl) rfl
theorem q1218 : (Jvm.Cond.code ({ cls := "ClassGateModel", name := "symbol", desc := "(Ljava/lang/String;)I" } : Jvm.MethodName) prog_6_method_4_code (3 : Nat) (Option.some Jvm.ClassFile.FieldType.int)) ∈ lw_all := lw_g (lw_at lw_m5 159 rfl) rfl
theorem q1219 : (Jvm.Cond.methodLink "ClassGateModel" (204 : Nat) ({ cls := "java/lang/String", name := "length", desc := "()I" } : Jvm.MethodName)) ∈ lw_all := lw_g (lw_at lw_m5 160 rfl) rfl
theorem q1220 : (Jvm.Cond.methodLink "ClassGateModel" (208 : Nat) ({ cls := "java/lang/String", name := "charAt", desc := "(I)C" } : Jvm.MethodName)) ∈ lw_all := lw_g (lw_at lw_m5 161 rfl) rfl
theorem q1221 : (Jvm.Cond.methodLink "ClassGateModel" (212 : Nat) ({ cls := "ClassGateModel", name := "symbol", desc := "(I)I" } : Jvm.MethodName)) ∈ lw_all := lw_g (lw_at lw_m5 162 rfl) rfl
theorem q1222 : (Jvm.Cond.privateMethod ({ cls := "ClassGateModel", name := "symbol", desc := "(I)I" } : Jvm.MethodName)) ∈ lw_tbl := lw_at lw_m5 163 rfl
theorem q1223 : (Jvm.Cond.instanceMethod ({ cls := "ClassGateModel", name := "symbol", desc := "(I)I" } : Jvm.MethodName)) ∈ lw_all := lw_g (lw_at lw_m5 164 rfl) rfl
theorem q1224 : (Jvm.Cond.code ({ cls := "ClassGateModel", name := "symbol", desc := "(I)I" } : Jvm.MethodName) prog_6_method_5_code (6 : Nat) (Option.some Jvm.ClassFile.FieldType.int)) ∈ lw_all := lw_g (lw_at lw_m5 165 rfl) rfl
theorem q1225 : (Jvm.Cond.stringRef "ClassGateModel" (186 : Nat) "<clinit>") ∈ lw_tbl := lw_at lw_m5 166 rfl
theorem q1226 : (Jvm.Cond.stringRef "ClassGateModel" (191 : Nat) "java/lang/Object") ∈ lw_tbl := lw_at lw_m5 167 rfl
theorem q1227 : (Jvm.Cond.fieldLink "ClassGateModel" (1 : Nat) "ClassGateModel" "thrown" "I") ∈ lw_all := lw_g (lw_at lw_m5 168 rfl) rfl
theorem q1228 : (Jvm.Cond.fieldLink "ClassGateModel" (14 : Nat) "ClassGateModel" "chars" "[C") ∈ lw_all := lw_g (lw_at lw_m5 169 rfl) rfl
theorem q1229 : (Jvm.Cond.fieldLink "ClassGateModel" (18 : Nat) "ClassGateModel" "cut" "[C") ∈ lw_all := lw_g (lw_at lw_m5 170 rfl) rfl
theorem q1230 : (Jvm.Cond.fieldLink "ClassGateModel" (172 : Nat) "ClassGateModel" "charsN" "I") ∈ lw_all := lw_g (lw_at lw_m5 171 rfl) rfl
theorem q1231 : (Jvm.Cond.fieldLink "ClassGateModel" (21 : Nat) "ClassGateModel" "symAt" "[I") ∈ lw_all := lw_g (lw_at lw_m5 172 rfl) rfl
theorem q1232 : (Jvm.Cond.fieldLink "ClassGateModel" (25 : Nat) "ClassGateModel" "symLen" "[I") ∈ lw_all := lw_g (lw_at lw_m5 173 rfl) rfl
theorem q1233 : (Jvm.Cond.fieldLink "ClassGateModel" (28 : Nat) "ClassGateModel" "symNext" "[I") ∈ lw_all := lw_g (lw_at lw_m5 174 rfl) rfl
theorem q1234 : (Jvm.Cond.fieldLink "ClassGateModel" (31 : Nat) "ClassGateModel" "symHead" "[I") ∈ lw_all := lw_g (lw_at lw_m5 175 rfl) rfl
theorem q1235 : (Jvm.Cond.fieldLink "ClassGateModel" (175 : Nat) "ClassGateModel" "syms" "I") ∈ lw_all := lw_g (lw_at lw_m5 176 rfl) rfl
theorem q1236 : (Jvm.Cond.fieldLink "ClassGateModel" (183 : Nat) "ClassGateModel" "S_INIT" "I") ∈ lw_all := lw_g (lw_at lw_m5 177 rfl) rfl
theorem q1237 : (Jvm.Cond.fieldLink "ClassGateModel" (188 : Nat) "ClassGateModel" "S_CLINIT" "I") ∈ lw_all := lw_g (lw_at lw_m5 178 rfl) rfl
theorem q1238 : (Jvm.Cond.fieldLink "ClassGateModel" (192 : Nat) "ClassGateModel" "S_OBJECT" "I") ∈ lw_all := lw_g (lw_at lw_m5 179 rfl) rfl
theorem q1239 : (Jvm.Cond.fieldLink "ClassGateModel" (35 : Nat) "ClassGateModel" "files" "[B") ∈ lw_all := lw_g (lw_at lw_m5 180 rfl) rfl
theorem q1240 : (Jvm.Cond.fieldLink "ClassGateModel" (40 : Nat) "ClassGateModel" "file" "[B") ∈ lw_all := lw_g (lw_at lw_m5 181 rfl) rfl
theorem q1241 : (Jvm.Cond.fieldLink "ClassGateModel" (43 : Nat) "ClassGateModel" "kept" "[B") ∈ lw_all := lw_g (lw_at lw_m5 182 rfl) rfl
theorem q1242 : (Jvm.Cond.fieldLink "ClassGateModel" (46 : Nat) "ClassGateModel" "came" "[B") ∈ lw_all := lw_g (lw_at lw_m5 183 rfl) rfl
theorem q1243 : (Jvm.Cond.fieldLink "ClassGateModel" (239 : Nat) "ClassGateModel" "size" "I") ∈ lw_all := lw_g (lw_at lw_m5 184 rfl) rfl
theorem q1244 : (Jvm.Cond.fieldLink "ClassGateModel" (443 : Nat) "ClassGateModel" "fileN" "I") ∈ lw_all := lw_g (lw_at lw_m5 185 rfl) rfl
theorem q1245 : (Jvm.Cond.fieldLink "ClassGateModel" (49 : Nat) "ClassGateModel" "keptN" "I") ∈ lw_all := lw_g (lw_at lw_m5 186 rfl) rfl
theorem q1246 : (Jvm.Cond.fieldLink "ClassGateModel" (433 : Nat) "ClassGateModel" "cameN" "I") ∈ lw_all := lw_g (lw_at lw_m5 187 rfl) rfl
theorem q1247 : (Jvm.Cond.fieldLink "ClassGateModel" (195 : Nat) "ClassGateModel" "pool" "I") ∈ lw_all := lw_g (lw_at lw_m5 188 rfl) rfl
theorem q1248 : (Jvm.Cond.fieldLink "ClassGateModel" (53 : Nat) "ClassGateModel" "pAt" "[I") ∈ lw_all := lw_g (lw_at lw_m5 189 rfl) rfl
theorem q1249 : (Jvm.Cond.fieldLink "ClassGateModel" (56 : Nat) "ClassGateModel" "pSym" "[I") ∈ lw_all := lw_g (lw_at lw_m5 190 rfl) rfl
theorem q1250 : (Jvm.Cond.fieldLink "ClassGateModel" (59 : Nat) "ClassGateModel" "pState" "[I") ∈ lw_all := lw_g (lw_at lw_m5 191 rfl) rfl
theorem q1251 : (Jvm.Cond.fieldLink "ClassGateModel" (62 : Nat) "ClassGateModel" "pObj" "[I") ∈ lw_all := lw_g (lw_at lw_m5 192 rfl) rfl
theorem q1252 : (Jvm.Cond.fieldLink "ClassGateModel" (198 : Nat) "ClassGateModel" "fields" "I") ∈ lw_all := lw_g (lw_at lw_m5 193 rfl) rfl
theorem q1253 : (Jvm.Cond.fieldLink "ClassGateModel" (201 : Nat) "ClassGateModel" "methods" "I") ∈ lw_all := lw_g (lw_at lw_m5 194 rfl) rfl
theorem q1254 : (Jvm.Cond.fieldLink "ClassGateModel" (65 : Nat) "ClassGateModel" "fFlags" "[I") ∈ lw_all := lw_g (lw_at lw_m5 195 rfl) rfl
theorem q1255 : (Jvm.Cond.fieldLink "ClassGateModel" (68 : Nat) "ClassGateModel" "fName" "[I") ∈ lw_all := lw_g (lw_at lw_m5 196 rfl) rfl
theorem q1256 : (Jvm.Cond.fieldLink "ClassGateModel" (71 : Nat) "ClassGateModel" "fDesc" "[I") ∈ lw_all := lw_g (lw_at lw_m5 197 rfl) rfl
theorem q1257 : (Jvm.Cond.fieldLink "ClassGateModel" (74 : Nat) "ClassGateModel" "fConst" "[I") ∈ lw_all := lw_g (lw_at lw_m5 198 rfl) rfl
theorem q1258 : (Jvm.Cond.fieldLink "ClassGateModel" (77 : Nat) "ClassGateModel" "fKnown" "[I") ∈ lw_all := lw_g (lw_at lw_m5 199 rfl) rfl
theorem q1259 : (Jvm.Cond.fieldLink "ClassGateModel" (80 : Nat) "ClassGateModel" "fNameAt" "[I") ∈ lw_all := lw_g (lw_at lw_m5 200 rfl) rfl
theorem q1260 : (Jvm.Cond.fieldLink "ClassGateModel" (83 : Nat) "ClassGateModel" "fDescAt" "[I") ∈ lw_all := lw_g (lw_at lw_m5 201 rfl) rfl
theorem q1261 : (Jvm.Cond.fieldLink "ClassGateModel" (86 : Nat) "ClassGateModel" "mFlags" "[I") ∈ lw_all := lw_g (lw_at lw_m5 202 rfl) rfl
theorem q1262 : (Jvm.Cond.fieldLink "ClassGateModel" (89 : Nat) "ClassGateModel" "mName" "[I") ∈ lw_all := lw_g (lw_at lw_m5 203 rfl) rfl
theorem q1263 : (Jvm.Cond.fieldLink "ClassGateModel" (92 : Nat) "ClassGateModel" "mDesc" "[I") ∈ lw_all := lw_g (lw_at lw_m5 204 rfl) rfl
theorem q1264 : (Jvm.Cond.fieldLink "ClassGateModel" (95 : Nat) "ClassGateModel" "mCode" "[I") ∈ lw_all := lw_g (lw_at lw_m5 205 rfl) rfl
theorem q1265 : (Jvm.Cond.fieldLink "ClassGateModel" (98 : Nat) "ClassGateModel" "mLen" "[I") ∈ lw_all := lw_g (lw_at lw_m5 206 rfl) rfl
theorem q1266 : (Jvm.Cond.fieldLink "ClassGateModel" (101 : Nat) "ClassGateModel" "mStack" "[I") ∈ lw_all := lw_g (lw_at lw_m5 207 rfl) rfl
theorem q1267 : (Jvm.Cond.fieldLink "ClassGateModel" (104 : Nat) "ClassGateModel" "mLocals" "[I") ∈ lw_all := lw_g (lw_at lw_m5 208 rfl) rfl
theorem q1268 : (Jvm.Cond.fieldLink "ClassGateModel" (107 : Nat) "ClassGateModel" "mRows" "[I") ∈ lw_all := lw_g (lw_at lw_m5 209 rfl) rfl
theorem q1269 : (Jvm.Cond.fieldLink "ClassGateModel" (110 : Nat) "ClassGateModel" "mRowN" "[I") ∈ lw_all := lw_g (lw_at lw_m5 210 rfl) rfl
theorem q1270 : (Jvm.Cond.fieldLink "ClassGateModel" (113 : Nat) "ClassGateModel" "mKnown" "[I") ∈ lw_all := lw_g (lw_at lw_m5 211 rfl) rfl
theorem q1271 : (Jvm.Cond.fieldLink "ClassGateModel" (116 : Nat) "ClassGateModel" "mThrows" "[I") ∈ lw_all := lw_g (lw_at lw_m5 212 rfl) rfl
theorem q1272 : (Jvm.Cond.fieldLink "ClassGateModel" (119 : Nat) "ClassGateModel" "mNameAt" "[I") ∈ lw_all := lw_g (lw_at lw_m5 213 rfl) rfl
theorem q1273 : (Jvm.Cond.fieldLink "ClassGateModel" (122 : Nat) "ClassGateModel" "mDescAt" "[I") ∈ lw_all := lw_g (lw_at lw_m5 214 rfl) rfl
theorem q1274 : (Jvm.Cond.fieldLink "ClassGateModel" (230 : Nat) "ClassGateModel" "rule" "I") ∈ lw_all := lw_g (lw_at lw_m5 215 rfl) rfl
theorem q1275 : (Jvm.Cond.fieldLink "ClassGateModel" (233 : Nat) "ClassGateModel" "wrongAt" "I") ∈ lw_all := lw_g (lw_at lw_m5 216 rfl) rfl
theorem q1276 : (Jvm.Cond.fieldLink "ClassGateModel" (221 : Nat) "ClassGateModel" "base" "I") ∈ lw_all := lw_g (lw_at lw_m5 217 rfl) rfl
theorem q1277 : (Jvm.Cond.fieldLink "ClassGateModel" (236 : Nat) "ClassGateModel" "pos" "I") ∈ lw_all := lw_g (lw_at lw_m5 218 rfl) rfl
theorem q1278 : (Jvm.Cond.fieldLink "ClassGateModel" (249 : Nat) "ClassGateModel" "cpBase" "I") ∈ lw_all := lw_g (lw_at lw_m5 219 rfl) rfl
theorem q1279 : (Jvm.Cond.fieldLink "ClassGateModel" (246 : Nat) "ClassGateModel" "cpN" "I") ∈ lw_all := lw_g (lw_at lw_m5 220 rfl) rfl
theorem q1280 : (Jvm.Cond.fieldLink "ClassGateModel" (266 : Nat) "ClassGateModel" "major" "I") ∈ lw_all := lw_g (lw_at lw_m5 221 rfl) rfl
theorem q1281 : (Jvm.Cond.fieldLink "ClassGateModel" (273 : Nat) "ClassGateModel" "headAt" "I") ∈ lw_all := lw_g (lw_at lw_m5 222 rfl) rfl
theorem q1282 : (Jvm.Cond.fieldLink "ClassGateModel" (276 : Nat) "ClassGateModel" "fieldsAt" "I") ∈ lw_all := lw_g (lw_at lw_m5 223 rfl) rfl
theorem q1283 : (Jvm.Cond.fieldLink "ClassGateModel" (282 : Nat) "ClassGateModel" "methodsAt" "I") ∈ lw_all := lw_g (lw_at lw_m5 224 rfl) rfl
theorem q1284 : (Jvm.Cond.fieldLink "ClassGateModel" (285 : Nat) "ClassGateModel" "attributesAt" "I") ∈ lw_all := lw_g (lw_at lw_m5 225 rfl) rfl
theorem q1285 : (Jvm.Cond.fieldLink "ClassGateModel" (344 : Nat) "ClassGateModel" "newFlags" "I") ∈ lw_all := lw_g (lw_at lw_m5 226 rfl) rfl
theorem q1286 : (Jvm.Cond.fieldLink "ClassGateModel" (351 : Nat) "ClassGateModel" "newName" "I") ∈ lw_all := lw_g (lw_at lw_m5 227 rfl) rfl
theorem q1287 : (Jvm.Cond.fieldLink "ClassGateModel" (354 : Nat) "ClassGateModel" "newSuper" "I") ∈ lw_all := lw_g (lw_at lw_m5 228 rfl) rfl
theorem q1288 : (Jvm.Cond.fieldLink "ClassGateModel" (357 : Nat) "ClassGateModel" "newIfs" "I") ∈ lw_all := lw_g (lw_at lw_m5 229 rfl) rfl
theorem q1289 : (Jvm.Cond.fieldLink "ClassGateModel" (147 : Nat) "ClassGateModel" "KNOWN" "[Ljava/lang/String;") ∈ lw_all := lw_g (lw_at lw_m5 230 rfl) rfl
theorem q1290 : (Jvm.Cond.fieldLink "ClassGateModel" (151 : Nat) "ClassGateModel" "KNOWN_IN" "[I") ∈ lw_all := lw_g (lw_at lw_m5 231 rfl) rfl
theorem q1291 : (Jvm.Cond.fieldLink "ClassGateModel" (154 : Nat) "ClassGateModel" "KNOWN_FROM" "[I") ∈ lw_all := lw_g (lw_at lw_m5 232 rfl) rfl
theorem q1292 : (Jvm.Cond.fieldLink "ClassGateModel" (395 : Nat) "ClassGateModel" "newInners" "I") ∈ lw_all := lw_g (lw_at lw_m5 233 rfl) rfl
theorem q1293 : (Jvm.Cond.fieldLink "ClassGateModel" (376 : Nat) "ClassGateModel" "newKnown" "I") ∈ lw_all := lw_g (lw_at lw_m5 234 rfl) rfl
theorem q1294 : (Jvm.Cond.fieldLink "ClassGateModel" (401 : Nat) "ClassGateModel" "newHost" "I") ∈ lw_all := lw_g (lw_at lw_m5 235 rfl) rfl
theorem q1295 : (Jvm.Cond.fieldLink "ClassGateModel" (389 : Nat) "ClassGateModel" "newMembers" "I") ∈ lw_all := lw_g (lw_at lw_m5 236 rfl) rfl
theorem q1296 : (Jvm.Cond.fieldLink "ClassGateModel" (392 : Nat) "ClassGateModel" "newPermitted" "I") ∈ lw_all := lw_g (lw_at lw_m5 237 rfl) rfl
theorem q1297 : (Jvm.Cond.fieldLink "ClassGateModel" (407 : Nat) "ClassGateModel" "newBoot" "I") ∈ lw_all := lw_g (lw_at lw_m5 238 rfl) rfl
theorem q1298 : (Jvm.Cond.fieldLink "ClassGateModel" (410 : Nat) "ClassGateModel" "newBootN" "I") ∈ lw_all := lw_g (lw_at lw_m5 239 rfl) rfl
theorem q1299 : (Jvm.Cond.fieldLink "ClassGateModel" (413 : Nat) "ClassGateModel" "newRecord" "I") ∈ lw_all := lw_g (lw_at lw_m6 0 rfl) rfl
theorem q1300 : (Jvm.Cond.fieldLink "ClassGateModel" (157 : Nat) "ClassGateModel" "lastPlace" "I") ∈ lw_all := lw_g (lw_at lw_m6 1 rfl) rfl
theorem q1301 : (Jvm.Cond.fieldLink "ClassGateModel" (160 : Nat) "ClassGateModel" "cutOf" "I") ∈ lw_all := lw_g (lw_at lw_m6 2 rfl) rfl
theorem q1302 : (Jvm.Cond.fieldLink "ClassGateModel" (471 : Nat) "ClassGateModel" "many" "I") ∈ lw_all := lw_g (lw_at lw_m6 3 rfl) rfl
theorem q1303 : (Jvm.Cond.fieldLink "ClassGateModel" (462 : Nat) "ClassGateModel" "wrongCode" "I") ∈ lw_all := lw_g (lw_at lw_m6 4 rfl) rfl
theorem q1304 : (Jvm.Cond.fieldLink "ClassGateModel" (456 : Nat) "ClassGateModel" "codeAt" "I") ∈ lw_all := lw_g (lw_at lw_m6 5 rfl) rfl
theorem q1305 : (Jvm.Cond.fieldLink "ClassGateModel" (465 : Nat) "ClassGateModel" "codeLen" "I") ∈ lw_all := lw_g (lw_at lw_m6 6 rfl) rfl
theorem q1306 : (Jvm.Cond.fieldLink "ClassGateModel" (468 : Nat) "ClassGateModel" "maxL" "I") ∈ lw_all := lw_g (lw_at lw_m6 7 rfl) rfl
theorem q1307 : (Jvm.Cond.fieldLink "ClassGateModel" (163 : Nat) "ClassGateModel" "begins" "[I") ∈ lw_all := lw_g (lw_at lw_m6 8 rfl) rfl
theorem q1308 : (Jvm.Cond.fieldLink "ClassGateModel" (166 : Nat) "ClassGateModel" "which" "[I") ∈ lw_all := lw_g (lw_at lw_m6 9 rfl) rfl
theorem q1309 : (Jvm.Cond.lays "ClassGateModel" "ClassGateModel" "thrown" "I") ∈ lw_all := lw_g (lw_at lw_m6 10 rfl) rfl
theorem q1310 : (Jvm.Cond.soleField "ClassGateModel" "thrown") ∈ lw_all := lw_g (lw_at lw_m6 11 rfl) rfl
theorem q1311 : (Jvm.Cond.laysFinal "ClassGateModel" "ClassGateModel" "chars" "[C") ∈ lw_all := lw_g (lw_at lw_m6 12 rfl) rfl
theorem q1312 : (Jvm.Cond.soleField "ClassGateModel" "chars") ∈ lw_all := lw_g (lw_at lw_m6 13 rfl) rfl
theorem q1313 : (Jvm.Cond.laysFinal "ClassGateModel" "ClassGateModel" "cut" "[C") ∈ lw_all := lw_g (lw_at lw_m6 14 rfl) rfl
theorem q1314 : (Jvm.Cond.soleField "ClassGateModel" "cut") ∈ lw_all := lw_g (lw_at lw_m6 15 rfl) rfl
theorem q1315 : (Jvm.Cond.lays "ClassGateModel" "ClassGateModel" "charsN" "I") ∈ lw_all := lw_g (lw_at lw_m6 16 rfl) rfl
theorem q1316 : (Jvm.Cond.soleField "ClassGateModel" "charsN") ∈ lw_all := lw_g (lw_at lw_m6 17 rfl) rfl
theorem q1317 : (Jvm.Cond.laysFinal "ClassGateModel" "ClassGateModel" "symAt" "[I") ∈ lw_all := lw_g (lw_at lw_m6 18 rfl) rfl
theorem q1318 : (Jvm.Cond.soleField "ClassGateModel" "symAt") ∈ lw_all := lw_g (lw_at lw_m6 19 rfl) rfl
theorem q1319 : (Jvm.Cond.laysFinal "ClassGateModel" "ClassGateModel" "symLen" "[I") ∈ lw_all := lw_g (lw_at lw_m6 20 rfl) rfl
theorem q1320 : (Jvm.Cond.soleField "ClassGateModel" "symLen") ∈ lw_all := lw_g (lw_at lw_m6 21 rfl) rfl
theorem q1321 : (Jvm.Cond.laysFinal "ClassGateModel" "ClassGateModel" "symNext" "[I") ∈ lw_all := lw_g (lw_at lw_m6 22 rfl) rfl
theorem q1322 : (Jvm.Cond.soleField "ClassGateModel" "symNext") ∈ lw_all := lw_g (lw_at lw_m6 23 rfl) rfl
theorem q1323 : (Jvm.Cond.laysFinal "ClassGateModel" "ClassGateModel" "symHead" "[I") ∈ lw_all := lw_g (lw_at lw_m6 24 rfl) rfl
theorem q1324 : (Jvm.Cond.soleField "ClassGateModel" "symHead") ∈ lw_all := lw_g (lw_at lw_m6 25 rfl) rfl
theorem q1325 : (Jvm.Cond.lays "ClassGateModel" "ClassGateModel" "syms" "I") ∈ lw_all := lw_g (lw_at lw_m6 26 rfl) rfl
theorem q1326 : (Jvm.Cond.soleField "ClassGateModel" "syms") ∈ lw_all := lw_g (lw_at lw_m6 27 rfl) rfl
theorem q1327 : (Jvm.Cond.lays "ClassGateModel" "ClassGateModel" "S_INIT" "I") ∈ lw_all := lw_g (lw_at lw_m6 28 rfl) rfl
theorem q1328 : (Jvm.Cond.soleField "ClassGateModel" "S_INIT") ∈ lw_all := lw_g (lw_at lw_m6 29 rfl) rfl
theorem q1329 : (Jvm.Cond.lays "ClassGateModel" "ClassGateModel" "S_CLINIT" "I") ∈ lw_all := lw_g (lw_at lw_m6 30 rfl) rfl
theorem q1330 : (Jvm.Cond.soleField "ClassGateModel" "S_CLINIT") ∈ lw_all := lw_g (lw_at lw_m6 31 rfl) rfl
theorem q1331 : (Jvm.Cond.lays "ClassGateModel" "ClassGateModel" "S_OBJECT" "I") ∈ lw_all := lw_g (lw_at lw_m6 32 rfl) rfl
theorem q1332 : (Jvm.Cond.soleField "ClassGateModel" "S_OBJECT") ∈ lw_all := lw_g (lw_at lw_m6 33 rfl) rfl
theorem q1333 : (Jvm.Cond.laysFinal "ClassGateModel" "ClassGateModel" "files" "[B") ∈ lw_all := lw_g (lw_at lw_m6 34 rfl) rfl
theorem q1334 : (Jvm.Cond.soleField "ClassGateModel" "files") ∈ lw_all := lw_g (lw_at lw_m6 35 rfl) rfl
theorem q1335 : (Jvm.Cond.laysFinal "ClassGateModel" "ClassGateModel" "file" "[B") ∈ lw_all := lw_g (lw_at lw_m6 36 rfl) rfl
theorem q1336 : (Jvm.Cond.soleField "ClassGateModel" "file") ∈ lw_all := lw_g (lw_at lw_m6 37 rfl) rfl
theorem q1337 : (Jvm.Cond.laysFinal "ClassGateModel" "ClassGateModel" "kept" "[B") ∈ lw_all := lw_g (lw_at lw_m6 38 rfl) rfl
theorem q1338 : (Jvm.Cond.soleField "ClassGateModel" "kept") ∈ lw_all := lw_g (lw_at lw_m6 39 rfl) rfl
theorem q1339 : (Jvm.Cond.laysFinal "ClassGateModel" "ClassGateModel" "came" "[B") ∈ lw_all := lw_g (lw_at lw_m6 40 rfl) rfl
theorem q1340 : (Jvm.Cond.soleField "ClassGateModel" "came") ∈ lw_all := lw_g (lw_at lw_m6 41 rfl) rfl
theorem q1341 : (Jvm.Cond.lays "ClassGateModel" "ClassGateModel" "size" "I") ∈ lw_all := lw_g (lw_at lw_m6 42 rfl) rfl
theorem q1342 : (Jvm.Cond.soleField "ClassGateModel" "size") ∈ lw_all := lw_g (lw_at lw_m6 43 rfl) rfl
theorem q1343 : (Jvm.Cond.lays "ClassGateModel" "ClassGateModel" "fileN" "I") ∈ lw_all := lw_g (lw_at lw_m6 44 rfl) rfl
theorem q1344 : (Jvm.Cond.soleField "ClassGateModel" "fileN") ∈ lw_all := lw_g (lw_at lw_m6 45 rfl) rfl
theorem q1345 : (Jvm.Cond.lays "ClassGateModel" "ClassGateModel" "keptN" "I") ∈ lw_all := lw_g (lw_at lw_m6 46 rfl) rfl
theorem q1346 : (Jvm.Cond.soleField "ClassGateModel" "keptN") ∈ lw_all := lw_g (lw_at lw_m6 47 rfl) rfl
theorem q1347 : (Jvm.Cond.lays "ClassGateModel" "ClassGateModel" "cameN" "I") ∈ lw_all := lw_g (lw_at lw_m6 48 rfl) rfl
theorem q1348 : (Jvm.Cond.soleField "ClassGateModel" "cameN") ∈ lw_all := lw_g (lw_at lw_m6 49 rfl) rfl
theorem q1349 : (Jvm.Cond.lays "ClassGateModel" "ClassGateModel" "pool" "I") ∈ lw_all := lw_g (lw_at lw_m6 50 rfl) rfl
theorem q1350 : (Jvm.Cond.soleField "ClassGateModel" "pool") ∈ lw_all := lw_g (lw_at lw_m6 51 rfl) rfl
theorem q1351 : (Jvm.Cond.laysFinal "ClassGateModel" "ClassGateModel" "pAt" "[I") ∈ lw_all := lw_g (lw_at lw_m6 52 rfl) rfl
theorem q1352 : (Jvm.Cond.soleField "ClassGateModel" "pAt") ∈ lw_all := lw_g (lw_at lw_m6 53 rfl) rfl
theorem q1353 : (Jvm.Cond.laysFinal "ClassGateModel" "ClassGateModel" "pSym" "[I") ∈ lw_all := lw_g (lw_at lw_m6 54 rfl) rfl
theorem q1354 : (Jvm.Cond.soleField "ClassGateModel" "pSym") ∈ lw_all := lw_g (lw_at lw_m6 55 rfl) rfl
theorem q1355 : (Jvm.Cond.laysFinal "ClassGateModel" "ClassGateModel" "pState" "[I") ∈ lw_all := lw_g (lw_at lw_m6 56 rfl) rfl
theorem q1356 : (Jvm.Cond.soleField "ClassGateModel" "pState") ∈ lw_all := lw_g (lw_at lw_m6 57 rfl) rfl
theorem q1357 : (Jvm.Cond.laysFinal "ClassGateModel" "ClassGateModel" "pObj" "[I") ∈ lw_all := lw_g (lw_at lw_m6 58 rfl) rfl
theorem q1358 : (Jvm.Cond.soleField "ClassGateModel" "pObj") ∈ lw_all := lw_g (lw_at lw_m6 59 rfl) rfl
theorem q1359 : (Jvm.Cond.lays "ClassGateModel" "ClassGateModel" "fields" "I") ∈ lw_all := lw_g (lw_at lw_m6 60 rfl) rfl
theorem q1360 : (Jvm.Cond.soleField "ClassGateModel" "fields") ∈ lw_all := lw_g (lw_at lw_m6 61 rfl) rfl
theorem q1361 : (Jvm.Cond.lays "ClassGateModel" "ClassGateModel" "methods" "I") ∈ lw_all := lw_g (lw_at lw_m6 62 rfl) rfl
theorem q1362 : (Jvm.Cond.soleField "ClassGateModel" "methods") ∈ lw_all := lw_g (lw_at lw_m6 63 rfl) rfl
theorem q1363 : (Jvm.Cond.laysFinal "ClassGateModel" "ClassGateModel" "fFlags" "[I") ∈ lw_all := lw_g (lw_at lw_m6 64 rfl) rfl
theorem q1364 : (Jvm.Cond.soleField "ClassGateModel" "fFlags") ∈ lw_all := lw_g (lw_at lw_m6 65 rfl) rfl
theorem q1365 : (Jvm.Cond.laysFinal "ClassGateModel" "ClassGateModel" "fName" "[I") ∈ lw_all := lw_g (lw_at lw_m6 66 rfl) rfl
theorem q1366 : (Jvm.Cond.soleField "ClassGateModel" "fName") ∈ lw_all := lw_g (lw_at lw_m6 67 rfl) rfl
theorem q1367 : (Jvm.Cond.laysFinal "ClassGateModel" "ClassGateModel" "fDesc" "[I") ∈ lw_all := lw_g (lw_at lw_m6 68 rfl) rfl
theorem q1368 : (Jvm.Cond.soleField "ClassGateModel" "fDesc") ∈ lw_all := lw_g (lw_at lw_m6 69 rfl) rfl
theorem q1369 : (Jvm.Cond.laysFinal "ClassGateModel" "ClassGateModel" "fConst" "[I") ∈ lw_all := lw_g (lw_at lw_m6 70 rfl) rfl
theorem q1370 : (Jvm.Cond.soleField "ClassGateModel" "fConst") ∈ lw_all := lw_g (lw_at lw_m6 71 rfl) rfl
theorem q1371 : (Jvm.Cond.laysFinal "ClassGateModel" "ClassGateModel" "fKnown" "[I") ∈ lw_all := lw_g (lw_at lw_m6 72 rfl) rfl
theorem q1372 : (Jvm.Cond.soleField "ClassGateModel" "fKnown") ∈ lw_all := lw_g (lw_at lw_m6 73 rfl) rfl
theorem q1373 : (Jvm.Cond.laysFinal "ClassGateModel" "ClassGateModel" "fNameAt" "[I") ∈ lw_all := lw_g (lw_at lw_m6 74 rfl) rfl
theorem q1374 : (Jvm.Cond.soleField "ClassGateModel" "fNameAt") ∈ lw_all := lw_g (lw_at lw_m6 75 rfl) rfl
theorem q1375 : (Jvm.Cond.laysFinal "ClassGateModel" "ClassGateModel" "fDescAt" "[I") ∈ lw_all := lw_g (lw_at lw_m6 76 rfl) rfl
theorem q1376 : (Jvm.Cond.soleField "ClassGateModel" "fDescAt") ∈ lw_all := lw_g (lw_at lw_m6 77 rfl) rfl
theorem q1377 : (Jvm.Cond.laysFinal "ClassGateModel" "ClassGateModel" "mFlags" "[I") ∈ lw_all := lw_g (lw_at lw_m6 78 rfl) rfl
theorem q1378 : (Jvm.Cond.soleField "ClassGateModel" "mFlags") ∈ lw_all := lw_g (lw_at lw_m6 79 rfl) rfl
theorem q1379 : (Jvm.Cond.laysFinal "ClassGateModel" "ClassGateModel" "mName" "[I") ∈ lw_all := lw_g (lw_at lw_m6 80 rfl) rfl
theorem q1380 : (Jvm.Cond.soleField "ClassGateModel" "mName") ∈ lw_all := lw_g (lw_at lw_m6 81 rfl) rfl
theorem q1381 : (Jvm.Cond.laysFinal "ClassGateModel" "ClassGateModel" "mDesc" "[I") ∈ lw_all := lw_g (lw_at lw_m6 82 rfl) rfl
theorem q1382 : (Jvm.Cond.soleField "ClassGateModel" "mDesc") ∈ lw_all := lw_g (lw_at lw_m6 83 rfl) rfl
theorem q1383 : (Jvm.Cond.laysFinal "ClassGateModel" "ClassGateModel" "mCode" "[I") ∈ lw_all := lw_g (lw_at lw_m6 84 rfl) rfl
theorem q1384 : (Jvm.Cond.soleField "ClassGateModel" "mCode") ∈ lw_all := lw_g (lw_at lw_m6 85 rfl) rfl
theorem q1385 : (Jvm.Cond.laysFinal "ClassGateModel" "ClassGateModel" "mLen" "[I") ∈ lw_all := lw_g (lw_at lw_m6 86 rfl) rfl
theorem q1386 : (Jvm.Cond.soleField "ClassGateModel" "mLen") ∈ lw_all := lw_g (lw_at lw_m6 87 rfl) rfl
theorem q1387 : (Jvm.Cond.laysFinal "ClassGateModel" "ClassGateModel" "mStack" "[I") ∈ lw_all := lw_g (lw_at lw_m6 88 rfl) rfl
theorem q1388 : (Jvm.Cond.soleField "ClassGateModel" "mStack") ∈ lw_all := lw_g (lw_at lw_m6 89 rfl) rfl
theorem q1389 : (Jvm.Cond.laysFinal "ClassGateModel" "ClassGateModel" "mLocals" "[I") ∈ lw_all := lw_g (lw_at lw_m6 90 rfl) rfl
theorem q1390 : (Jvm.Cond.soleField "ClassGateModel" "mLocals") ∈ lw_all := lw_g (lw_at lw_m6 91 rfl) rfl
theorem q1391 : (Jvm.Cond.laysFinal "ClassGateModel" "ClassGateModel" "mRows" "[I") ∈ lw_all := lw_g (lw_at lw_m6 92 rfl) rfl
theorem q1392 : (Jvm.Cond.soleField "ClassGateModel" "mRows") ∈ lw_all := lw_g (lw_at lw_m6 93 rfl) rfl
theorem q1393 : (Jvm.Cond.laysFinal "ClassGateModel" "ClassGateModel" "mRowN" "[I") ∈ lw_all := lw_g (lw_at lw_m6 94 rfl) rfl
theorem q1394 : (Jvm.Cond.soleField "ClassGateModel" "mRowN") ∈ lw_all := lw_g (lw_at lw_m6 95 rfl) rfl
theorem q1395 : (Jvm.Cond.laysFinal "ClassGateModel" "ClassGateModel" "mKnown" "[I") ∈ lw_all := lw_g (lw_at lw_m6 96 rfl) rfl
theorem q1396 : (Jvm.Cond.soleField "ClassGateModel" "mKnown") ∈ lw_all := lw_g (lw_at lw_m6 97 rfl) rfl
theorem q1397 : (Jvm.Cond.laysFinal "ClassGateModel" "ClassGateModel" "mThrows" "[I") ∈ lw_all := lw_g (lw_at lw_m6 98 rfl) rfl
theorem q1398 : (Jvm.Cond.soleField "ClassGateModel" "mThrows") ∈ lw_all := lw_g (lw_at lw_m6 99 rfl) rfl
theorem q1399 : (Jvm.Cond.laysFinal "ClassGateModel" "ClassGateModel" "mNameAt" "[I") ∈ lw_all := lw_g (lw_at lw_m6 100 rfl) rfl
theorem q1400 : (Jvm.Cond.soleField "ClassGateModel" "mNameAt") ∈ lw_all := lw_g (lw_at lw_m6 101 rfl) rfl
theorem q1401 : (Jvm.Cond.laysFinal "ClassGateModel" "ClassGateModel" "mDescAt" "[I") ∈ lw_all := lw_g (lw_at lw_m6 102 rfl) rfl
theorem q1402 : (Jvm.Cond.soleField "ClassGateModel" "mDescAt") ∈ lw_all := lw_g (lw_at lw_m6 103 rfl) rfl
theorem q1403 : (Jvm.Cond.lays "ClassGateModel" "ClassGateModel" "rule" "I") ∈ lw_all := lw_g (lw_at lw_m6 104 rfl) rfl
theorem q1404 : (Jvm.Cond.soleField "ClassGateModel" "rule") ∈ lw_all := lw_g (lw_at lw_m6 105 rfl) rfl
theorem q1405 : (Jvm.Cond.lays "ClassGateModel" "ClassGateModel" "wrongAt" "I") ∈ lw_all := lw_g (lw_at lw_m6 106 rfl) rfl
theorem q1406 : (Jvm.Cond.soleField "ClassGateModel" "wrongAt") ∈ lw_all := lw_g (lw_at lw_m6 107 rfl) rfl
theorem q1407 : (Jvm.Cond.lays "ClassGateModel" "ClassGateModel" "base" "I") ∈ lw_all := lw_g (lw_at lw_m6 108 rfl) rfl
theorem q1408 : (Jvm.Cond.soleField "ClassGateModel" "base") ∈ lw_all := lw_g (lw_at lw_m6 109 rfl) rfl
theorem q1409 : (Jvm.Cond.lays "ClassGateModel" "ClassGateModel" "pos" "I") ∈ lw_all := lw_g (lw_at lw_m6 110 rfl) rfl
theorem q1410 : (Jvm.Cond.soleField "ClassGateModel" "pos") ∈ lw_all := lw_g (lw_at lw_m6 111 rfl) rfl
theorem q1411 : (Jvm.Cond.lays "ClassGateModel" "ClassGateModel" "cpBase" "I") ∈ lw_all := lw_g (lw_at lw_m6 112 rfl) rfl
theorem q1412 : (Jvm.Cond.soleField "ClassGateModel" "cpBase") ∈ lw_all := lw_g (lw_at lw_m6 113 rfl) rfl
theorem q1413 : (Jvm.Cond.lays "ClassGateModel" "ClassGateModel" "cpN" "I") ∈ lw_all := lw_g (lw_at lw_m6 114 rfl) rfl
theorem q1414 : (Jvm.Cond.soleField "ClassGateModel" "cpN") ∈ lw_all := lw_g (lw_at lw_m6 115 rfl) rfl
theorem q1415 : (Jvm.Cond.lays "ClassGateModel" "ClassGateModel" "major" "I") ∈ lw_all := lw_g (lw_at lw_m6 116 rfl) rfl
theorem q1416 : (Jvm.Cond.soleField "ClassGateModel" "major") ∈ lw_all := lw_g (lw_at lw_m6 117 rfl) rfl
theorem q1417 : (Jvm.Cond.lays "ClassGateModel" "ClassGateModel" "headAt" "I") ∈ lw_all := lw_g (lw_at lw_m6 118 rfl) rfl
theorem q1418 : (Jvm.Cond.soleField "ClassGateModel" "headAt") ∈ lw_all := lw_g (lw_at lw_m6 119 rfl) rfl
theorem q1419 : (Jvm.Cond.lays "ClassGateModel" "ClassGateModel" "fieldsAt" "I") ∈ lw_all := lw_g (lw_at lw_m6 120 rfl) rfl
theorem q1420 : (Jvm.Cond.soleField "ClassGateModel" "fieldsAt") ∈ lw_all := lw_g (lw_at lw_m6 121 rfl) rfl
theorem q1421 : (Jvm.Cond.lays "ClassGateModel" "ClassGateModel" "methodsAt" "I") ∈ lw_all := lw_g (lw_at lw_m6 122 rfl) rfl
theorem q1422 : (Jvm.Cond.soleField "ClassGateModel" "methodsAt") ∈ lw_all := lw_g (lw_at lw_m6 123 rfl) rfl
theorem q1423 : (Jvm.Cond.lays "ClassGateModel" "ClassGateModel" "attributesAt" "I") ∈ lw_all := lw_g (lw_at lw_m6 124 rfl) rfl
theorem q1424 : (Jvm.Cond.soleField "ClassGateModel" "attributesAt") ∈ lw_all := lw_g (lw_at lw_m6 125 rfl) rfl
theorem q1425 : (Jvm.Cond.lays "ClassGateModel" "ClassGateModel" "newFlags" "I") ∈ lw_all := lw_g (lw_at lw_m6 126 rfl) rfl
theorem q1426 : (Jvm.Cond.soleField "ClassGateModel" "newFlags") ∈ lw_all := lw_g (lw_at lw_m6 127 rfl) rfl
theorem q1427 : (Jvm.Cond.lays "ClassGateModel" "ClassGateModel" "newName" "I") ∈ lw_all := lw_g (lw_at lw_m6 128 rfl) rfl
theorem q1428 : (Jvm.Cond.soleField "ClassGateModel" "newName") ∈ lw_all := lw_g (lw_at lw_m6 129 rfl) rfl
theorem q1429 : (Jvm.Cond.lays "ClassGateModel" "ClassGateModel" "newSuper" "I") ∈ lw_all := lw_g (lw_at lw_m6 130 rfl) rfl
theorem q1430 : (Jvm.Cond.soleField "ClassGateModel" "newSuper") ∈ lw_all := lw_g (lw_at lw_m6 131 rfl) rfl
theorem q1431 : (Jvm.Cond.lays "ClassGateModel" "ClassGateModel" "newIfs" "I") ∈ lw_all := lw_g (lw_at lw_m6 132 rfl) rfl
theorem q1432 : (Jvm.Cond.soleField "ClassGateModel" "newIfs") ∈ lw_all := lw_g (lw_at lw_m6 133 rfl) rfl
theorem q1433 : (Jvm.Cond.laysFinal "ClassGateModel" "ClassGateModel" "KNOWN" "[Ljava/lang/String;") ∈ lw_all := lw_g (lw_at lw_m6 134 rfl) rfl
theorem q1434 : (Jvm.Cond.soleField "ClassGateModel" "KNOWN") ∈ lw_all := lw_g (lw_at lw_m6 135 rfl) rfl
theorem q1435 : (Jvm.Cond.laysFinal "ClassGateModel" "ClassGateModel" "KNOWN_IN" "[I") ∈ lw_all := lw_g (lw_at lw_m6 136 rfl) rfl
theorem q1436 : (Jvm.Cond.soleField "ClassGateModel" "KNOWN_IN") ∈ lw_all := lw_g (lw_at lw_m6 137 rfl) rfl
theorem q1437 : (Jvm.Cond.laysFinal "ClassGateModel" "ClassGateModel" "KNOWN_FROM" "[I") ∈ lw_all := lw_g (lw_at lw_m6 138 rfl) rfl
theorem q1438 : (Jvm.Cond.soleField "ClassGateModel" "KNOWN_FROM") ∈ lw_all := lw_g (lw_at lw_m6 139 rfl) rfl
theorem q1439 : (Jvm.Cond.lays "ClassGateModel" "ClassGateModel" "newInners" "I") ∈ lw_all := lw_g (lw_at lw_m6 140 rfl) rfl
theorem q1440 : (Jvm.Cond.soleField "ClassGateModel" "newInners") ∈ lw_all := lw_g (lw_at lw_m6 141 rfl) rfl
theorem q1441 : (Jvm.Cond.lays "ClassGateModel" "ClassGateModel" "newKnown" "I") ∈ lw_all := lw_g (lw_at lw_m6 142 rfl) rfl
theorem q1442 : (Jvm.Cond.soleField "ClassGateModel" "newKnown") ∈ lw_all := lw_g (lw_at lw_m6 143 rfl) rfl
theorem q1443 : (Jvm.Cond.lays "ClassGateModel" "ClassGateModel" "newHost" "I") ∈ lw_all := lw_g (lw_at lw_m6 144 rfl) rfl
theorem q1444 : (Jvm.Cond.soleField "ClassGateModel" "newHost") ∈ lw_all := lw_g (lw_at lw_m6 145 rfl) rfl
theorem q1445 : (Jvm.Cond.lays "ClassGateModel" "ClassGateModel" "newMembers" "I") ∈ lw_all := lw_g (lw_at lw_m6 146 rfl) rfl
theorem q1446 : (Jvm.Cond.soleField "ClassGateModel" "newMembers") ∈ lw_all := lw_g (lw_at lw_m6 147 rfl) rfl
theorem q1447 : (Jvm.Cond.lays "ClassGateModel" "ClassGateModel" "newPermitted" "I") ∈ lw_all := lw_g (lw_at lw_m6 148 rfl) rfl
theorem q1448 : (Jvm.Cond.soleField "ClassGateModel" "newPermitted") ∈ lw_all := lw_g (lw_at lw_m6 149 rfl) rfl
theorem q1449 : (Jvm.Cond.lays "ClassGateModel" "ClassGateModel" "newBoot" "I") ∈ lw_all := lw_g (lw_at lw_m6 150 rfl) rfl
theorem q1450 : (Jvm.Cond.soleField "ClassGateModel" "newBoot") ∈ lw_all := lw_g (lw_at lw_m6 151 rfl) rfl
theorem q1451 : (Jvm.Cond.lays "ClassGateModel" "ClassGateModel" "newBootN" "I") ∈ lw_all := lw_g (lw_at lw_m6 152 rfl) rfl
theorem q1452 : (Jvm.Cond.soleField "ClassGateModel" "newBootN") ∈ lw_all := lw_g (lw_at lw_m6 153 rfl) rfl
theorem q1453 : (Jvm.Cond.lays "ClassGateModel" "ClassGateModel" "newRecord" "I") ∈ lw_all := lw_g (lw_at lw_m6 154 rfl) rfl
theorem q1454 : (Jvm.Cond.soleField "ClassGateModel" "newRecord") ∈ lw_all := lw_g (lw_at lw_m6 155 rfl) rfl
theorem q1455 : (Jvm.Cond.lays "ClassGateModel" "ClassGateModel" "lastPlace" "I") ∈ lw_all := lw_g (lw_at lw_m6 156 rfl) rfl
theorem q1456 : (Jvm.Cond.soleField "ClassGateModel" "lastPlace") ∈ lw_all := lw_g (lw_at lw_m6 157 rfl) rfl
theorem q1457 : (Jvm.Cond.lays "ClassGateModel" "ClassGateModel" "cutOf" "I") ∈ lw_all := lw_g (lw_at lw_m6 158 rfl) rfl
theorem q1458 : (Jvm.Cond.soleField "ClassGateModel" "cutOf") ∈ lw_all := lw_g (lw_at lw_m6 159 rfl) rfl
theorem q1459 : (Jvm.Cond.lays "ClassGateModel" "ClassGateModel" "many" "I") ∈ lw_all := lw_g (lw_at lw_m6 160 rfl) rfl
theorem q1460 : (Jvm.Cond.soleField "ClassGateModel" "many") ∈ lw_all := lw_g (lw_at lw_m6 161 rfl) rfl
theorem q1461 : (Jvm.Cond.lays "ClassGateModel" "ClassGateModel" "wrongCode" "I") ∈ lw_all := lw_g (lw_at lw_m6 162 rfl) rfl
theorem q1462 : (Jvm.Cond.soleField "ClassGateModel" "wrongCode") ∈ lw_all := lw_g (lw_at lw_m6 163 rfl) rfl
theorem q1463 : (Jvm.Cond.lays "ClassGateModel" "ClassGateModel" "codeAt" "I") ∈ lw_all := lw_g (lw_at lw_m6 164 rfl) rfl
theorem q1464 : (Jvm.Cond.soleField "ClassGateModel" "codeAt") ∈ lw_all := lw_g (lw_at lw_m6 165 rfl) rfl
theorem q1465 : (Jvm.Cond.lays "ClassGateModel" "ClassGateModel" "codeLen" "I") ∈ lw_all := lw_g (lw_at lw_m6 166 rfl) rfl
theorem q1466 : (Jvm.Cond.soleField "ClassGateModel" "codeLen") ∈ lw_all := lw_g (lw_at lw_m6 167 rfl) rfl
theorem q1467 : (Jvm.Cond.lays "ClassGateModel" "ClassGateModel" "maxL" "I") ∈ lw_all := lw_g (lw_at lw_m6 168 rfl) rfl
theorem q1468 : (Jvm.Cond.soleField "ClassGateModel" "maxL") ∈ lw_all := lw_g (lw_at lw_m6 169 rfl) rfl
theorem q1469 : (Jvm.Cond.laysFinal "ClassGateModel" "ClassGateModel" "begins" "[I") ∈ lw_all := lw_g (lw_at lw_m6 170 rfl) rfl
theorem q1470 : (Jvm.Cond.soleField "ClassGateModel" "begins") ∈ lw_all := lw_g (lw_at lw_m6 171 rfl) rfl
theorem q1471 : (Jvm.Cond.laysFinal "ClassGateModel" "ClassGateModel" "which" "[I") ∈ lw_all := lw_g (lw_at lw_m6 172 rfl) rfl
theorem q1472 : (Jvm.Cond.soleField "ClassGateModel" "which") ∈ lw_all := lw_g (lw_at lw_m6 173 rfl) rfl
theorem q1473 : (Jvm.Cond.superclass "ClassGateModel" "java/lang/Object") ∈ lw_all := lw_g (lw_at lw_m6 174 rfl) rfl
theorem q1476 : (Jvm.Cond.instanceMethod ({ cls := "ClassGateModel", name := "feed", desc := "(IIIII)I" } : Jvm.MethodName)) ∈ lw_all := lw_g (lw_at lw_m6 177 rfl) rfl
theorem q1477 : (Jvm.Cond.selects "ClassGateModel" ({ cls := "ClassGateModel", name := "feed", desc := "(IIIII)I" } : Jvm.MethodName) ({ cls := "ClassGateModel", name := "feed", desc := "(IIIII)I" } : Jvm.MethodName)) ∈ lw_all := lw_g (lw_at lw_m6 178 rfl) rfl
theorem q1478 : (Jvm.Cond.code ({ cls := "ClassGateModel", name := "feed", desc := "(IIIII)I" } : Jvm.MethodName) prog_6_method_47_code (6 : Nat) (Option.some Jvm.ClassFile.FieldType.int)) ∈ lw_all := lw_g (lw_at lw_m6 179 rfl) rfl
theorem q1479 : (Jvm.Cond.methodLink "ClassGateModel" (436 : Nat) ({ cls := "ClassGateModel", name := "four", desc := "(I)V" } : Jvm.MethodName)) ∈ lw_all := lw_g (lw_at lw_m6 180 rfl) rfl
theorem q1480 : (Jvm.Cond.privateMethod ({ cls := "ClassGateModel", name := "four", desc := "(I)V" } : Jvm.MethodName)) ∈ lw_tbl := lw_at lw_m6 181 rfl
theorem q1481 : (Jvm.Cond.instanceMethod ({ cls := "ClassGateModel", name := "four", desc := "(I)V" } : Jvm.MethodName)) ∈ lw_all := lw_g (lw_at lw_m6 182 rfl) rfl
theorem q1482 : (Jvm.Cond.code ({ cls := "ClassGateModel", name := "four", desc := "(I)V" } : Jvm.MethodName) prog_6_method_48_code (3 : Nat) (Option.none : Option Jvm.ClassFile.FieldType)) ∈ lw_all := lw_g (lw_at lw_m6 183 rfl) rfl
theorem q1484 : (Jvm.Cond.instanceMethod ({ cls := "ClassGateModel", name := "end", desc := "(I)I" } : Jvm.MethodName)) ∈ lw_all := lw_g (lw_at lw_m6 185 rfl) rfl
theorem q1485 : (Jvm.Cond.selects "ClassGateModel" ({ cls := "ClassGateModel", name := "end", desc := "(I)I" } : Jvm.MethodName) ({ cls := "ClassGateModel", name := "end", desc := "(I)I" } : Jvm.MethodName)) ∈ lw_all := lw_g (lw_at lw_m6 186 rfl) rfl
theorem q1486 : (Jvm.Cond.code ({ cls := "ClassGateModel", name := "end", desc := "(I)I" } : Jvm.MethodName) prog_6_method_50_code (3 : Nat) (Option.some Jvm.ClassFile.FieldType.int)) ∈ lw_all := lw_g (lw_at lw_m6 187 rfl) rfl
theorem q1487 : (Jvm.Cond.methodLink "ClassGateModel" (440 : Nat) ({ cls := "ClassGateModel", name := "bad", desc := "()I" } : Jvm.MethodName)) ∈ lw_all := lw_g (lw_at lw_m6 188 rfl) rfl
theorem q1488 : (Jvm.Cond.privateMethod ({ cls := "ClassGateModel", name := "bad", desc := "()I" } : Jvm.MethodName)) ∈ lw_tbl := lw_at lw_m6 189 rfl
theorem q1489 : (Jvm.Cond.instanceMethod ({ cls := "ClassGateModel", name := "bad", desc := "()I" } : Jvm.MethodName)) ∈ lw_all := lw_g (lw_at lw_m6 190 rfl) rfl
theorem q1490 : (Jvm.Cond.code ({ cls := "ClassGateModel", name := "bad", desc := "()I" } : Jvm.MethodName) prog_6_method_49_code (1 : Nat) (Option.some Jvm.ClassFile.FieldType.int)) ∈ lw_all := lw_g (lw_at lw_m6 191 rfl) rfl
theorem q1492 : (Jvm.Cond.instanceMethod ({ cls := "ClassGateModel", name := "read", desc := "()I" } : Jvm.MethodName)) ∈ lw_all := lw_g (lw_at lw_m6 193 rfl) rfl
theorem q1493 : (Jvm.Cond.selects "ClassGateModel" ({ cls := "ClassGateModel", name := "read", desc := "()I" } : Jvm.MethodName) ({ cls := "ClassGateModel", name := "read", desc := "()I" } : Jvm.MethodName)) ∈ lw_all := lw_g (lw_at lw_m6 194 rfl) rfl
theorem q1494 : (Jvm.Cond.code ({ cls := "ClassGateModel", name := "read", desc := "()I" } : Jvm.MethodName) prog_6_method_51_code (4 : Nat) (Option.some Jvm.ClassFile.FieldType.int)) ∈ lw_all := lw_g (lw_at lw_m6 195 rfl) rfl
theorem q1495 : (Jvm.Cond.methodLink "ClassGateModel" (446 : Nat) ({ cls := "ClassGateModel", name := "parse", desc := "([BI)Z" } : Jvm.MethodName)) ∈ lw_all := lw_g (lw_at lw_m6 196 rfl) rfl
theorem q1496 : (Jvm.Cond.privateMethod ({ cls := "ClassGateModel", name := "parse", desc := "([BI)Z" } : Jvm.MethodName)) ∈ lw_tbl := lw_at lw_m6 197 rfl
theorem q1497 : (Jvm.Cond.instanceMethod ({ cls := "ClassGateModel", name := "parse", desc := "([BI)Z" } : Jvm.MethodName)) ∈ lw_all := lw_g (lw_at lw_m6 198 rfl) rfl
theorem q1498 : (Jvm.Cond.code ({ cls := "ClassGateModel", name := "parse", desc := "([BI)Z" } : Jvm.MethodName) prog_6_method_52_code (4 : Nat) (Option.some Jvm.ClassFile.FieldType.boolean)) ∈ lw_all := lw_g (lw_at lw_m6 199 rfl) rfl
theorem q1499 : (Jvm.Cond.methodLink "ClassGateModel" (450 : Nat) ({ cls := "ClassGateModel", name := "checkFile", desc := "()Z" } : Jvm.MethodName)) ∈ lw_all := lw_g (lw_at lw_m6 200 rfl) rfl
theorem q1500 : (Jvm.Cond.privateMethod ({ cls := "ClassGateModel", name := "checkFile", desc := "()Z" } : Jvm.MethodName)) ∈ lw_tbl := lw_at lw_m6 201 rfl
theorem q1501 : (Jvm.Cond.instanceMethod ({ cls := "ClassGateModel", name := "checkFile", desc := "()Z" } : Jvm.MethodName)) ∈ lw_all := lw_g (lw_at lw_m6 202 rfl) rfl
theorem q1502 : (Jvm.Cond.code ({ cls := "ClassGateModel", name := "checkFile", desc := "()Z" } : Jvm.MethodName) prog_6_method_46_code (3 : Nat) (Option.some Jvm.ClassFile.FieldType.boolean)) ∈ lw_all := lw_g (lw_at lw_m6 203 rfl) rfl
theorem q1503 : (Jvm.Cond.methodLink "ClassGateModel" (418 : Nat) ({ cls := "ClassGateModel", name := "readFile", desc := "()Z" } : Jvm.MethodName)) ∈ lw_all := lw_g (lw_at lw_m6 204 rfl) rfl
theorem q1504 : (Jvm.Cond.privateMethod ({ cls := "ClassGateModel", name := "readFile", desc := "()Z" } : Jvm.MethodName)) ∈ lw_tbl := lw_at lw_m6 205 rfl
theorem q1505 : (Jvm.Cond.instanceMethod ({ cls := "ClassGateModel", name := "readFile", desc := "()Z" } : Jvm.MethodName)) ∈ lw_all := lw_g (lw_at lw_m6 206 rfl) rfl
theorem q1506 : (Jvm.Cond.code ({ cls := "ClassGateModel", name := "readFile", desc := "()Z" } : Jvm.MethodName) prog_6_method_17_code (3 : Nat) (Option.some Jvm.ClassFile.FieldType.boolean)) ∈ lw_all := lw_g (lw_at lw_m6 207 rfl) rfl
theorem q1507 : (Jvm.Cond.constantLong "ClassGateModel" (252 : Nat) (4 : Int64)) ∈ lw_all := lw_g (lw_at lw_m6 208 rfl) rfl
theorem q1508 : (Jvm.Cond.methodLink "ClassGateModel" (254 : Nat) ({ cls := "ClassGateModel", name := "item", desc := "(J)Z" } : Jvm.MethodName)) ∈ lw_all := lw_g (lw_at lw_m6 209 rfl) rfl
theorem q1509 : (Jvm.Cond.privateMethod ({ cls := "ClassGateModel", name := "item", desc := "(J)Z" } : Jvm.MethodName)) ∈ lw_tbl := lw_at lw_m6 210 rfl
theorem q1510 : (Jvm.Cond.instanceMethod ({ cls := "ClassGateModel", name := "item", desc := "(J)Z" } : Jvm.MethodName)) ∈ lw_all := lw_g (lw_at lw_m6 211 rfl) rfl
theorem q1511 : (Jvm.Cond.code ({ cls := "ClassGateModel", name := "item", desc := "(J)Z" } : Jvm.MethodName) prog_6_method_13_code (3 : Nat) (Option.some Jvm.ClassFile.FieldType.boolean)) ∈ lw_all := lw_g (lw_at lw_m6 212 rfl) rfl
theorem q1512 : (Jvm.Cond.methodLink "ClassGateModel" (242 : Nat) ({ cls := "ClassGateModel", name := "wrong", desc := "(II)Z" } : Jvm.MethodName)) ∈ lw_all := lw_g (lw_at lw_m6 213 rfl) rfl
theorem q1513 : (Jvm.Cond.privateMethod ({ cls := "ClassGateModel", name := "wrong", desc := "(II)Z" } : Jvm.MethodName)) ∈ lw_tbl := lw_at lw_m6 214 rfl
theorem q1514 : (Jvm.Cond.instanceMethod ({ cls := "ClassGateModel", name := "wrong", desc := "(II)Z" } : Jvm.MethodName)) ∈ lw_all := lw_g (lw_at lw_m6 215 rfl) rfl
theorem q1515 : (Jvm.Cond.code ({ cls := "ClassGateModel", name := "wrong", desc := "(II)Z" } : Jvm.MethodName) prog_6_method_12_code (3 : Nat) (Option.some Jvm.ClassFile.FieldType.boolean)) ∈ lw_all := lw_g (lw_at lw_m6 216 rfl) rfl
theorem q1516 : (Jvm.Cond.methodLink "ClassGateModel" (258 : Nat) ({ cls := "ClassGateModel", name := "u4", desc := "(I)J" } : Jvm.MethodName)) ∈ lw_all := lw_g (lw_at lw_m6 217 rfl) rfl
theorem q1517 : (Jvm.Cond.privateMethod ({ cls := "ClassGateModel", name := "u4", desc := "(I)J" } : Jvm.MethodName)) ∈ lw_tbl := lw_at lw_m6 218 rfl
theorem q1518 : (Jvm.Cond.instanceMethod ({ cls := "ClassGateModel", name := "u4", desc := "(I)J" } : Jvm.MethodName)) ∈ lw_all := lw_g (lw_at lw_m6 219 rfl) rfl
theorem q1519 : (Jvm.Cond.code ({ cls := "ClassGateModel", name := "u4", desc := "(I)J" } : Jvm.MethodName) prog_6_method_11_code (2 : Nat) (Option.some Jvm.ClassFile.FieldType.long)) ∈ lw_all := lw_g (lw_at lw_m6 220 rfl) rfl
theorem q1520 : (Jvm.Cond.methodLink "ClassGateModel" (227 : Nat) ({ cls := "ClassGateModel", name := "u2", desc := "(I)I" } : Jvm.MethodName)) ∈ lw_all := lw_g (lw_at lw_m6 221 rfl) rfl
theorem q1521 : (Jvm.Cond.privateMethod ({ cls := "ClassGateModel", name := "u2", desc := "(I)I" } : Jvm.MethodName)) ∈ lw_tbl := lw_at lw_m6 222 rfl
theorem q1522 : (Jvm.Cond.instanceMethod ({ cls := "ClassGateModel", name := "u2", desc := "(I)I" } : Jvm.MethodName)) ∈ lw_all := lw_g (lw_at lw_m6 223 rfl) rfl
theorem q1523 : (Jvm.Cond.code ({ cls := "ClassGateModel", name := "u2", desc := "(I)I" } : Jvm.MethodName) prog_6_method_10_code (2 : Nat) (Option.some Jvm.ClassFile.FieldType.int)) ∈ lw_all := lw_g (lw_at lw_m6 224 rfl) rfl
theorem q1524 : (Jvm.Cond.methodLink "ClassGateModel" (224 : Nat) ({ cls := "ClassGateModel", name := "u1", desc := "(I)I" } : Jvm.MethodName)) ∈ lw_all := lw_g (lw_at lw_m6 225 rfl) rfl
theorem q1525 : (Jvm.Cond.privateMethod ({ cls := "ClassGateModel", name := "u1", desc := "(I)I" } : Jvm.MethodName)) ∈ lw_tbl := lw_at lw_m6 226 rfl
theorem q1526 : (Jvm.Cond.instanceMethod ({ cls := "ClassGateModel", name := "u1", desc := "(I)I" } : Jvm.MethodName)) ∈ lw_all := lw_g (lw_at lw_m6 227 rfl) rfl
theorem q1527 : (Jvm.Cond.code ({ cls := "ClassGateModel", name := "u1", desc := "(I)I" } : Jvm.MethodName) prog_6_method_9_code (2 : Nat) (Option.some Jvm.ClassFile.FieldType.int)) ∈ lw_all := lw_g (lw_at lw_m6 228 rfl) rfl
theorem q1528 : (Jvm.Cond.constantLong "ClassGateModel" (262 : Nat) (3405691582 : Int64)) ∈ lw_all := lw_g (lw_at lw_m6 229 rfl) rfl
theorem q1529 : (Jvm.Cond.constantLong "ClassGateModel" (264 : Nat) (2 : Int64)) ∈ lw_all := lw_g (lw_at lw_m6 230 rfl) rfl
theorem q1530 : (Jvm.Cond.methodLink "ClassGateModel" (269 : Nat) ({ cls := "ClassGateModel", name := "readPool", desc := "()Z" } : Jvm.MethodName)) ∈ lw_all := lw_g (lw_at lw_m6 231 rfl) rfl
theorem q1531 : (Jvm.Cond.privateMethod ({ cls := "ClassGateModel", name := "readPool", desc := "()Z" } : Jvm.MethodName)) ∈ lw_tbl := lw_at lw_m6 232 rfl
theorem q1532 : (Jvm.Cond.instanceMethod ({ cls := "ClassGateModel", name := "readPool", desc := "()Z" } : Jvm.MethodName)) ∈ lw_all := lw_g (lw_at lw_m6 233 rfl) rfl
theorem q1533 : (Jvm.Cond.code ({ cls := "ClassGateModel", name := "readPool", desc := "()Z" } : Jvm.MethodName) prog_6_method_20_code (6 : Nat) (Option.some Jvm.ClassFile.FieldType.boolean)) ∈ lw_all := lw_g (lw_at lw_m6 234 rfl) rfl
theorem q1534 : (Jvm.Cond.methodLink "ClassGateModel" (291 : Nat) ({ cls := "ClassGateModel", name := "utf8", desc := "(III)Z" } : Jvm.MethodName)) ∈ lw_all := lw_g (lw_at lw_m6 235 rfl) rfl
theorem q1535 : (Jvm.Cond.privateMethod ({ cls := "ClassGateModel", name := "utf8", desc := "(III)Z" } : Jvm.MethodName)) ∈ lw_tbl := lw_at lw_m6 236 rfl
theorem q1536 : (Jvm.Cond.instanceMethod ({ cls := "ClassGateModel", name := "utf8", desc := "(III)Z" } : Jvm.MethodName)) ∈ lw_all := lw_g (lw_at lw_m6 237 rfl) rfl
theorem q1537 : (Jvm.Cond.code ({ cls := "ClassGateModel", name := "utf8", desc := "(III)Z" } : Jvm.MethodName) prog_6_method_21_code (10 : Nat) (Option.some Jvm.ClassFile.FieldType.boolean)) ∈ lw_all := lw_g (lw_at lw_m6 238 rfl) rfl
theorem q1538 : (Jvm.Cond.methodLink "ClassGateModel" (279 : Nat) ({ cls := "ClassGateModel", name := "members", desc := "()Z" } : Jvm.MethodName)) ∈ lw_all := lw_g (lw_at lw_m6 239 rfl) rfl
theorem q1539 : (Jvm.Cond.privateMethod ({ cls := "ClassGateModel", name := "members", desc := "()Z" } : Jvm.MethodName)) ∈ lw_tbl := lw_at lw_m7 0 rfl
theorem q1540 : (Jvm.Cond.instanceMethod ({ cls := "ClassGateModel", name := "members", desc := "()Z" } : Jvm.MethodName)) ∈ lw_all := lw_g (lw_at lw_m7 1 rfl) rfl
theorem q1541 : (Jvm.Cond.code ({ cls := "ClassGateModel", name := "members", desc := "()Z" } : Jvm.MethodName) prog_6_method_18_code (4 : Nat) (Option.some Jvm.ClassFile.FieldType.boolean)) ∈ lw_all := lw_g (lw_at lw_m7 2 rfl) rfl
theorem q1542 : (Jvm.Cond.methodLink "ClassGateModel" (288 : Nat) ({ cls := "ClassGateModel", name := "attributes", desc := "()Z" } : Jvm.MethodName)) ∈ lw_all := lw_g (lw_at lw_m7 3 rfl) rfl
theorem q1543 : (Jvm.Cond.privateMethod ({ cls := "ClassGateModel", name := "attributes", desc := "()Z" } : Jvm.MethodName)) ∈ lw_tbl := lw_at lw_m7 4 rfl
theorem q1544 : (Jvm.Cond.instanceMethod ({ cls := "ClassGateModel", name := "attributes", desc := "()Z" } : Jvm.MethodName)) ∈ lw_all := lw_g (lw_at lw_m7 5 rfl) rfl
theorem q1545 : (Jvm.Cond.code ({ cls := "ClassGateModel", name := "attributes", desc := "()Z" } : Jvm.MethodName) prog_6_method_19_code (5 : Nat) (Option.some Jvm.ClassFile.FieldType.boolean)) ∈ lw_all := lw_g (lw_at lw_m7 6 rfl) rfl
theorem q1546 : (Jvm.Cond.methodLink "ClassGateModel" (421 : Nat) ({ cls := "ClassGateModel", name := "checkPool", desc := "()Z" } : Jvm.MethodName)) ∈ lw_all := lw_g (lw_at lw_m7 7 rfl) rfl
theorem q1547 : (Jvm.Cond.privateMethod ({ cls := "ClassGateModel", name := "checkPool", desc := "()Z" } : Jvm.MethodName)) ∈ lw_tbl := lw_at lw_m7 8 rfl
theorem q1548 : (Jvm.Cond.instanceMethod ({ cls := "ClassGateModel", name := "checkPool", desc := "()Z" } : Jvm.MethodName)) ∈ lw_all := lw_g (lw_at lw_m7 9 rfl) rfl
theorem q1549 : (Jvm.Cond.code ({ cls := "ClassGateModel", name := "checkPool", desc := "()Z" } : Jvm.MethodName) prog_6_method_30_code (8 : Nat) (Option.some Jvm.ClassFile.FieldType.boolean)) ∈ lw_all := lw_g (lw_at lw_m7 10 rfl) rfl
theorem q1550 : (Jvm.Cond.methodLink "ClassGateModel" (305 : Nat) ({ cls := "ClassGateModel", name := "indexes", desc := "(IIZ)Z" } : Jvm.MethodName)) ∈ lw_all := lw_g (lw_at lw_m7 11 rfl) rfl
theorem q1551 : (Jvm.Cond.privateMethod ({ cls := "ClassGateModel", name := "indexes", desc := "(IIZ)Z" } : Jvm.MethodName)) ∈ lw_tbl := lw_at lw_m7 12 rfl
theorem q1552 : (Jvm.Cond.instanceMethod ({ cls := "ClassGateModel", name := "indexes", desc := "(IIZ)Z" } : Jvm.MethodName)) ∈ lw_all := lw_g (lw_at lw_m7 13 rfl) rfl
theorem q1553 : (Jvm.Cond.code ({ cls := "ClassGateModel", name := "indexes", desc := "(IIZ)Z" } : Jvm.MethodName) prog_6_method_32_code (5 : Nat) (Option.some Jvm.ClassFile.FieldType.boolean)) ∈ lw_all := lw_g (lw_at lw_m7 14 rfl) rfl
theorem q1554 : (Jvm.Cond.methodLink "ClassGateModel" (309 : Nat) ({ cls := "ClassGateModel", name := "index", desc := "(II)I" } : Jvm.MethodName)) ∈ lw_all := lw_g (lw_at lw_m7 15 rfl) rfl
theorem q1555 : (Jvm.Cond.privateMethod ({ cls := "ClassGateModel", name := "index", desc := "(II)I" } : Jvm.MethodName)) ∈ lw_tbl := lw_at lw_m7 16 rfl
theorem q1556 : (Jvm.Cond.instanceMethod ({ cls := "ClassGateModel", name := "index", desc := "(II)I" } : Jvm.MethodName)) ∈ lw_all := lw_g (lw_at lw_m7 17 rfl) rfl
theorem q1557 : (Jvm.Cond.code ({ cls := "ClassGateModel", name := "index", desc := "(II)I" } : Jvm.MethodName) prog_6_method_15_code (3 : Nat) (Option.some Jvm.ClassFile.FieldType.int)) ∈ lw_all := lw_g (lw_at lw_m7 18 rfl) rfl
theorem q1558 : (Jvm.Cond.methodLink "ClassGateModel" (338 : Nat) ({ cls := "ClassGateModel", name := "tag", desc := "(I)I" } : Jvm.MethodName)) ∈ lw_all := lw_g (lw_at lw_m7 19 rfl) rfl
theorem q1559 : (Jvm.Cond.privateMethod ({ cls := "ClassGateModel", name := "tag", desc := "(I)I" } : Jvm.MethodName)) ∈ lw_tbl := lw_at lw_m7 20 rfl
theorem q1560 : (Jvm.Cond.instanceMethod ({ cls := "ClassGateModel", name := "tag", desc := "(I)I" } : Jvm.MethodName)) ∈ lw_all := lw_g (lw_at lw_m7 21 rfl) rfl
theorem q1561 : (Jvm.Cond.code ({ cls := "ClassGateModel", name := "tag", desc := "(I)I" } : Jvm.MethodName) prog_6_method_14_code (2 : Nat) (Option.some Jvm.ClassFile.FieldType.int)) ∈ lw_all := lw_g (lw_at lw_m7 22 rfl) rfl
theorem q1562 : (Jvm.Cond.methodLink "ClassGateModel" (312 : Nat) ({ cls := "ClassGateModel", name := "symOf", desc := "(I)I" } : Jvm.MethodName)) ∈ lw_all := lw_g (lw_at lw_m7 23 rfl) rfl
theorem q1563 : (Jvm.Cond.privateMethod ({ cls := "ClassGateModel", name := "symOf", desc := "(I)I" } : Jvm.MethodName)) ∈ lw_tbl := lw_at lw_m7 24 rfl
theorem q1564 : (Jvm.Cond.instanceMethod ({ cls := "ClassGateModel", name := "symOf", desc := "(I)I" } : Jvm.MethodName)) ∈ lw_all := lw_g (lw_at lw_m7 25 rfl) rfl
theorem q1565 : (Jvm.Cond.code ({ cls := "ClassGateModel", name := "symOf", desc := "(I)I" } : Jvm.MethodName) prog_6_method_16_code (2 : Nat) (Option.some Jvm.ClassFile.FieldType.int)) ∈ lw_all := lw_g (lw_at lw_m7 26 rfl) rfl
theorem q1566 : (Jvm.Cond.methodLink "ClassGateModel" (315 : Nat) ({ cls := "ClassGateModel", name := "classText", desc := "(I)Z" } : Jvm.MethodName)) ∈ lw_all := lw_g (lw_at lw_m7 27 rfl) rfl
theorem q1567 : (Jvm.Cond.privateMethod ({ cls := "ClassGateModel", name := "classText", desc := "(I)Z" } : Jvm.MethodName)) ∈ lw_tbl := lw_at lw_m7 28 rfl
theorem q1568 : (Jvm.Cond.instanceMethod ({ cls := "ClassGateModel", name := "classText", desc := "(I)Z" } : Jvm.MethodName)) ∈ lw_all := lw_g (lw_at lw_m7 29 rfl) rfl
theorem q1569 : (Jvm.Cond.code ({ cls := "ClassGateModel", name := "classText", desc := "(I)Z" } : Jvm.MethodName) prog_6_method_23_code (2 : Nat) (Option.some Jvm.ClassFile.FieldType.boolean)) ∈ lw_all := lw_g (lw_at lw_m7 30 rfl) rfl
theorem q1570 : (Jvm.Cond.methodLink "ClassGateModel" (215 : Nat) ({ cls := "ClassGateModel", name := "length", desc := "(I)I" } : Jvm.MethodName)) ∈ lw_all := lw_g (lw_at lw_m7 31 rfl) rfl
theorem q1571 : (Jvm.Cond.privateMethod ({ cls := "ClassGateModel", name := "length", desc := "(I)I" } : Jvm.MethodName)) ∈ lw_tbl := lw_at lw_m7 32 rfl
theorem q1572 : (Jvm.Cond.instanceMethod ({ cls := "ClassGateModel", name := "length", desc := "(I)I" } : Jvm.MethodName)) ∈ lw_all := lw_g (lw_at lw_m7 33 rfl) rfl
theorem q1573 : (Jvm.Cond.code ({ cls := "ClassGateModel", name := "length", desc := "(I)I" } : Jvm.MethodName) prog_6_method_6_code (2 : Nat) (Option.some Jvm.ClassFile.FieldType.int)) ∈ lw_all := lw_g (lw_at lw_m7 34 rfl) rfl
theorem q1574 : (Jvm.Cond.methodLink "ClassGateModel" (217 : Nat) ({ cls := "ClassGateModel", name := "at", desc := "(II)C" } : Jvm.MethodName)) ∈ lw_all := lw_g (lw_at lw_m7 35 rfl) rfl
theorem q1575 : (Jvm.Cond.privateMethod ({ cls := "ClassGateModel", name := "at", desc := "(II)C" } : Jvm.MethodName)) ∈ lw_tbl := lw_at lw_m7 36 rfl
theorem q1576 : (Jvm.Cond.instanceMethod ({ cls := "ClassGateModel", name := "at", desc := "(II)C" } : Jvm.MethodName)) ∈ lw_all := lw_g (lw_at lw_m7 37 rfl) rfl
theorem q1577 : (Jvm.Cond.code ({ cls := "ClassGateModel", name := "at", desc := "(II)C" } : Jvm.MethodName) prog_6_method_7_code (3 : Nat) (Option.some Jvm.ClassFile.FieldType.char)) ∈ lw_all := lw_g (lw_at lw_m7 38 rfl) rfl
theorem q1578 : (Jvm.Cond.methodLink "ClassGateModel" (295 : Nat) ({ cls := "ClassGateModel", name := "fieldText", desc := "(II)I" } : Jvm.MethodName)) ∈ lw_all := lw_g (lw_at lw_m7 39 rfl) rfl
theorem q1579 : (Jvm.Cond.privateMethod ({ cls := "ClassGateModel", name := "fieldText", desc := "(II)I" } : Jvm.MethodName)) ∈ lw_tbl := lw_at lw_m7 40 rfl
theorem q1580 : (Jvm.Cond.instanceMethod ({ cls := "ClassGateModel", name := "fieldText", desc := "(II)I" } : Jvm.MethodName)) ∈ lw_all := lw_g (lw_at lw_m7 41 rfl) rfl
theorem q1581 : (Jvm.Cond.code ({ cls := "ClassGateModel", name := "fieldText", desc := "(II)I" } : Jvm.MethodName) prog_6_method_25_code (7 : Nat) (Option.some Jvm.ClassFile.FieldType.int)) ∈ lw_all := lw_g (lw_at lw_m7 42 rfl) rfl
theorem q1582 : (Jvm.Cond.methodLink "ClassGateModel" (299 : Nat) ({ cls := "ClassGateModel", name := "nameText", desc := "(III)Z" } : Jvm.MethodName)) ∈ lw_all := lw_g (lw_at lw_m7 43 rfl) rfl
theorem q1583 : (Jvm.Cond.privateMethod ({ cls := "ClassGateModel", name := "nameText", desc := "(III)Z" } : Jvm.MethodName)) ∈ lw_tbl := lw_at lw_m7 44 rfl
theorem q1584 : (Jvm.Cond.instanceMethod ({ cls := "ClassGateModel", name := "nameText", desc := "(III)Z" } : Jvm.MethodName)) ∈ lw_all := lw_g (lw_at lw_m7 45 rfl) rfl
theorem q1585 : (Jvm.Cond.code ({ cls := "ClassGateModel", name := "nameText", desc := "(III)Z" } : Jvm.MethodName) prog_6_method_24_code (7 : Nat) (Option.some Jvm.ClassFile.FieldType.boolean)) ∈ lw_all := lw_g (lw_at lw_m7 46 rfl) rfl
theorem q1586 : (Jvm.Cond.methodLink "ClassGateModel" (319 : Nat) ({ cls := "ClassGateModel", name := "unqualified", desc := "(IZ)Z" } : Jvm.MethodName)) ∈ lw_all := lw_g (lw_at lw_m7 47 rfl) rfl
theorem q1587 : (Jvm.Cond.privateMethod ({ cls := "ClassGateModel", name := "unqualified", desc := "(IZ)Z" } : Jvm.MethodName)) ∈ lw_tbl := lw_at lw_m7 48 rfl
theorem q1588 : (Jvm.Cond.instanceMethod ({ cls := "ClassGateModel", name := "unqualified", desc := "(IZ)Z" } : Jvm.MethodName)) ∈ lw_all := lw_g (lw_at lw_m7 49 rfl) rfl
theorem q1589 : (Jvm.Cond.code ({ cls := "ClassGateModel", name := "unqualified", desc := "(IZ)Z" } : Jvm.MethodName) prog_6_method_22_code (6 : Nat) (Option.some Jvm.ClassFile.FieldType.boolean)) ∈ lw_all := lw_g (lw_at lw_m7 50 rfl) rfl
theorem q1590 : (Jvm.Cond.methodLink "ClassGateModel" (323 : Nat) ({ cls := "ClassGateModel", name := "isField", desc := "(I)Z" } : Jvm.MethodName)) ∈ lw_all := lw_g (lw_at lw_m7 51 rfl) rfl
theorem q1591 : (Jvm.Cond.privateMethod ({ cls := "ClassGateModel", name := "isField", desc := "(I)Z" } : Jvm.MethodName)) ∈ lw_tbl := lw_at lw_m7 52 rfl
theorem q1592 : (Jvm.Cond.instanceMethod ({ cls := "ClassGateModel", name := "isField", desc := "(I)Z" } : Jvm.MethodName)) ∈ lw_all := lw_g (lw_at lw_m7 53 rfl) rfl
theorem q1593 : (Jvm.Cond.code ({ cls := "ClassGateModel", name := "isField", desc := "(I)Z" } : Jvm.MethodName) prog_6_method_26_code (2 : Nat) (Option.some Jvm.ClassFile.FieldType.boolean)) ∈ lw_all := lw_g (lw_at lw_m7 54 rfl) rfl
theorem q1594 : (Jvm.Cond.methodLink "ClassGateModel" (326 : Nat) ({ cls := "ClassGateModel", name := "isMethod", desc := "(I)Z" } : Jvm.MethodName)) ∈ lw_all := lw_g (lw_at lw_m7 55 rfl) rfl
theorem q1595 : (Jvm.Cond.privateMethod ({ cls := "ClassGateModel", name := "isMethod", desc := "(I)Z" } : Jvm.MethodName)) ∈ lw_tbl := lw_at lw_m7 56 rfl
theorem q1596 : (Jvm.Cond.instanceMethod ({ cls := "ClassGateModel", name := "isMethod", desc := "(I)Z" } : Jvm.MethodName)) ∈ lw_all := lw_g (lw_at lw_m7 57 rfl) rfl
theorem q1597 : (Jvm.Cond.code ({ cls := "ClassGateModel", name := "isMethod", desc := "(I)Z" } : Jvm.MethodName) prog_6_method_27_code (4 : Nat) (Option.some Jvm.ClassFile.FieldType.boolean)) ∈ lw_all := lw_g (lw_at lw_m7 58 rfl) rfl
theorem q1598 : (Jvm.Cond.methodLink "ClassGateModel" (302 : Nat) ({ cls := "ClassGateModel", name := "places0", desc := "(I)I" } : Jvm.MethodName)) ∈ lw_all := lw_g (lw_at lw_m7 59 rfl) rfl
theorem q1599 : (Jvm.Cond.privateMethod ({ cls := "ClassGateModel", name := "places0", desc := "(I)I" } : Jvm.MethodName)) ∈ lw_tbl := lw_at lw_m7 60 rfl
theorem q1600 : (Jvm.Cond.instanceMethod ({ cls := "ClassGateModel", name := "places0", desc := "(I)I" } : Jvm.MethodName)) ∈ lw_all := lw_g (lw_at lw_m7 61 rfl) rfl
theorem q1601 : (Jvm.Cond.code ({ cls := "ClassGateModel", name := "places0", desc := "(I)I" } : Jvm.MethodName) prog_6_method_28_code (5 : Nat) (Option.some Jvm.ClassFile.FieldType.int)) ∈ lw_all := lw_g (lw_at lw_m7 62 rfl) rfl
theorem q1602 : (Jvm.Cond.methodLink "ClassGateModel" (329 : Nat) ({ cls := "ClassGateModel", name := "angles", desc := "(I)Z" } : Jvm.MethodName)) ∈ lw_all := lw_g (lw_at lw_m7 63 rfl) rfl
theorem q1603 : (Jvm.Cond.privateMethod ({ cls := "ClassGateModel", name := "angles", desc := "(I)Z" } : Jvm.MethodName)) ∈ lw_tbl := lw_at lw_m7 64 rfl
theorem q1604 : (Jvm.Cond.instanceMethod ({ cls := "ClassGateModel", name := "angles", desc := "(I)Z" } : Jvm.MethodName)) ∈ lw_all := lw_g (lw_at lw_m7 65 rfl) rfl
theorem q1605 : (Jvm.Cond.code ({ cls := "ClassGateModel", name := "angles", desc := "(I)Z" } : Jvm.MethodName) prog_6_method_31_code (3 : Nat) (Option.some Jvm.ClassFile.FieldType.boolean)) ∈ lw_all := lw_g (lw_at lw_m7 66 rfl) rfl
theorem q1606 : (Jvm.Cond.methodLink "ClassGateModel" (332 : Nat) ({ cls := "ClassGateModel", name := "endsV", desc := "(I)Z" } : Jvm.MethodName)) ∈ lw_all := lw_g (lw_at lw_m7 67 rfl) rfl
theorem q1607 : (Jvm.Cond.privateMethod ({ cls := "ClassGateModel", name := "endsV", desc := "(I)Z" } : Jvm.MethodName)) ∈ lw_tbl := lw_at lw_m7 68 rfl
theorem q1608 : (Jvm.Cond.instanceMethod ({ cls := "ClassGateModel", name := "endsV", desc := "(I)Z" } : Jvm.MethodName)) ∈ lw_all := lw_g (lw_at lw_m7 69 rfl) rfl
theorem q1609 : (Jvm.Cond.code ({ cls := "ClassGateModel", name := "endsV", desc := "(I)Z" } : Jvm.MethodName) prog_6_method_29_code (2 : Nat) (Option.some Jvm.ClassFile.FieldType.boolean)) ∈ lw_all := lw_g (lw_at lw_m7 70 rfl) rfl
theorem q1610 : (Jvm.Cond.methodLink "ClassGateModel" (335 : Nat) ({ cls := "ClassGateModel", name := "handleEntry", desc := "(I)Z" } : Jvm.MethodName)) ∈ lw_all := lw_g (lw_at lw_m7 71 rfl) rfl
theorem q1611 : (Jvm.Cond.privateMethod ({ cls := "ClassGateModel", name := "handleEntry", desc := "(I)Z" } : Jvm.MethodName)) ∈ lw_tbl := lw_at lw_m7 72 rfl
theorem q1612 : (Jvm.Cond.instanceMethod ({ cls := "ClassGateModel", name := "handleEntry", desc := "(I)Z" } : Jvm.MethodName)) ∈ lw_all := lw_g (lw_at lw_m7 73 rfl) rfl
theorem q1613 : (Jvm.Cond.code ({ cls := "ClassGateModel", name := "handleEntry", desc := "(I)Z" } : Jvm.MethodName) prog_6_method_33_code (6 : Nat) (Option.some Jvm.ClassFile.FieldType.boolean)) ∈ lw_all := lw_g (lw_at lw_m7 74 rfl) rfl
theorem q1614 : (Jvm.Cond.methodLink "ClassGateModel" (424 : Nat) ({ cls := "ClassGateModel", name := "checkClass", desc := "()Z" } : Jvm.MethodName)) ∈ lw_all := lw_g (lw_at lw_m7 75 rfl) rfl
theorem q1615 : (Jvm.Cond.privateMethod ({ cls := "ClassGateModel", name := "checkClass", desc := "()Z" } : Jvm.MethodName)) ∈ lw_tbl := lw_at lw_m7 76 rfl
theorem q1616 : (Jvm.Cond.instanceMethod ({ cls := "ClassGateModel", name := "checkClass", desc := "()Z" } : Jvm.MethodName)) ∈ lw_all := lw_g (lw_at lw_m7 77 rfl) rfl
theorem q1617 : (Jvm.Cond.code ({ cls := "ClassGateModel", name := "checkClass", desc := "()Z" } : Jvm.MethodName) prog_6_method_36_code (8 : Nat) (Option.some Jvm.ClassFile.FieldType.boolean)) ∈ lw_all := lw_g (lw_at lw_m7 78 rfl) rfl
theorem q1618 : (Jvm.Cond.constant "ClassGateModel" (347 : Nat) (32768 : Int32)) ∈ lw_all := lw_g (lw_at lw_m7 79 rfl) rfl
theorem q1619 : (Jvm.Cond.methodLink "ClassGateModel" (348 : Nat) ({ cls := "ClassGateModel", name := "plainClass", desc := "(I)Z" } : Jvm.MethodName)) ∈ lw_all := lw_g (lw_at lw_m7 80 rfl) rfl
theorem q1620 : (Jvm.Cond.privateMethod ({ cls := "ClassGateModel", name := "plainClass", desc := "(I)Z" } : Jvm.MethodName)) ∈ lw_tbl := lw_at lw_m7 81 rfl
theorem q1621 : (Jvm.Cond.instanceMethod ({ cls := "ClassGateModel", name := "plainClass", desc := "(I)Z" } : Jvm.MethodName)) ∈ lw_all := lw_g (lw_at lw_m7 82 rfl) rfl
theorem q1622 : (Jvm.Cond.code ({ cls := "ClassGateModel", name := "plainClass", desc := "(I)Z" } : Jvm.MethodName) prog_6_method_35_code (2 : Nat) (Option.some Jvm.ClassFile.FieldType.boolean)) ∈ lw_all := lw_g (lw_at lw_m7 83 rfl) rfl
theorem q1623 : (Jvm.Cond.methodLink "ClassGateModel" (341 : Nat) ({ cls := "ClassGateModel", name := "className", desc := "(I)I" } : Jvm.MethodName)) ∈ lw_all := lw_g (lw_at lw_m7 84 rfl) rfl
theorem q1624 : (Jvm.Cond.privateMethod ({ cls := "ClassGateModel", name := "className", desc := "(I)I" } : Jvm.MethodName)) ∈ lw_tbl := lw_at lw_m7 85 rfl
theorem q1625 : (Jvm.Cond.instanceMethod ({ cls := "ClassGateModel", name := "className", desc := "(I)I" } : Jvm.MethodName)) ∈ lw_all := lw_g (lw_at lw_m7 86 rfl) rfl
theorem q1626 : (Jvm.Cond.code ({ cls := "ClassGateModel", name := "className", desc := "(I)I" } : Jvm.MethodName) prog_6_method_34_code (2 : Nat) (Option.some Jvm.ClassFile.FieldType.int)) ∈ lw_all := lw_g (lw_at lw_m7 87 rfl) rfl
theorem q1627 : (Jvm.Cond.methodLink "ClassGateModel" (427 : Nat) ({ cls := "ClassGateModel", name := "checkFields", desc := "()Z" } : Jvm.MethodName)) ∈ lw_all := lw_g (lw_at lw_m7 88 rfl) rfl
theorem q1628 : (Jvm.Cond.privateMethod ({ cls := "ClassGateModel", name := "checkFields", desc := "()Z" } : Jvm.MethodName)) ∈ lw_tbl := lw_at lw_m7 89 rfl
theorem q1629 : (Jvm.Cond.instanceMethod ({ cls := "ClassGateModel", name := "checkFields", desc := "()Z" } : Jvm.MethodName)) ∈ lw_all := lw_g (lw_at lw_m7 90 rfl) rfl
theorem q1630 : (Jvm.Cond.code ({ cls := "ClassGateModel", name := "checkFields", desc := "()Z" } : Jvm.MethodName) prog_6_method_38_code (8 : Nat) (Option.some Jvm.ClassFile.FieldType.boolean)) ∈ lw_all := lw_g (lw_at lw_m7 91 rfl) rfl
theorem q1631 : (Jvm.Cond.methodLink "ClassGateModel" (360 : Nat) ({ cls := "ClassGateModel", name := "several", desc := "(IIII)Z" } : Jvm.MethodName)) ∈ lw_all := lw_g (lw_at lw_m7 92 rfl) rfl
theorem q1632 : (Jvm.Cond.static ({ cls := "ClassGateModel", name := "several", desc := "(IIII)Z" } : Jvm.MethodName)) ∈ lw_all := lw_g (lw_at lw_m7 93 rfl) rfl
theorem q1633 : (Jvm.Cond.code ({ cls := "ClassGateModel", name := "several", desc := "(IIII)Z" } : Jvm.MethodName) prog_6_method_37_code (4 : Nat) (Option.some Jvm.ClassFile.FieldType.boolean)) ∈ lw_all := lw_g (lw_at lw_m7 94 rfl) rfl
theorem q1634 : (Jvm.Cond.methodLink "ClassGateModel" (364 : Nat) ({ cls := "ClassGateModel", name := "checkAttributes", desc := "(III)I" } : Jvm.MethodName)) ∈ lw_all := lw_g (lw_at lw_m7 95 rfl) rfl
theorem q1635 : (Jvm.Cond.privateMethod ({ cls := "ClassGateModel", name := "checkAttributes", desc := "(III)I" } : Jvm.MethodName)) ∈ lw_tbl := lw_at lw_m7 96 rfl
theorem q1636 : (Jvm.Cond.instanceMethod ({ cls := "ClassGateModel", name := "checkAttributes", desc := "(III)I" } : Jvm.MethodName)) ∈ lw_all := lw_g (lw_at lw_m7 97 rfl) rfl
theorem q1637 : (Jvm.Cond.code ({ cls := "ClassGateModel", name := "checkAttributes", desc := "(III)I" } : Jvm.MethodName) prog_6_method_41_code (12 : Nat) (Option.some Jvm.ClassFile.FieldType.int)) ∈ lw_all := lw_g (lw_at lw_m7 98 rfl) rfl
theorem q1638 : (Jvm.Cond.methodLink "ClassGateModel" (372 : Nat) ({ cls := "ClassGateModel", name := "is", desc := "(ILjava/lang/String;)Z" } : Jvm.MethodName)) ∈ lw_all := lw_g (lw_at lw_m7 99 rfl) rfl
theorem q1639 : (Jvm.Cond.privateMethod ({ cls := "ClassGateModel", name := "is", desc := "(ILjava/lang/String;)Z" } : Jvm.MethodName)) ∈ lw_tbl := lw_at lw_m7 100 rfl
theorem q1640 : (Jvm.Cond.instanceMethod ({ cls := "ClassGateModel", name := "is", desc := "(ILjava/lang/String;)Z" } : Jvm.MethodName)) ∈ lw_all := lw_g (lw_at lw_m7 101 rfl) rfl
theorem q1641 : (Jvm.Cond.code ({ cls := "ClassGateModel", name := "is", desc := "(ILjava/lang/String;)Z" } : Jvm.MethodName) prog_6_method_8_code (4 : Nat) (Option.some Jvm.ClassFile.FieldType.boolean)) ∈ lw_all := lw_g (lw_at lw_m7 102 rfl) rfl
theorem q1642 : (Jvm.Cond.methodLink "ClassGateModel" (379 : Nat) ({ cls := "ClassGateModel", name := "attribute", desc := "(IIIIII)I" } : Jvm.MethodName)) ∈ lw_all := lw_g (lw_at lw_m7 103 rfl) rfl
theorem q1643 : (Jvm.Cond.privateMethod ({ cls := "ClassGateModel", name := "attribute", desc := "(IIIIII)I" } : Jvm.MethodName)) ∈ lw_tbl := lw_at lw_m7 104 rfl
theorem q1644 : (Jvm.Cond.instanceMethod ({ cls := "ClassGateModel", name := "attribute", desc := "(IIIIII)I" } : Jvm.MethodName)) ∈ lw_all := lw_g (lw_at lw_m7 105 rfl) rfl
theorem q1645 : (Jvm.Cond.code ({ cls := "ClassGateModel", name := "attribute", desc := "(IIIIII)I" } : Jvm.MethodName) prog_6_method_42_code (11 : Nat) (Option.some Jvm.ClassFile.FieldType.int)) ∈ lw_all := lw_g (lw_at lw_m7 106 rfl) rfl
theorem q1646 : (Jvm.Cond.stringRef "ClassGateModel" (383 : Nat) "Ljava/lang/String;") ∈ lw_tbl := lw_at lw_m7 107 rfl
theorem q1647 : (Jvm.Cond.methodLink "ClassGateModel" (385 : Nat) ({ cls := "ClassGateModel", name := "code", desc := "(IIII)I" } : Jvm.MethodName)) ∈ lw_all := lw_g (lw_at lw_m7 108 rfl) rfl
theorem q1648 : (Jvm.Cond.privateMethod ({ cls := "ClassGateModel", name := "code", desc := "(IIII)I" } : Jvm.MethodName)) ∈ lw_tbl := lw_at lw_m7 109 rfl
theorem q1649 : (Jvm.Cond.instanceMethod ({ cls := "ClassGateModel", name := "code", desc := "(IIII)I" } : Jvm.MethodName)) ∈ lw_all := lw_g (lw_at lw_m7 110 rfl) rfl
theorem q1650 : (Jvm.Cond.code ({ cls := "ClassGateModel", name := "code", desc := "(IIII)I" } : Jvm.MethodName) prog_6_method_45_code (15 : Nat) (Option.some Jvm.ClassFile.FieldType.int)) ∈ lw_all := lw_g (lw_at lw_m7 111 rfl) rfl
theorem q1651 : (Jvm.Cond.constantLong "ClassGateModel" (416 : Nat) (65535 : Int64)) ∈ lw_all := lw_g (lw_at lw_m7 112 rfl) rfl
theorem q1652 : (Jvm.Cond.methodLink "ClassGateModel" (398 : Nat) ({ cls := "ClassGateModel", name := "bootstraps", desc := "(II)I" } : Jvm.MethodName)) ∈ lw_all := lw_g (lw_at lw_m7 113 rfl) rfl
theorem q1653 : (Jvm.Cond.privateMethod ({ cls := "ClassGateModel", name := "bootstraps", desc := "(II)I" } : Jvm.MethodName)) ∈ lw_tbl := lw_at lw_m7 114 rfl
theorem q1654 : (Jvm.Cond.instanceMethod ({ cls := "ClassGateModel", name := "bootstraps", desc := "(II)I" } : Jvm.MethodName)) ∈ lw_all := lw_g (lw_at lw_m7 115 rfl) rfl
theorem q1655 : (Jvm.Cond.code ({ cls := "ClassGateModel", name := "bootstraps", desc := "(II)I" } : Jvm.MethodName) prog_6_method_43_code (8 : Nat) (Option.some Jvm.ClassFile.FieldType.int)) ∈ lw_all := lw_g (lw_at lw_m7 116 rfl) rfl
theorem q1656 : (Jvm.Cond.methodLink "ClassGateModel" (404 : Nat) ({ cls := "ClassGateModel", name := "components", desc := "(II)I" } : Jvm.MethodName)) ∈ lw_all := lw_g (lw_at lw_m7 117 rfl) rfl
theorem q1657 : (Jvm.Cond.privateMethod ({ cls := "ClassGateModel", name := "components", desc := "(II)I" } : Jvm.MethodName)) ∈ lw_tbl := lw_at lw_m7 118 rfl
theorem q1658 : (Jvm.Cond.instanceMethod ({ cls := "ClassGateModel", name := "components", desc := "(II)I" } : Jvm.MethodName)) ∈ lw_all := lw_g (lw_at lw_m7 119 rfl) rfl
theorem q1659 : (Jvm.Cond.code ({ cls := "ClassGateModel", name := "components", desc := "(II)I" } : Jvm.MethodName) prog_6_method_44_code (8 : Nat) (Option.some Jvm.ClassFile.FieldType.int)) ∈ lw_all := lw_g (lw_at lw_m7 120 rfl) rfl
theorem q1660 : (Jvm.Cond.methodLink "ClassGateModel" (430 : Nat) ({ cls := "ClassGateModel", name := "checkMethods", desc := "()Z" } : Jvm.MethodName)) ∈ lw_all := lw_g (lw_at lw_m7 121 rfl) rfl
theorem q1661 : (Jvm.Cond.privateMethod ({ cls := "ClassGateModel", name := "checkMethods", desc := "()Z" } : Jvm.MethodName)) ∈ lw_tbl := lw_at lw_m7 122 rfl
theorem q1662 : (Jvm.Cond.instanceMethod ({ cls := "ClassGateModel", name := "checkMethods", desc := "()Z" } : Jvm.MethodName)) ∈ lw_all := lw_g (lw_at lw_m7 123 rfl) rfl
theorem q1663 : (Jvm.Cond.code ({ cls := "ClassGateModel", name := "checkMethods", desc := "()Z" } : Jvm.MethodName) prog_6_method_39_code (14 : Nat) (Option.some Jvm.ClassFile.FieldType.boolean)) ∈ lw_all := lw_g (lw_at lw_m7 124 rfl) rfl
theorem q1664 : (Jvm.Cond.methodLink "ClassGateModel" (368 : Nat) ({ cls := "ClassGateModel", name := "flagsFit", desc := "(IZZ)Z" } : Jvm.MethodName)) ∈ lw_all := lw_g (lw_at lw_m7 125 rfl) rfl
theorem q1665 : (Jvm.Cond.privateMethod ({ cls := "ClassGateModel", name := "flagsFit", desc := "(IZZ)Z" } : Jvm.MethodName)) ∈ lw_tbl := lw_at lw_m7 126 rfl
theorem q1666 : (Jvm.Cond.instanceMethod ({ cls := "ClassGateModel", name := "flagsFit", desc := "(IZZ)Z" } : Jvm.MethodName)) ∈ lw_all := lw_g (lw_at lw_m7 127 rfl) rfl
theorem q1667 : (Jvm.Cond.code ({ cls := "ClassGateModel", name := "flagsFit", desc := "(IZZ)Z" } : Jvm.MethodName) prog_6_method_40_code (5 : Nat) (Option.some Jvm.ClassFile.FieldType.boolean)) ∈ lw_all := lw_g (lw_at lw_m7 128 rfl) rfl
theorem q1669 : (Jvm.Cond.instanceMethod ({ cls := "ClassGateModel", name := "place", desc := "()I" } : Jvm.MethodName)) ∈ lw_all := lw_g (lw_at lw_m7 130 rfl) rfl
theorem q1670 : (Jvm.Cond.selects "ClassGateModel" ({ cls := "ClassGateModel", name := "place", desc := "()I" } : Jvm.MethodName) ({ cls := "ClassGateModel", name := "place", desc := "()I" } : Jvm.MethodName)) ∈ lw_all := lw_g (lw_at lw_m7 131 rfl) rfl
theorem q1671 : (Jvm.Cond.code ({ cls := "ClassGateModel", name := "place", desc := "()I" } : Jvm.MethodName) prog_6_method_53_code (1 : Nat) (Option.some Jvm.ClassFile.FieldType.int)) ∈ lw_all := lw_g (lw_at lw_m7 132 rfl) rfl
theorem q1673 : (Jvm.Cond.instanceMethod ({ cls := "ClassGateModel", name := "count", desc := "(I)I" } : Jvm.MethodName)) ∈ lw_all := lw_g (lw_at lw_m7 134 rfl) rfl
theorem q1674 : (Jvm.Cond.selects "ClassGateModel" ({ cls := "ClassGateModel", name := "count", desc := "(I)I" } : Jvm.MethodName) ({ cls := "ClassGateModel", name := "count", desc := "(I)I" } : Jvm.MethodName)) ∈ lw_all := lw_g (lw_at lw_m7 135 rfl) rfl
theorem q1675 : (Jvm.Cond.code ({ cls := "ClassGateModel", name := "count", desc := "(I)I" } : Jvm.MethodName) prog_6_method_54_code (4 : Nat) (Option.some Jvm.ClassFile.FieldType.int)) ∈ lw_all := lw_g (lw_at lw_m7 136 rfl) rfl
theorem q1677 : (Jvm.Cond.instanceMethod ({ cls := "ClassGateModel", name := "entry", desc := "(II)I" } : Jvm.MethodName)) ∈ lw_all := lw_g (lw_at lw_m7 138 rfl) rfl
theorem q1678 : (Jvm.Cond.selects "ClassGateModel" ({ cls := "ClassGateModel", name := "entry", desc := "(II)I" } : Jvm.MethodName) ({ cls := "ClassGateModel", name := "entry", desc := "(II)I" } : Jvm.MethodName)) ∈ lw_all := lw_g (lw_at lw_m7 139 rfl) rfl
theorem q1679 : (Jvm.Cond.code ({ cls := "ClassGateModel", name := "entry", desc := "(II)I" } : Jvm.MethodName) prog_6_method_55_code (4 : Nat) (Option.some Jvm.ClassFile.FieldType.int)) ∈ lw_all := lw_g (lw_at lw_m7 140 rfl) rfl
theorem q1681 : (Jvm.Cond.instanceMethod ({ cls := "ClassGateModel", name := "bits", desc := "(I)J" } : Jvm.MethodName)) ∈ lw_all := lw_g (lw_at lw_m7 142 rfl) rfl
theorem q1682 : (Jvm.Cond.selects "ClassGateModel" ({ cls := "ClassGateModel", name := "bits", desc := "(I)J" } : Jvm.MethodName) ({ cls := "ClassGateModel", name := "bits", desc := "(I)J" } : Jvm.MethodName)) ∈ lw_all := lw_g (lw_at lw_m7 143 rfl) rfl
theorem q1683 : (Jvm.Cond.code ({ cls := "ClassGateModel", name := "bits", desc := "(I)J" } : Jvm.MethodName) prog_6_method_56_code (3 : Nat) (Option.some Jvm.ClassFile.FieldType.long)) ∈ lw_all := lw_g (lw_at lw_m7 144 rfl) rfl
theorem q1685 : (Jvm.Cond.instanceMethod ({ cls := "ClassGateModel", name := "character", desc := "(II)I" } : Jvm.MethodName)) ∈ lw_all := lw_g (lw_at lw_m7 146 rfl) rfl
theorem q1686 : (Jvm.Cond.selects "ClassGateModel" ({ cls := "ClassGateModel", name := "character", desc := "(II)I" } : Jvm.MethodName) ({ cls := "ClassGateModel", name := "character", desc := "(II)I" } : Jvm.MethodName)) ∈ lw_all := lw_g (lw_at lw_m7 147 rfl) rfl
theorem q1687 : (Jvm.Cond.code ({ cls := "ClassGateModel", name := "character", desc := "(II)I" } : Jvm.MethodName) prog_6_method_57_code (3 : Nat) (Option.some Jvm.ClassFile.FieldType.int)) ∈ lw_all := lw_g (lw_at lw_m7 148 rfl) rfl
theorem q1689 : (Jvm.Cond.instanceMethod ({ cls := "ClassGateModel", name := "member", desc := "(ZII)I" } : Jvm.MethodName)) ∈ lw_all := lw_g (lw_at lw_m7 150 rfl) rfl
theorem q1690 : (Jvm.Cond.selects "ClassGateModel" ({ cls := "ClassGateModel", name := "member", desc := "(ZII)I" } : Jvm.MethodName) ({ cls := "ClassGateModel", name := "member", desc := "(ZII)I" } : Jvm.MethodName)) ∈ lw_all := lw_g (lw_at lw_m7 151 rfl) rfl
theorem q1691 : (Jvm.Cond.code ({ cls := "ClassGateModel", name := "member", desc := "(ZII)I" } : Jvm.MethodName) prog_6_method_58_code (4 : Nat) (Option.some Jvm.ClassFile.FieldType.int)) ∈ lw_all := lw_g (lw_at lw_m7 152 rfl) rfl
theorem q1693 : (Jvm.Cond.instanceMethod ({ cls := "ClassGateModel", name := "find", desc := "(ZII)I" } : Jvm.MethodName)) ∈ lw_all := lw_g (lw_at lw_m7 154 rfl) rfl
theorem q1694 : (Jvm.Cond.selects "ClassGateModel" ({ cls := "ClassGateModel", name := "find", desc := "(ZII)I" } : Jvm.MethodName) ({ cls := "ClassGateModel", name := "find", desc := "(ZII)I" } : Jvm.MethodName)) ∈ lw_all := lw_g (lw_at lw_m7 155 rfl) rfl
theorem q1695 : (Jvm.Cond.code ({ cls := "ClassGateModel", name := "find", desc := "(ZII)I" } : Jvm.MethodName) prog_6_method_59_code (7 : Nat) (Option.some Jvm.ClassFile.FieldType.int)) ∈ lw_all := lw_g (lw_at lw_m7 156 rfl) rfl
theorem q1697 : (Jvm.Cond.instanceMethod ({ cls := "ClassGateModel", name := "row", desc := "(III)I" } : Jvm.MethodName)) ∈ lw_all := lw_g (lw_at lw_m7 158 rfl) rfl
theorem q1698 : (Jvm.Cond.selects "ClassGateModel" ({ cls := "ClassGateModel", name := "row", desc := "(III)I" } : Jvm.MethodName) ({ cls := "ClassGateModel", name := "row", desc := "(III)I" } : Jvm.MethodName)) ∈ lw_all := lw_g (lw_at lw_m7 159 rfl) rfl
theorem q1699 : (Jvm.Cond.code ({ cls := "ClassGateModel", name := "row", desc := "(III)I" } : Jvm.MethodName) prog_6_method_60_code (4 : Nat) (Option.some Jvm.ClassFile.FieldType.int)) ∈ lw_all := lw_g (lw_at lw_m7 160 rfl) rfl
theorem q1701 : (Jvm.Cond.instanceMethod ({ cls := "ClassGateModel", name := "bootstrap", desc := "(II)I" } : Jvm.MethodName)) ∈ lw_all := lw_g (lw_at lw_m7 162 rfl) rfl
theorem q1702 : (Jvm.Cond.selects "ClassGateModel" ({ cls := "ClassGateModel", name := "bootstrap", desc := "(II)I" } : Jvm.MethodName) ({ cls := "ClassGateModel", name := "bootstrap", desc := "(II)I" } : Jvm.MethodName)) ∈ lw_all := lw_g (lw_at lw_m7 163 rfl) rfl
theorem q1703 : (Jvm.Cond.code ({ cls := "ClassGateModel", name := "bootstrap", desc := "(II)I" } : Jvm.MethodName) prog_6_method_61_code (5 : Nat) (Option.some Jvm.ClassFile.FieldType.int)) ∈ lw_all := lw_g (lw_at lw_m7 164 rfl) rfl
theorem q1705 : (Jvm.Cond.instanceMethod ({ cls := "ClassGateModel", name := "places", desc := "(I)I" } : Jvm.MethodName)) ∈ lw_all := lw_g (lw_at lw_m7 166 rfl) rfl
theorem q1706 : (Jvm.Cond.selects "ClassGateModel" ({ cls := "ClassGateModel", name := "places", desc := "(I)I" } : Jvm.MethodName) ({ cls := "ClassGateModel", name := "places", desc := "(I)I" } : Jvm.MethodName)) ∈ lw_all := lw_g (lw_at lw_m7 167 rfl) rfl
theorem q1707 : (Jvm.Cond.code ({ cls := "ClassGateModel", name := "places", desc := "(I)I" } : Jvm.MethodName) prog_6_method_62_code (5 : Nat) (Option.some Jvm.ClassFile.FieldType.int)) ∈ lw_all := lw_g (lw_at lw_m7 168 rfl) rfl
theorem q1708 : (Jvm.Cond.methodLink "ClassGateModel" (453 : Nat) ({ cls := "ClassGateModel", name := "wide", desc := "(II)Z" } : Jvm.MethodName)) ∈ lw_all := lw_g (lw_at lw_m7 169 rfl) rfl
theorem q1709 : (Jvm.Cond.privateMethod ({ cls := "ClassGateModel", name := "wide", desc := "(II)Z" } : Jvm.MethodName)) ∈ lw_tbl := lw_at lw_m7 170 rfl
theorem q1710 : (Jvm.Cond.instanceMethod ({ cls := "ClassGateModel", name := "wide", desc := "(II)Z" } : Jvm.MethodName)) ∈ lw_all := lw_g (lw_at lw_m7 171 rfl) rfl
theorem q1711 : (Jvm.Cond.code ({ cls := "ClassGateModel", name := "wide", desc := "(II)Z" } : Jvm.MethodName) prog_6_method_63_code (3 : Nat) (Option.some Jvm.ClassFile.FieldType.boolean)) ∈ lw_all := lw_g (lw_at lw_m7 172 rfl) rfl
theorem q1713 : (Jvm.Cond.instanceMethod ({ cls := "ClassGateModel", name := "cut", desc := "(I)I" } : Jvm.MethodName)) ∈ lw_all := lw_g (lw_at lw_m7 174 rfl) rfl
theorem q1714 : (Jvm.Cond.selects "ClassGateModel" ({ cls := "ClassGateModel", name := "cut", desc := "(I)I" } : Jvm.MethodName) ({ cls := "ClassGateModel", name := "cut", desc := "(I)I" } : Jvm.MethodName)) ∈ lw_all := lw_g (lw_at lw_m7 175 rfl) rfl
theorem q1715 : (Jvm.Cond.code ({ cls := "ClassGateModel", name := "cut", desc := "(I)I" } : Jvm.MethodName) prog_6_method_80_code (2 : Nat) (Option.some Jvm.ClassFile.FieldType.int)) ∈ lw_all := lw_g (lw_at lw_m7 176 rfl) rfl
theorem q1716 : (Jvm.Cond.methodLink "ClassGateModel" (519 : Nat) ({ cls := "ClassGateModel", name := "noCode", desc := "(I)Z" } : Jvm.MethodName)) ∈ lw_all := lw_g (lw_at lw_m7 177 rfl) rfl
theorem q1717 : (Jvm.Cond.privateMethod ({ cls := "ClassGateModel", name := "noCode", desc := "(I)Z" } : Jvm.MethodName)) ∈ lw_tbl := lw_at lw_m7 178 rfl
theorem q1718 : (Jvm.Cond.instanceMethod ({ cls := "ClassGateModel", name := "noCode", desc := "(I)Z" } : Jvm.MethodName)) ∈ lw_all := lw_g (lw_at lw_m7 179 rfl) rfl
theorem q1719 : (Jvm.Cond.code ({ cls := "ClassGateModel", name := "noCode", desc := "(I)Z" } : Jvm.MethodName) prog_6_method_69_code (2 : Nat) (Option.some Jvm.ClassFile.FieldType.boolean)) ∈ lw_all := lw_g (lw_at lw_m7 180 rfl) rfl
theorem q1720 : (Jvm.Cond.methodLink "ClassGateModel" (522 : Nat) ({ cls := "ClassGateModel", name := "cuts", desc := "(I)Z" } : Jvm.MethodName)) ∈ lw_all := lw_g (lw_at lw_m7 181 rfl) rfl
theorem q1721 : (Jvm.Cond.privateMethod ({ cls := "ClassGateModel", name := "cuts", desc := "(I)Z" } : Jvm.MethodName)) ∈ lw_tbl := lw_at lw_m7 182 rfl
theorem q1722 : (Jvm.Cond.instanceMethod ({ cls := "ClassGateModel", name := "cuts", desc := "(I)Z" } : Jvm.MethodName)) ∈ lw_all := lw_g (lw_at lw_m7 183 rfl) rfl
theorem q1723 : (Jvm.Cond.code ({ cls := "ClassGateModel", name := "cuts", desc := "(I)Z" } : Jvm.MethodName) prog_6_method_70_code (5 : Nat) (Option.some Jvm.ClassFile.FieldType.boolean)) ∈ lw_all := lw_g (lw_at lw_m7 184 rfl) rfl
theorem q1724 : (Jvm.Cond.methodLink "ClassGateModel" (474 : Nat) ({ cls := "ClassGateModel", name := "b1", desc := "(I)I" } : Jvm.MethodName)) ∈ lw_all := lw_g (lw_at lw_m7 185 rfl) rfl
theorem q1725 : (Jvm.Cond.privateMethod ({ cls := "ClassGateModel", name := "b1", desc := "(I)I" } : Jvm.MethodName)) ∈ lw_tbl := lw_at lw_m7 186 rfl
theorem q1726 : (Jvm.Cond.instanceMethod ({ cls := "ClassGateModel", name := "b1", desc := "(I)I" } : Jvm.MethodName)) ∈ lw_all := lw_g (lw_at lw_m7 187 rfl) rfl
theorem q1727 : (Jvm.Cond.code ({ cls := "ClassGateModel", name := "b1", desc := "(I)I" } : Jvm.MethodName) prog_6_method_64_code (2 : Nat) (Option.some Jvm.ClassFile.FieldType.int)) ∈ lw_all := lw_g (lw_at lw_m7 188 rfl) rfl
theorem q1728 : (Jvm.Cond.methodLink "ClassGateModel" (477 : Nat) ({ cls := "ClassGateModel", name := "formed", desc := "(II)I" } : Jvm.MethodName)) ∈ lw_all := lw_g (lw_at lw_m7 189 rfl) rfl
theorem q1729 : (Jvm.Cond.privateMethod ({ cls := "ClassGateModel", name := "formed", desc := "(II)I" } : Jvm.MethodName)) ∈ lw_tbl := lw_at lw_m7 190 rfl
theorem q1730 : (Jvm.Cond.instanceMethod ({ cls := "ClassGateModel", name := "formed", desc := "(II)I" } : Jvm.MethodName)) ∈ lw_all := lw_g (lw_at lw_m7 191 rfl) rfl
theorem q1731 : (Jvm.Cond.code ({ cls := "ClassGateModel", name := "formed", desc := "(II)I" } : Jvm.MethodName) prog_6_method_71_code (7 : Nat) (Option.some Jvm.ClassFile.FieldType.int)) ∈ lw_all := lw_g (lw_at lw_m7 192 rfl) rfl
theorem q1732 : (Jvm.Cond.methodLink "ClassGateModel" (488 : Nat) ({ cls := "ClassGateModel", name := "pad", desc := "(I)I" } : Jvm.MethodName)) ∈ lw_all := lw_g (lw_at lw_m7 193 rfl) rfl
theorem q1733 : (Jvm.Cond.static ({ cls := "ClassGateModel", name := "pad", desc := "(I)I" } : Jvm.MethodName)) ∈ lw_all := lw_g (lw_at lw_m7 194 rfl) rfl
theorem q1734 : (Jvm.Cond.code ({ cls := "ClassGateModel", name := "pad", desc := "(I)I" } : Jvm.MethodName) prog_6_method_68_code (1 : Nat) (Option.some Jvm.ClassFile.FieldType.int)) ∈ lw_all := lw_g (lw_at lw_m7 195 rfl) rfl
theorem q1735 : (Jvm.Cond.methodLink "ClassGateModel" (491 : Nat) ({ cls := "ClassGateModel", name := "b4", desc := "(I)I" } : Jvm.MethodName)) ∈ lw_all := lw_g (lw_at lw_m7 196 rfl) rfl
theorem q1736 : (Jvm.Cond.privateMethod ({ cls := "ClassGateModel", name := "b4", desc := "(I)I" } : Jvm.MethodName)) ∈ lw_tbl := lw_at lw_m7 197 rfl
theorem q1737 : (Jvm.Cond.instanceMethod ({ cls := "ClassGateModel", name := "b4", desc := "(I)I" } : Jvm.MethodName)) ∈ lw_all := lw_g (lw_at lw_m7 198 rfl) rfl
theorem q1738 : (Jvm.Cond.code ({ cls := "ClassGateModel", name := "b4", desc := "(I)I" } : Jvm.MethodName) prog_6_method_67_code (2 : Nat) (Option.some Jvm.ClassFile.FieldType.int)) ∈ lw_all := lw_g (lw_at lw_m7 199 rfl) rfl
theorem q1739 : (Jvm.Cond.constantLong "ClassGateModel" (494 : Nat) (12 : Int64)) ∈ lw_all := lw_g (lw_at lw_m7 200 rfl) rfl
theorem q1740 : (Jvm.Cond.constantLong "ClassGateModel" (496 : Nat) (8 : Int64)) ∈ lw_all := lw_g (lw_at lw_m7 201 rfl) rfl
theorem q1741 : (Jvm.Cond.stringRef "ClassGateModel" (480 : Nat) "1111111111111111232332222211111111111111111111111111112222211111111111111111111111111111111111111111111111111111111111111111111111113111111111111111111113333333333333333200111111333333355323113311043355") ∈ lw_tbl := lw_at lw_m7 202 rfl
theorem q1742 : (Jvm.Cond.methodLink "ClassGateModel" (482 : Nat) ({ cls := "ClassGateModel", name := "operands", desc := "(II)Z" } : Jvm.MethodName)) ∈ lw_all := lw_g (lw_at lw_m7 203 rfl) rfl
theorem q1743 : (Jvm.Cond.privateMethod ({ cls := "ClassGateModel", name := "operands", desc := "(II)Z" } : Jvm.MethodName)) ∈ lw_tbl := lw_at lw_m7 204 rfl
theorem q1744 : (Jvm.Cond.instanceMethod ({ cls := "ClassGateModel", name := "operands", desc := "(II)Z" } : Jvm.MethodName)) ∈ lw_all := lw_g (lw_at lw_m7 205 rfl) rfl
theorem q1745 : (Jvm.Cond.code ({ cls := "ClassGateModel", name := "operands", desc := "(II)Z" } : Jvm.MethodName) prog_6_method_75_code (6 : Nat) (Option.some Jvm.ClassFile.FieldType.boolean)) ∈ lw_all := lw_g (lw_at lw_m7 206 rfl) rfl
theorem q1746 : (Jvm.Cond.methodLink "ClassGateModel" (498 : Nat) ({ cls := "ClassGateModel", name := "local", desc := "(II)Z" } : Jvm.MethodName)) ∈ lw_all := lw_g (lw_at lw_m7 207 rfl) rfl
theorem q1747 : (Jvm.Cond.privateMethod ({ cls := "ClassGateModel", name := "local", desc := "(II)Z" } : Jvm.MethodName)) ∈ lw_tbl := lw_at lw_m7 208 rfl
theorem q1748 : (Jvm.Cond.instanceMethod ({ cls := "ClassGateModel", name := "local", desc := "(II)Z" } : Jvm.MethodName)) ∈ lw_all := lw_g (lw_at lw_m7 209 rfl) rfl
theorem q1749 : (Jvm.Cond.code ({ cls := "ClassGateModel", name := "local", desc := "(II)Z" } : Jvm.MethodName) prog_6_method_72_code (3 : Nat) (Option.some Jvm.ClassFile.FieldType.boolean)) ∈ lw_all := lw_g (lw_at lw_m7 210 rfl) rfl
theorem q1750 : (Jvm.Cond.methodLink "ClassGateModel" (459 : Nat) ({ cls := "ClassGateModel", name := "b2", desc := "(I)I" } : Jvm.MethodName)) ∈ lw_all := lw_g (lw_at lw_m7 211 rfl) rfl
theorem q1751 : (Jvm.Cond.privateMethod ({ cls := "ClassGateModel", name := "b2", desc := "(I)I" } : Jvm.MethodName)) ∈ lw_tbl := lw_at lw_m7 212 rfl
theorem q1752 : (Jvm.Cond.instanceMethod ({ cls := "ClassGateModel", name := "b2", desc := "(I)I" } : Jvm.MethodName)) ∈ lw_all := lw_g (lw_at lw_m7 213 rfl) rfl
theorem q1753 : (Jvm.Cond.code ({ cls := "ClassGateModel", name := "b2", desc := "(I)I" } : Jvm.MethodName) prog_6_method_65_code (2 : Nat) (Option.some Jvm.ClassFile.FieldType.int)) ∈ lw_all := lw_g (lw_at lw_m7 214 rfl) rfl
theorem q1754 : (Jvm.Cond.methodLink "ClassGateModel" (501 : Nat) ({ cls := "ClassGateModel", name := "descOf", desc := "(I)I" } : Jvm.MethodName)) ∈ lw_all := lw_g (lw_at lw_m7 215 rfl) rfl
theorem q1755 : (Jvm.Cond.privateMethod ({ cls := "ClassGateModel", name := "descOf", desc := "(I)I" } : Jvm.MethodName)) ∈ lw_tbl := lw_at lw_m7 216 rfl
theorem q1756 : (Jvm.Cond.instanceMethod ({ cls := "ClassGateModel", name := "descOf", desc := "(I)I" } : Jvm.MethodName)) ∈ lw_all := lw_g (lw_at lw_m7 217 rfl) rfl
theorem q1757 : (Jvm.Cond.code ({ cls := "ClassGateModel", name := "descOf", desc := "(I)I" } : Jvm.MethodName) prog_6_method_74_code (2 : Nat) (Option.some Jvm.ClassFile.FieldType.int)) ∈ lw_all := lw_g (lw_at lw_m7 218 rfl) rfl
theorem q1758 : (Jvm.Cond.methodLink "ClassGateModel" (504 : Nat) ({ cls := "ClassGateModel", name := "nameOf", desc := "(I)I" } : Jvm.MethodName)) ∈ lw_all := lw_g (lw_at lw_m7 219 rfl) rfl
theorem q1759 : (Jvm.Cond.privateMethod ({ cls := "ClassGateModel", name := "nameOf", desc := "(I)I" } : Jvm.MethodName)) ∈ lw_tbl := lw_at lw_m7 220 rfl
theorem q1760 : (Jvm.Cond.instanceMethod ({ cls := "ClassGateModel", name := "nameOf", desc := "(I)I" } : Jvm.MethodName)) ∈ lw_all := lw_g (lw_at lw_m7 221 rfl) rfl
theorem q1761 : (Jvm.Cond.code ({ cls := "ClassGateModel", name := "nameOf", desc := "(I)I" } : Jvm.MethodName) prog_6_method_73_code (2 : Nat) (Option.some Jvm.ClassFile.FieldType.int)) ∈ lw_all := lw_g (lw_at lw_m7 222 rfl) rfl
theorem q1762 : (Jvm.Cond.methodLink "ClassGateModel" (485 : Nat) ({ cls := "ClassGateModel", name := "aims", desc := "(I)Z" } : Jvm.MethodName)) ∈ lw_all := lw_g (lw_at lw_m7 223 rfl) rfl
theorem q1763 : (Jvm.Cond.privateMethod ({ cls := "ClassGateModel", name := "aims", desc := "(I)Z" } : Jvm.MethodName)) ∈ lw_tbl := lw_at lw_m7 224 rfl
theorem q1764 : (Jvm.Cond.instanceMethod ({ cls := "ClassGateModel", name := "aims", desc := "(I)Z" } : Jvm.MethodName)) ∈ lw_all := lw_g (lw_at lw_m7 225 rfl) rfl
theorem q1765 : (Jvm.Cond.code ({ cls := "ClassGateModel", name := "aims", desc := "(I)Z" } : Jvm.MethodName) prog_6_method_77_code (4 : Nat) (Option.some Jvm.ClassFile.FieldType.boolean)) ∈ lw_all := lw_g (lw_at lw_m7 226 rfl) rfl
theorem q1766 : (Jvm.Cond.methodLink "ClassGateModel" (507 : Nat) ({ cls := "ClassGateModel", name := "s2", desc := "(I)I" } : Jvm.MethodName)) ∈ lw_all := lw_g (lw_at lw_m7 227 rfl) rfl
theorem q1767 : (Jvm.Cond.privateMethod ({ cls := "ClassGateModel", name := "s2", desc := "(I)I" } : Jvm.MethodName)) ∈ lw_tbl := lw_at lw_m7 228 rfl
theorem q1768 : (Jvm.Cond.instanceMethod ({ cls := "ClassGateModel", name := "s2", desc := "(I)I" } : Jvm.MethodName)) ∈ lw_all := lw_g (lw_at lw_m7 229 rfl) rfl
theorem q1769 : (Jvm.Cond.code ({ cls := "ClassGateModel", name := "s2", desc := "(I)I" } : Jvm.MethodName) prog_6_method_66_code (2 : Nat) (Option.some Jvm.ClassFile.FieldType.int)) ∈ lw_all := lw_g (lw_at lw_m7 230 rfl) rfl
theorem q1770 : (Jvm.Cond.methodLink "ClassGateModel" (510 : Nat) ({ cls := "ClassGateModel", name := "starts", desc := "(J)Z" } : Jvm.MethodName)) ∈ lw_all := lw_g (lw_at lw_m7 231 rfl) rfl
theorem q1771 : (Jvm.Cond.privateMethod ({ cls := "ClassGateModel", name := "starts", desc := "(J)Z" } : Jvm.MethodName)) ∈ lw_tbl := lw_at lw_m7 232 rfl
theorem q1772 : (Jvm.Cond.instanceMethod ({ cls := "ClassGateModel", name := "starts", desc := "(J)Z" } : Jvm.MethodName)) ∈ lw_all := lw_g (lw_at lw_m7 233 rfl) rfl
theorem q1773 : (Jvm.Cond.code ({ cls := "ClassGateModel", name := "starts", desc := "(J)Z" } : Jvm.MethodName) prog_6_method_76_code (3 : Nat) (Option.some Jvm.ClassFile.FieldType.boolean)) ∈ lw_all := lw_g (lw_at lw_m7 234 rfl) rfl
theorem q1774 : (Jvm.Cond.methodLink "ClassGateModel" (513 : Nat) ({ cls := "ClassGateModel", name := "ways", desc := "(I)I" } : Jvm.MethodName)) ∈ lw_all := lw_g (lw_at lw_m7 235 rfl) rfl
theorem q1775 : (Jvm.Cond.privateMethod ({ cls := "ClassGateModel", name := "ways", desc := "(I)I" } : Jvm.MethodName)) ∈ lw_tbl := lw_at lw_m7 236 rfl
theorem q1776 : (Jvm.Cond.instanceMethod ({ cls := "ClassGateModel", name := "ways", desc := "(I)I" } : Jvm.MethodName)) ∈ lw_all := lw_g (lw_at lw_m7 237 rfl) rfl
theorem q1777 : (Jvm.Cond.code ({ cls := "ClassGateModel", name := "ways", desc := "(I)I" } : Jvm.MethodName) prog_6_method_78_code (3 : Nat) (Option.some Jvm.ClassFile.FieldType.int)) ∈ lw_all := lw_g (lw_at lw_m7 238 rfl) rfl
theorem q1778 : (Jvm.Cond.methodLink "ClassGateModel" (516 : Nat) ({ cls := "ClassGateModel", name := "wayAt", desc := "(II)I" } : Jvm.MethodName)) ∈ lw_all := lw_g (lw_at lw_m7 239 rfl) rfl
theorem q1779 : (Jvm.Cond.privateMethod ({ cls := "ClassGateModel", name := "wayAt", desc := "(II)I" } : Jvm.MethodName)) ∈ lw_tbl := lw_at lw_m8 0 rfl
theorem q1780 : (Jvm.Cond.instanceMethod ({ cls := "ClassGateModel", name := "wayAt", desc := "(II)I" } : Jvm.MethodName)) ∈ lw_all := lw_g (lw_at lw_m8 1 rfl) rfl
theorem q1781 : (Jvm.Cond.code ({ cls := "ClassGateModel", name := "wayAt", desc := "(II)I" } : Jvm.MethodName) prog_6_method_79_code (4 : Nat) (Option.some Jvm.ClassFile.FieldType.int)) ∈ lw_all := lw_g (lw_at lw_m8 2 rfl) rfl
theorem q1783 : (Jvm.Cond.instanceMethod ({ cls := "ClassGateModel", name := "instruction", desc := "(III)I" } : Jvm.MethodName)) ∈ lw_all := lw_g (lw_at lw_m8 4 rfl) rfl
theorem q1784 : (Jvm.Cond.selects "ClassGateModel" ({ cls := "ClassGateModel", name := "instruction", desc := "(III)I" } : Jvm.MethodName) ({ cls := "ClassGateModel", name := "instruction", desc := "(III)I" } : Jvm.MethodName)) ∈ lw_all := lw_g (lw_at lw_m8 5 rfl) rfl
theorem q1785 : (Jvm.Cond.code ({ cls := "ClassGateModel", name := "instruction", desc := "(III)I" } : Jvm.MethodName) prog_6_method_81_code (6 : Nat) (Option.some Jvm.ClassFile.FieldType.int)) ∈ lw_all := lw_g (lw_at lw_m8 6 rfl) rfl
theorem q1786 : (Jvm.Cond.methodLink "ClassGateModel" (525 : Nat) ({ cls := "ClassGateModel", name := "plain", desc := "(II)I" } : Jvm.MethodName)) ∈ lw_all := lw_g (lw_at lw_m8 7 rfl) rfl
theorem q1787 : (Jvm.Cond.privateMethod ({ cls := "ClassGateModel", name := "plain", desc := "(II)I" } : Jvm.MethodName)) ∈ lw_tbl := lw_at lw_m8 8 rfl
theorem q1788 : (Jvm.Cond.instanceMethod ({ cls := "ClassGateModel", name := "plain", desc := "(II)I" } : Jvm.MethodName)) ∈ lw_all := lw_g (lw_at lw_m8 9 rfl) rfl
theorem q1789 : (Jvm.Cond.code ({ cls := "ClassGateModel", name := "plain", desc := "(II)I" } : Jvm.MethodName) prog_6_method_82_code (3 : Nat) (Option.some Jvm.ClassFile.FieldType.int)) ∈ lw_all := lw_g (lw_at lw_m8 10 rfl) rfl
theorem q1790 : (Jvm.Cond.methodLink "ClassGateModel" (528 : Nat) ({ cls := "ClassGateModel", name := "first", desc := "(II)I" } : Jvm.MethodName)) ∈ lw_all := lw_g (lw_at lw_m8 11 rfl) rfl
theorem q1791 : (Jvm.Cond.privateMethod ({ cls := "ClassGateModel", name := "first", desc := "(II)I" } : Jvm.MethodName)) ∈ lw_tbl := lw_at lw_m8 12 rfl
theorem q1792 : (Jvm.Cond.instanceMethod ({ cls := "ClassGateModel", name := "first", desc := "(II)I" } : Jvm.MethodName)) ∈ lw_all := lw_g (lw_at lw_m8 13 rfl) rfl
theorem q1793 : (Jvm.Cond.code ({ cls := "ClassGateModel", name := "first", desc := "(II)I" } : Jvm.MethodName) prog_6_method_83_code (3 : Nat) (Option.some Jvm.ClassFile.FieldType.int)) ∈ lw_all := lw_g (lw_at lw_m8 14 rfl) rfl
theorem q1794 : (Jvm.Cond.methodLink "ClassGateModel" (531 : Nat) ({ cls := "ClassGateModel", name := "second", desc := "(II)I" } : Jvm.MethodName)) ∈ lw_all := lw_g (lw_at lw_m8 15 rfl) rfl
theorem q1795 : (Jvm.Cond.privateMethod ({ cls := "ClassGateModel", name := "second", desc := "(II)I" } : Jvm.MethodName)) ∈ lw_tbl := lw_at lw_m8 16 rfl
theorem q1796 : (Jvm.Cond.instanceMethod ({ cls := "ClassGateModel", name := "second", desc := "(II)I" } : Jvm.MethodName)) ∈ lw_all := lw_g (lw_at lw_m8 17 rfl) rfl
theorem q1797 : (Jvm.Cond.code ({ cls := "ClassGateModel", name := "second", desc := "(II)I" } : Jvm.MethodName) prog_6_method_84_code (3 : Nat) (Option.some Jvm.ClassFile.FieldType.int)) ∈ lw_all := lw_g (lw_at lw_m8 18 rfl) rfl
theorem q1799 : (Jvm.Cond.instanceMethod ({ cls := "ClassGateModel", name := "jump", desc := "(IIIZ)I" } : Jvm.MethodName)) ∈ lw_all := lw_g (lw_at lw_m8 20 rfl) rfl
theorem q1800 : (Jvm.Cond.selects "ClassGateModel" ({ cls := "ClassGateModel", name := "jump", desc := "(IIIZ)I" } : Jvm.MethodName) ({ cls := "ClassGateModel", name := "jump", desc := "(IIIZ)I" } : Jvm.MethodName)) ∈ lw_all := lw_g (lw_at lw_m8 21 rfl) rfl
theorem q1801 : (Jvm.Cond.code ({ cls := "ClassGateModel", name := "jump", desc := "(IIIZ)I" } : Jvm.MethodName) prog_6_method_85_code (7 : Nat) (Option.some Jvm.ClassFile.FieldType.int)) ∈ lw_all := lw_g (lw_at lw_m8 22 rfl) rfl
theorem in_X2 : ∀ w ∈ wsX20, w ∈ lw_all := lw_in wsX20 [1309, 1311, 1313, 1315, 1317, 1319, 1321, 1323, 1325, 1327, 1329, 1331, 1333, 1335, 1337, 1339, 1341, 1343, 1345, 1347, 1349, 1351, 1353, 1355, 1357, 1359, 1361, 1363, 1365, 1367, 1369, 1371, 1373, 1375, 1377, 1379, 1381, 1383, 1385, 1387, 1389, 1391, 1393, 1395, 1397, 1399, 1401, 1403, 1405, 1407, 1409, 1411, 1413, 1415, 1417, 1419, 1421, 1423, 1425, 1427, 1429, 1431, 1433, 1435, 1437, 1439, 1441, 1443, 1445, 1447, 1449, 1451, 1453, 1455, 1457, 1459, 1461, 1463, 1465, 1467, 1469, 1471] (by decide +kernel) (by decide +kernel)

