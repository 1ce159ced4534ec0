/-! java/lang/AbstractStringBuilder -/
set_option maxRecDepth 100000
def RJ0 : String := "java/lang/AbstractStringBuilder"
abbrev cJ0_init : ByteArray := prog_7_method_2_code
def yJ0_init : MethodName := ⟨RJ0, "<init>", "(I)V"⟩
abbrev cJ0_setLength : ByteArray := prog_7_method_13_code
def yJ0_setLength : MethodName := ⟨RJ0, "setLength", "(I)V"⟩
abbrev cJ0_ensureCapacityInternal : ByteArray := prog_7_method_9_code
def yJ0_ensureCapacityInternal : MethodName := ⟨RJ0, "ensureCapacityInternal", "(I)V"⟩
abbrev cJ0_newCapacity : ByteArray := prog_7_method_10_code
def yJ0_newCapacity : MethodName := ⟨RJ0, "newCapacity", "(I)I"⟩
abbrev cJ0_isLatin1 : ByteArray := prog_7_method_68_code
def yJ0_isLatin1 : MethodName := ⟨RJ0, "isLatin1", "()Z"⟩
abbrev cJ0_append : ByteArray := prog_7_method_22_code
def yJ0_append : MethodName := ⟨RJ0, "append", "(Ljava/lang/String;)Ljava/lang/AbstractStringBuilder;"⟩
abbrev cJ0_appendNull : ByteArray := prog_7_method_26_code
def yJ0_appendNull : MethodName := ⟨RJ0, "appendNull", "()Ljava/lang/AbstractStringBuilder;"⟩
abbrev cJ0_putStringAt : ByteArray := prog_7_method_73_code
def yJ0_putStringAt : MethodName := ⟨RJ0, "putStringAt", "(ILjava/lang/String;)V"⟩
abbrev cJ0_inflateIfNeededFor : ByteArray := prog_7_method_71_code
def yJ0_inflateIfNeededFor : MethodName := ⟨RJ0, "inflateIfNeededFor", "(Ljava/lang/String;)V"⟩
abbrev cJ0_inflate : ByteArray := prog_7_method_11_code
def yJ0_inflate : MethodName := ⟨RJ0, "inflate", "()V"⟩
abbrev cJ0_append_2 : ByteArray := prog_7_method_32_code
def yJ0_append_2 : MethodName := ⟨RJ0, "append", "(I)Ljava/lang/AbstractStringBuilder;"⟩
abbrev cJ0_getValue : ByteArray := prog_7_method_64_code
def yJ0_getValue : MethodName := ⟨RJ0, "getValue", "()[B"⟩
abbrev cJ0_length : ByteArray := prog_7_method_6_code
def yJ0_length : MethodName := ⟨RJ0, "length", "()I"⟩
abbrev cJ0_append_3 : ByteArray := prog_7_method_31_code
def yJ0_append_3 : MethodName := ⟨RJ0, "append", "(C)Ljava/lang/AbstractStringBuilder;"⟩
theorem q101 : (Jvm.Cond.initialized "java/lang/AbstractStringBuilder") ∈ lw_all := lw_g (lw_at lw_m1 2 rfl) rfl
theorem q137 : (Jvm.Cond.instanceMethod ({ cls := "java/lang/AbstractStringBuilder", name := "<init>", desc := "(I)V" } : Jvm.MethodName)) ∈ lw_all := lw_g (lw_at lw_m1 38 rfl) rfl
theorem q138 : (Jvm.Cond.code ({ cls := "java/lang/AbstractStringBuilder", name := "<init>", desc := "(I)V" } : Jvm.MethodName) prog_7_method_2_code (2 : Nat) (Option.none : Option Jvm.ClassFile.FieldType)) ∈ lw_all := lw_g (lw_at lw_m1 39 rfl) rfl
theorem q139 : (Jvm.Cond.methodLink "java/lang/AbstractStringBuilder" (3 : Nat) ({ cls := "java/lang/Object", name := "<init>", desc := "()V" } : Jvm.MethodName)) ∈ lw_all := lw_g (lw_at lw_m1 40 rfl) rfl
theorem q140 : (Jvm.Cond.fieldLink "java/lang/AbstractStringBuilder" (18 : Nat) "java/lang/String" "COMPACT_STRINGS" "Z") ∈ lw_all := lw_g (lw_at lw_m1 41 rfl) rfl
theorem q142 : (Jvm.Cond.methodLink "java/lang/AbstractStringBuilder" (26 : Nat) ({ cls := "java/lang/StringUTF16", name := "newBytesFor", desc := "(I)[B" } : Jvm.MethodName)) ∈ lw_all := lw_g (lw_at lw_m1 43 rfl) rfl
theorem q149 : (Jvm.Cond.fieldLink "java/lang/AbstractStringBuilder" (15 : Nat) "java/lang/AbstractStringBuilder" "value" "[B") ∈ lw_all := lw_g (lw_at lw_m1 50 rfl) rfl
theorem q150 : (Jvm.Cond.fieldLink "java/lang/AbstractStringBuilder" (22 : Nat) "java/lang/AbstractStringBuilder" "coder" "B") ∈ lw_all := lw_g (lw_at lw_m1 51 rfl) rfl
theorem q151 : (Jvm.Cond.fieldLink "java/lang/AbstractStringBuilder" (73 : Nat) "java/lang/AbstractStringBuilder" "maybeLatin1" "Z") ∈ lw_all := lw_g (lw_at lw_m1 52 rfl) rfl
theorem q153 : (Jvm.Cond.fieldLink "java/lang/AbstractStringBuilder" (79 : Nat) "java/lang/AbstractStringBuilder" "count" "I") ∈ lw_all := lw_g (lw_at lw_m1 54 rfl) rfl
theorem q155 : (Jvm.Cond.soleField "java/lang/AbstractStringBuilder" "value") ∈ lw_all := lw_g (lw_at lw_m1 56 rfl) rfl
theorem q157 : (Jvm.Cond.soleField "java/lang/AbstractStringBuilder" "coder") ∈ lw_all := lw_g (lw_at lw_m1 58 rfl) rfl
theorem q159 : (Jvm.Cond.soleField "java/lang/AbstractStringBuilder" "maybeLatin1") ∈ lw_all := lw_g (lw_at lw_m1 60 rfl) rfl
theorem q161 : (Jvm.Cond.soleField "java/lang/AbstractStringBuilder" "count") ∈ lw_all := lw_g (lw_at lw_m1 62 rfl) rfl
theorem q348 : (Jvm.Cond.instanceMethod ({ cls := "java/lang/AbstractStringBuilder", name := "setLength", desc := "(I)V" } : Jvm.MethodName)) ∈ lw_all := lw_g (lw_at lw_m2 9 rfl) rfl
theorem q349 : (Jvm.Cond.code ({ cls := "java/lang/AbstractStringBuilder", name := "setLength", desc := "(I)V" } : Jvm.MethodName) prog_7_method_13_code (2 : Nat) (Option.none : Option Jvm.ClassFile.FieldType)) ∈ lw_all := lw_g (lw_at lw_m2 10 rfl) rfl
theorem q350 : (Jvm.Cond.methodLink "java/lang/AbstractStringBuilder" (100 : Nat) ({ cls := "java/lang/AbstractStringBuilder", name := "ensureCapacityInternal", desc := "(I)V" } : Jvm.MethodName)) ∈ lw_all := lw_g (lw_at lw_m2 11 rfl) rfl
theorem q351 : (Jvm.Cond.privateMethod ({ cls := "java/lang/AbstractStringBuilder", name := "ensureCapacityInternal", desc := "(I)V" } : Jvm.MethodName)) ∈ lw_tbl := lw_at lw_m2 12 rfl
theorem q352 : (Jvm.Cond.instanceMethod ({ cls := "java/lang/AbstractStringBuilder", name := "ensureCapacityInternal", desc := "(I)V" } : Jvm.MethodName)) ∈ lw_all := lw_g (lw_at lw_m2 13 rfl) rfl
theorem q353 : (Jvm.Cond.code ({ cls := "java/lang/AbstractStringBuilder", name := "ensureCapacityInternal", desc := "(I)V" } : Jvm.MethodName) prog_7_method_9_code (3 : Nat) (Option.none : Option Jvm.ClassFile.FieldType)) ∈ lw_all := lw_g (lw_at lw_m2 14 rfl) rfl
theorem q354 : (Jvm.Cond.methodLink "java/lang/AbstractStringBuilder" (104 : Nat) ({ cls := "java/lang/AbstractStringBuilder", name := "newCapacity", desc := "(I)I" } : Jvm.MethodName)) ∈ lw_all := lw_g (lw_at lw_m2 15 rfl) rfl
theorem q355 : (Jvm.Cond.privateMethod ({ cls := "java/lang/AbstractStringBuilder", name := "newCapacity", desc := "(I)I" } : Jvm.MethodName)) ∈ lw_tbl := lw_at lw_m2 16 rfl
theorem q356 : (Jvm.Cond.instanceMethod ({ cls := "java/lang/AbstractStringBuilder", name := "newCapacity", desc := "(I)I" } : Jvm.MethodName)) ∈ lw_all := lw_g (lw_at lw_m2 17 rfl) rfl
theorem q357 : (Jvm.Cond.code ({ cls := "java/lang/AbstractStringBuilder", name := "newCapacity", desc := "(I)I" } : Jvm.MethodName) prog_7_method_10_code (6 : Nat) (Option.some Jvm.ClassFile.FieldType.int)) ∈ lw_all := lw_g (lw_at lw_m2 18 rfl) rfl
theorem q358 : (Jvm.Cond.methodLink "java/lang/AbstractStringBuilder" (114 : Nat) ({ cls := "jdk/internal/util/ArraysSupport", name := "newLength", desc := "(III)I" } : Jvm.MethodName)) ∈ lw_all := lw_g (lw_at lw_m2 19 rfl) rfl
theorem q368 : (Jvm.Cond.constant "java/lang/AbstractStringBuilder" (39 : Nat) (2147483647 : Int32)) ∈ lw_all := lw_g (lw_at lw_m2 29 rfl) rfl
theorem q369 : (Jvm.Cond.methodLink "java/lang/AbstractStringBuilder" (108 : Nat) ({ cls := "java/util/Arrays", name := "copyOf", desc := "([BI)[B" } : Jvm.MethodName)) ∈ lw_all := lw_g (lw_at lw_m2 30 rfl) rfl
theorem q383 : (Jvm.Cond.methodLink "java/lang/AbstractStringBuilder" (83 : Nat) ({ cls := "java/lang/AbstractStringBuilder", name := "isLatin1", desc := "()Z" } : Jvm.MethodName)) ∈ lw_all := lw_g (lw_at lw_m2 44 rfl) rfl
theorem q384 : (Jvm.Cond.instanceMethod ({ cls := "java/lang/AbstractStringBuilder", name := "isLatin1", desc := "()Z" } : Jvm.MethodName)) ∈ lw_all := lw_g (lw_at lw_m2 45 rfl) rfl
theorem q385 : (Jvm.Cond.sameMethod "java/lang/AbstractStringBuilder" "java/lang/AbstractStringBuilder" "isLatin1" "()Z") ∈ lw_all := lw_g (lw_at lw_m2 46 rfl) rfl
theorem q387 : (Jvm.Cond.code ({ cls := "java/lang/AbstractStringBuilder", name := "isLatin1", desc := "()Z" } : Jvm.MethodName) prog_7_method_68_code (1 : Nat) (Option.some Jvm.ClassFile.FieldType.boolean)) ∈ lw_all := lw_g (lw_at lw_m2 48 rfl) rfl
theorem q388 : (Jvm.Cond.methodLink "java/lang/AbstractStringBuilder" (133 : Nat) ({ cls := "java/lang/StringLatin1", name := "fillNull", desc := "([BII)V" } : Jvm.MethodName)) ∈ lw_all := lw_g (lw_at lw_m2 49 rfl) rfl
theorem q445 : (Jvm.Cond.instanceMethod ({ cls := "java/lang/AbstractStringBuilder", name := "append", desc := "(Ljava/lang/String;)Ljava/lang/AbstractStringBuilder;" } : Jvm.MethodName)) ∈ lw_all := lw_g (lw_at lw_m2 106 rfl) rfl
theorem q446 : (Jvm.Cond.code ({ cls := "java/lang/AbstractStringBuilder", name := "append", desc := "(Ljava/lang/String;)Ljava/lang/AbstractStringBuilder;" } : Jvm.MethodName) prog_7_method_22_code (3 : Nat) (Option.some (Jvm.ClassFile.FieldType.object "java/lang/AbstractStringBuilder"))) ∈ lw_all := lw_g (lw_at lw_m2 107 rfl) rfl
theorem q447 : (Jvm.Cond.methodLink "java/lang/AbstractStringBuilder" (204 : Nat) ({ cls := "java/lang/AbstractStringBuilder", name := "appendNull", desc := "()Ljava/lang/AbstractStringBuilder;" } : Jvm.MethodName)) ∈ lw_all := lw_g (lw_at lw_m2 108 rfl) rfl
theorem q448 : (Jvm.Cond.privateMethod ({ cls := "java/lang/AbstractStringBuilder", name := "appendNull", desc := "()Ljava/lang/AbstractStringBuilder;" } : Jvm.MethodName)) ∈ lw_tbl := lw_at lw_m2 109 rfl
theorem q449 : (Jvm.Cond.instanceMethod ({ cls := "java/lang/AbstractStringBuilder", name := "appendNull", desc := "()Ljava/lang/AbstractStringBuilder;" } : Jvm.MethodName)) ∈ lw_all := lw_g (lw_at lw_m2 110 rfl) rfl
theorem q450 : (Jvm.Cond.code ({ cls := "java/lang/AbstractStringBuilder", name := "appendNull", desc := "()Ljava/lang/AbstractStringBuilder;" } : Jvm.MethodName) prog_7_method_26_code (3 : Nat) (Option.some (Jvm.ClassFile.FieldType.object "java/lang/AbstractStringBuilder"))) ∈ lw_all := lw_g (lw_at lw_m2 111 rfl) rfl
theorem q451 : (Jvm.Cond.methodLink "java/lang/AbstractStringBuilder" (226 : Nat) ({ cls := "java/lang/StringUTF16", name := "putCharsAt", desc := "([BICCCC)I" } : Jvm.MethodName)) ∈ lw_all := lw_g (lw_at lw_m2 112 rfl) rfl
theorem q477 : (Jvm.Cond.methodLink "java/lang/AbstractStringBuilder" (32 : Nat) ({ cls := "java/lang/String", name := "length", desc := "()I" } : Jvm.MethodName)) ∈ lw_all := lw_g (lw_at lw_m2 138 rfl) rfl
theorem q486 : (Jvm.Cond.methodLink "java/lang/AbstractStringBuilder" (208 : Nat) ({ cls := "java/lang/AbstractStringBuilder", name := "putStringAt", desc := "(ILjava/lang/String;)V" } : Jvm.MethodName)) ∈ lw_all := lw_g (lw_at lw_m2 147 rfl) rfl
theorem q487 : (Jvm.Cond.privateMethod ({ cls := "java/lang/AbstractStringBuilder", name := "putStringAt", desc := "(ILjava/lang/String;)V" } : Jvm.MethodName)) ∈ lw_tbl := lw_at lw_m2 148 rfl
theorem q488 : (Jvm.Cond.instanceMethod ({ cls := "java/lang/AbstractStringBuilder", name := "putStringAt", desc := "(ILjava/lang/String;)V" } : Jvm.MethodName)) ∈ lw_all := lw_g (lw_at lw_m2 149 rfl) rfl
theorem q489 : (Jvm.Cond.code ({ cls := "java/lang/AbstractStringBuilder", name := "putStringAt", desc := "(ILjava/lang/String;)V" } : Jvm.MethodName) prog_7_method_73_code (3 : Nat) (Option.none : Option Jvm.ClassFile.FieldType)) ∈ lw_all := lw_g (lw_at lw_m2 150 rfl) rfl
theorem q490 : (Jvm.Cond.methodLink "java/lang/AbstractStringBuilder" (397 : Nat) ({ cls := "java/lang/AbstractStringBuilder", name := "inflateIfNeededFor", desc := "(Ljava/lang/String;)V" } : Jvm.MethodName)) ∈ lw_all := lw_g (lw_at lw_m2 151 rfl) rfl
theorem q491 : (Jvm.Cond.privateMethod ({ cls := "java/lang/AbstractStringBuilder", name := "inflateIfNeededFor", desc := "(Ljava/lang/String;)V" } : Jvm.MethodName)) ∈ lw_tbl := lw_at lw_m2 152 rfl
theorem q492 : (Jvm.Cond.instanceMethod ({ cls := "java/lang/AbstractStringBuilder", name := "inflateIfNeededFor", desc := "(Ljava/lang/String;)V" } : Jvm.MethodName)) ∈ lw_all := lw_g (lw_at lw_m2 153 rfl) rfl
theorem q493 : (Jvm.Cond.code ({ cls := "java/lang/AbstractStringBuilder", name := "inflateIfNeededFor", desc := "(Ljava/lang/String;)V" } : Jvm.MethodName) prog_7_method_71_code (2 : Nat) (Option.none : Option Jvm.ClassFile.FieldType)) ∈ lw_all := lw_g (lw_at lw_m2 154 rfl) rfl
theorem q494 : (Jvm.Cond.methodLink "java/lang/AbstractStringBuilder" (40 : Nat) ({ cls := "java/lang/String", name := "coder", desc := "()B" } : Jvm.MethodName)) ∈ lw_all := lw_g (lw_at lw_m2 155 rfl) rfl
theorem q495 : (Jvm.Cond.methodLink "java/lang/AbstractStringBuilder" (195 : Nat) ({ cls := "java/lang/AbstractStringBuilder", name := "inflate", desc := "()V" } : Jvm.MethodName)) ∈ lw_all := lw_g (lw_at lw_m2 156 rfl) rfl
theorem q496 : (Jvm.Cond.privateMethod ({ cls := "java/lang/AbstractStringBuilder", name := "inflate", desc := "()V" } : Jvm.MethodName)) ∈ lw_tbl := lw_at lw_m2 157 rfl
theorem q497 : (Jvm.Cond.instanceMethod ({ cls := "java/lang/AbstractStringBuilder", name := "inflate", desc := "()V" } : Jvm.MethodName)) ∈ lw_all := lw_g (lw_at lw_m2 158 rfl) rfl
theorem q498 : (Jvm.Cond.code ({ cls := "java/lang/AbstractStringBuilder", name := "inflate", desc := "()V" } : Jvm.MethodName) prog_7_method_11_code (2 : Nat) (Option.none : Option Jvm.ClassFile.FieldType)) ∈ lw_all := lw_g (lw_at lw_m2 159 rfl) rfl
theorem q499 : (Jvm.Cond.methodLink "java/lang/AbstractStringBuilder" (125 : Nat) ({ cls := "java/lang/StringLatin1", name := "inflate", desc := "([BI[BII)V" } : Jvm.MethodName)) ∈ lw_all := lw_g (lw_at lw_m2 160 rfl) rfl
theorem q514 : (Jvm.Cond.methodLink "java/lang/AbstractStringBuilder" (399 : Nat) ({ cls := "java/lang/String", name := "getBytes", desc := "([BIB)V" } : Jvm.MethodName)) ∈ lw_all := lw_g (lw_at lw_m2 175 rfl) rfl
theorem q525 : (Jvm.Cond.instanceMethod ({ cls := "java/lang/AbstractStringBuilder", name := "append", desc := "(I)Ljava/lang/AbstractStringBuilder;" } : Jvm.MethodName)) ∈ lw_all := lw_g (lw_at lw_m2 186 rfl) rfl
theorem q526 : (Jvm.Cond.code ({ cls := "java/lang/AbstractStringBuilder", name := "append", desc := "(I)Ljava/lang/AbstractStringBuilder;" } : Jvm.MethodName) prog_7_method_32_code (4 : Nat) (Option.some (Jvm.ClassFile.FieldType.object "java/lang/AbstractStringBuilder"))) ∈ lw_all := lw_g (lw_at lw_m2 187 rfl) rfl
theorem q527 : (Jvm.Cond.methodLink "java/lang/AbstractStringBuilder" (245 : Nat) ({ cls := "java/lang/Integer", name := "stringSize", desc := "(I)I" } : Jvm.MethodName)) ∈ lw_all := lw_g (lw_at lw_m2 188 rfl) rfl
theorem q530 : (Jvm.Cond.methodLink "java/lang/AbstractStringBuilder" (248 : Nat) ({ cls := "java/lang/Integer", name := "getChars", desc := "(II[B)I" } : Jvm.MethodName)) ∈ lw_all := lw_g (lw_at lw_m2 191 rfl) rfl
theorem q537 : (Jvm.Cond.methodLink "java/lang/AbstractStringBuilder" (251 : Nat) ({ cls := "java/lang/StringUTF16", name := "getChars", desc := "(III[B)I" } : Jvm.MethodName)) ∈ lw_all := lw_g (lw_at lw_m2 198 rfl) rfl
theorem q561 : (Jvm.Cond.instanceMethod ({ cls := "java/lang/AbstractStringBuilder", name := "getValue", desc := "()[B" } : Jvm.MethodName)) ∈ lw_all := lw_g (lw_at lw_m2 222 rfl) rfl
theorem q562 : (Jvm.Cond.sameMethod "java/lang/AbstractStringBuilder" "java/lang/AbstractStringBuilder" "getValue" "()[B") ∈ lw_all := lw_g (lw_at lw_m2 223 rfl) rfl
theorem q564 : (Jvm.Cond.code ({ cls := "java/lang/AbstractStringBuilder", name := "getValue", desc := "()[B" } : Jvm.MethodName) prog_7_method_64_code (1 : Nat) (Option.some (Jvm.ClassFile.FieldType.array Jvm.ClassFile.FieldType.byte))) ∈ lw_all := lw_g (lw_at lw_m2 225 rfl) rfl
theorem q566 : (Jvm.Cond.instanceMethod ({ cls := "java/lang/AbstractStringBuilder", name := "length", desc := "()I" } : Jvm.MethodName)) ∈ lw_all := lw_g (lw_at lw_m2 227 rfl) rfl
theorem q567 : (Jvm.Cond.sameMethod "java/lang/AbstractStringBuilder" "java/lang/AbstractStringBuilder" "length" "()I") ∈ lw_all := lw_g (lw_at lw_m2 228 rfl) rfl
theorem q572 : (Jvm.Cond.code ({ cls := "java/lang/AbstractStringBuilder", name := "length", desc := "()I" } : Jvm.MethodName) prog_7_method_6_code (1 : Nat) (Option.some Jvm.ClassFile.FieldType.int)) ∈ lw_all := lw_g (lw_at lw_m2 233 rfl) rfl
theorem q634 : (Jvm.Cond.methodLink "java/lang/AbstractStringBuilder" (137 : Nat) ({ cls := "java/lang/StringUTF16", name := "fillNull", desc := "([BII)V" } : Jvm.MethodName)) ∈ lw_all := lw_g (lw_at lw_m3 55 rfl) rfl
theorem q643 : (Jvm.Cond.instanceMethod ({ cls := "java/lang/AbstractStringBuilder", name := "append", desc := "(C)Ljava/lang/AbstractStringBuilder;" } : Jvm.MethodName)) ∈ lw_all := lw_g (lw_at lw_m3 64 rfl) rfl
theorem q644 : (Jvm.Cond.code ({ cls := "java/lang/AbstractStringBuilder", name := "append", desc := "(C)Ljava/lang/AbstractStringBuilder;" } : Jvm.MethodName) prog_7_method_31_code (2 : Nat) (Option.some (Jvm.ClassFile.FieldType.object "java/lang/AbstractStringBuilder"))) ∈ lw_all := lw_g (lw_at lw_m3 65 rfl) rfl
theorem q645 : (Jvm.Cond.methodLink "java/lang/AbstractStringBuilder" (191 : Nat) ({ cls := "java/lang/StringLatin1", name := "canEncode", desc := "(C)Z" } : Jvm.MethodName)) ∈ lw_all := lw_g (lw_at lw_m3 66 rfl) rfl
theorem q648 : (Jvm.Cond.methodLink "java/lang/AbstractStringBuilder" (197 : Nat) ({ cls := "java/lang/StringUTF16", name := "putCharSB", desc := "([BII)V" } : Jvm.MethodName)) ∈ lw_all := lw_g (lw_at lw_m3 69 rfl) rfl
theorem q1802 : (Jvm.Cond.sameMethod "java/lang/AbstractStringBuilder" "java/lang/AbstractStringBuilder" "setLength" "(I)V") ∈ lw_all := lw_g (lw_at lw_m8 23 rfl) rfl
theorem q1803 : (Jvm.Cond.sameMethod "java/lang/AbstractStringBuilder" "java/lang/AbstractStringBuilder" "ensureCapacityInternal" "(I)V") ∈ lw_all := lw_g (lw_at lw_m8 24 rfl) rfl
theorem q1804 : (Jvm.Cond.sameMethod "java/lang/AbstractStringBuilder" "java/lang/AbstractStringBuilder" "newCapacity" "(I)I") ∈ lw_all := lw_g (lw_at lw_m8 25 rfl) rfl
theorem q1806 : (Jvm.Cond.sameMethod "java/lang/AbstractStringBuilder" "java/lang/AbstractStringBuilder" "append" "(Ljava/lang/String;)Ljava/lang/AbstractStringBuilder;") ∈ lw_all := lw_g (lw_at lw_m8 27 rfl) rfl
theorem q1807 : (Jvm.Cond.sameMethod "java/lang/AbstractStringBuilder" "java/lang/AbstractStringBuilder" "appendNull" "()Ljava/lang/AbstractStringBuilder;") ∈ lw_all := lw_g (lw_at lw_m8 28 rfl) rfl
theorem q1808 : (Jvm.Cond.sameMethod "java/lang/AbstractStringBuilder" "java/lang/AbstractStringBuilder" "putStringAt" "(ILjava/lang/String;)V") ∈ lw_all := lw_g (lw_at lw_m8 29 rfl) rfl
theorem q1809 : (Jvm.Cond.sameMethod "java/lang/AbstractStringBuilder" "java/lang/AbstractStringBuilder" "inflateIfNeededFor" "(Ljava/lang/String;)V") ∈ lw_all := lw_g (lw_at lw_m8 30 rfl) rfl
theorem q1810 : (Jvm.Cond.sameMethod "java/lang/AbstractStringBuilder" "java/lang/AbstractStringBuilder" "inflate" "()V") ∈ lw_all := lw_g (lw_at lw_m8 31 rfl) rfl
theorem q1811 : (Jvm.Cond.sameMethod "java/lang/AbstractStringBuilder" "java/lang/AbstractStringBuilder" "append" "(I)Ljava/lang/AbstractStringBuilder;") ∈ lw_all := lw_g (lw_at lw_m8 32 rfl) rfl
theorem q1812 : (Jvm.Cond.sameMethod "java/lang/AbstractStringBuilder" "java/lang/AbstractStringBuilder" "append" "(C)Ljava/lang/AbstractStringBuilder;") ∈ lw_all := lw_g (lw_at lw_m8 33 rfl) rfl

/-! java/lang/StringBuilder -/
set_option maxRecDepth 100000
def RJ1 : String := "java/lang/StringBuilder"
def TJ1 : u_T := fun k => match k with
  | 0 => ("java/lang/AbstractStringBuilder", "value", "[B", false)
  | 1 => ("java/lang/AbstractStringBuilder", "coder", "B", false)
  | 2 => ("java/lang/AbstractStringBuilder", "maybeLatin1", "Z", false)
  | _ => ("java/lang/AbstractStringBuilder", "count", "I", false)
def tyJ1 : Nat → FieldType := fun k => match k with
  | 0 => .array .byte
  | 1 => .byte
  | 2 => .boolean
  | _ => .int
abbrev wsJ10 : List Cond := u_ws RJ1 TJ1 4
theorem nmJ1 : ∀ a, a < 4 → ∀ b, b < 4 → a ≠ b → (TJ1 a).2.1 ≠ (TJ1 b).2.1 := by decide +kernel
theorem tyJ1_ok : ∀ k, k < 4 → parseFieldDescriptor (TJ1 k).2.2.1 = some (tyJ1 k) := by decide +kernel
abbrev cJ1_init : ByteArray := prog_17_method_1_code
def yJ1_init : MethodName := ⟨RJ1, "<init>", "()V"⟩
abbrev cJ1_setLength : ByteArray := prog_17_method_89_code
def yJ1_setLength : MethodName := ⟨RJ1, "setLength", "(I)V"⟩
abbrev cJ1_append : ByteArray := prog_17_method_7_code
def yJ1_append : MethodName := ⟨RJ1, "append", "(Ljava/lang/String;)Ljava/lang/StringBuilder;"⟩
abbrev cJ1_append_2 : ByteArray := prog_17_method_15_code
def yJ1_append_2 : MethodName := ⟨RJ1, "append", "(I)Ljava/lang/StringBuilder;"⟩
abbrev cJ1_toString : ByteArray := prog_17_method_42_code
def yJ1_toString : MethodName := ⟨RJ1, "toString", "()Ljava/lang/String;"⟩
abbrev cJ1_length : ByteArray := prog_17_method_93_code
def yJ1_length : MethodName := ⟨RJ1, "length", "()I"⟩
abbrev cJ1_append_3 : ByteArray := prog_17_method_14_code
def yJ1_append_3 : MethodName := ⟨RJ1, "append", "(C)Ljava/lang/StringBuilder;"⟩
theorem q102 : (Jvm.Cond.initialized "java/lang/StringBuilder") ∈ lw_all := lw_g (lw_at lw_m1 3 rfl) rfl
theorem q132 : (Jvm.Cond.instantiable "java/lang/StringBuilder" (4 : Nat)) ∈ lw_all := lw_g (lw_at lw_m1 33 rfl) rfl
theorem q134 : (Jvm.Cond.instanceMethod ({ cls := "java/lang/StringBuilder", name := "<init>", desc := "()V" } : Jvm.MethodName)) ∈ lw_all := lw_g (lw_at lw_m1 35 rfl) rfl
theorem q135 : (Jvm.Cond.code ({ cls := "java/lang/StringBuilder", name := "<init>", desc := "()V" } : Jvm.MethodName) prog_17_method_1_code (1 : Nat) (Option.none : Option Jvm.ClassFile.FieldType)) ∈ lw_all := lw_g (lw_at lw_m1 36 rfl) rfl
theorem q136 : (Jvm.Cond.methodLink "java/lang/StringBuilder" (1 : Nat) ({ cls := "java/lang/AbstractStringBuilder", name := "<init>", desc := "(I)V" } : Jvm.MethodName)) ∈ lw_all := lw_g (lw_at lw_m1 37 rfl) rfl
theorem q154 : (Jvm.Cond.lays "java/lang/StringBuilder" "java/lang/AbstractStringBuilder" "value" "[B") ∈ lw_all := lw_g (lw_at lw_m1 55 rfl) rfl
theorem q156 : (Jvm.Cond.lays "java/lang/StringBuilder" "java/lang/AbstractStringBuilder" "coder" "B") ∈ lw_all := lw_g (lw_at lw_m1 57 rfl) rfl
theorem q158 : (Jvm.Cond.lays "java/lang/StringBuilder" "java/lang/AbstractStringBuilder" "maybeLatin1" "Z") ∈ lw_all := lw_g (lw_at lw_m1 59 rfl) rfl
theorem q160 : (Jvm.Cond.lays "java/lang/StringBuilder" "java/lang/AbstractStringBuilder" "count" "I") ∈ lw_all := lw_g (lw_at lw_m1 61 rfl) rfl
theorem q162 : (Jvm.Cond.superclass "java/lang/StringBuilder" "java/lang/AbstractStringBuilder") ∈ lw_all := lw_g (lw_at lw_m1 63 rfl) rfl
theorem q344 : (Jvm.Cond.instanceMethod ({ cls := "java/lang/StringBuilder", name := "setLength", desc := "(I)V" } : Jvm.MethodName)) ∈ lw_all := lw_g (lw_at lw_m2 5 rfl) rfl
theorem q345 : (Jvm.Cond.selects "java/lang/StringBuilder" ({ cls := "java/lang/StringBuilder", name := "setLength", desc := "(I)V" } : Jvm.MethodName) ({ cls := "java/lang/StringBuilder", name := "setLength", desc := "(I)V" } : Jvm.MethodName)) ∈ lw_all := lw_g (lw_at lw_m2 6 rfl) rfl
theorem q346 : (Jvm.Cond.code ({ cls := "java/lang/StringBuilder", name := "setLength", desc := "(I)V" } : Jvm.MethodName) prog_17_method_89_code (2 : Nat) (Option.none : Option Jvm.ClassFile.FieldType)) ∈ lw_all := lw_g (lw_at lw_m2 7 rfl) rfl
theorem q347 : (Jvm.Cond.methodLink "java/lang/StringBuilder" (333 : Nat) ({ cls := "java/lang/AbstractStringBuilder", name := "setLength", desc := "(I)V" } : Jvm.MethodName)) ∈ lw_all := lw_g (lw_at lw_m2 8 rfl) rfl
theorem q386 : (Jvm.Cond.selects "java/lang/StringBuilder" ({ cls := "java/lang/AbstractStringBuilder", name := "isLatin1", desc := "()Z" } : Jvm.MethodName) ({ cls := "java/lang/AbstractStringBuilder", name := "isLatin1", desc := "()Z" } : Jvm.MethodName)) ∈ lw_all := lw_g (lw_at lw_m2 47 rfl) rfl
theorem q441 : (Jvm.Cond.instanceMethod ({ cls := "java/lang/StringBuilder", name := "append", desc := "(Ljava/lang/String;)Ljava/lang/StringBuilder;" } : Jvm.MethodName)) ∈ lw_all := lw_g (lw_at lw_m2 102 rfl) rfl
theorem q442 : (Jvm.Cond.selects "java/lang/StringBuilder" ({ cls := "java/lang/StringBuilder", name := "append", desc := "(Ljava/lang/String;)Ljava/lang/StringBuilder;" } : Jvm.MethodName) ({ cls := "java/lang/StringBuilder", name := "append", desc := "(Ljava/lang/String;)Ljava/lang/StringBuilder;" } : Jvm.MethodName)) ∈ lw_all := lw_g (lw_at lw_m2 103 rfl) rfl
theorem q443 : (Jvm.Cond.code ({ cls := "java/lang/StringBuilder", name := "append", desc := "(Ljava/lang/String;)Ljava/lang/StringBuilder;" } : Jvm.MethodName) prog_17_method_7_code (2 : Nat) (Option.some (Jvm.ClassFile.FieldType.object "java/lang/StringBuilder"))) ∈ lw_all := lw_g (lw_at lw_m2 104 rfl) rfl
theorem q444 : (Jvm.Cond.methodLink "java/lang/StringBuilder" (29 : Nat) ({ cls := "java/lang/AbstractStringBuilder", name := "append", desc := "(Ljava/lang/String;)Ljava/lang/AbstractStringBuilder;" } : Jvm.MethodName)) ∈ lw_all := lw_g (lw_at lw_m2 105 rfl) rfl
theorem q521 : (Jvm.Cond.instanceMethod ({ cls := "java/lang/StringBuilder", name := "append", desc := "(I)Ljava/lang/StringBuilder;" } : Jvm.MethodName)) ∈ lw_all := lw_g (lw_at lw_m2 182 rfl) rfl
theorem q522 : (Jvm.Cond.selects "java/lang/StringBuilder" ({ cls := "java/lang/StringBuilder", name := "append", desc := "(I)Ljava/lang/StringBuilder;" } : Jvm.MethodName) ({ cls := "java/lang/StringBuilder", name := "append", desc := "(I)Ljava/lang/StringBuilder;" } : Jvm.MethodName)) ∈ lw_all := lw_g (lw_at lw_m2 183 rfl) rfl
theorem q523 : (Jvm.Cond.code ({ cls := "java/lang/StringBuilder", name := "append", desc := "(I)Ljava/lang/StringBuilder;" } : Jvm.MethodName) prog_17_method_15_code (2 : Nat) (Option.some (Jvm.ClassFile.FieldType.object "java/lang/StringBuilder"))) ∈ lw_all := lw_g (lw_at lw_m2 184 rfl) rfl
theorem q524 : (Jvm.Cond.methodLink "java/lang/StringBuilder" (53 : Nat) ({ cls := "java/lang/AbstractStringBuilder", name := "append", desc := "(I)Ljava/lang/AbstractStringBuilder;" } : Jvm.MethodName)) ∈ lw_all := lw_g (lw_at lw_m2 185 rfl) rfl
theorem q548 : (Jvm.Cond.instanceMethod ({ cls := "java/lang/StringBuilder", name := "toString", desc := "()Ljava/lang/String;" } : Jvm.MethodName)) ∈ lw_all := lw_g (lw_at lw_m2 209 rfl) rfl
theorem q549 : (Jvm.Cond.selects "java/lang/StringBuilder" ({ cls := "java/lang/StringBuilder", name := "toString", desc := "()Ljava/lang/String;" } : Jvm.MethodName) ({ cls := "java/lang/StringBuilder", name := "toString", desc := "()Ljava/lang/String;" } : Jvm.MethodName)) ∈ lw_all := lw_g (lw_at lw_m2 210 rfl) rfl
theorem q550 : (Jvm.Cond.code ({ cls := "java/lang/StringBuilder", name := "toString", desc := "()Ljava/lang/String;" } : Jvm.MethodName) prog_17_method_42_code (1 : Nat) (Option.some (Jvm.ClassFile.FieldType.object "java/lang/String"))) ∈ lw_all := lw_g (lw_at lw_m2 211 rfl) rfl
theorem q551 : (Jvm.Cond.classLink "java/lang/StringBuilder" (18 : Nat) "java/lang/String") ∈ lw_all := lw_g (lw_at lw_m2 212 rfl) rfl
theorem q553 : (Jvm.Cond.methodLink "java/lang/StringBuilder" (137 : Nat) ({ cls := "java/lang/String", name := "<init>", desc := "(Ljava/lang/StringBuilder;)V" } : Jvm.MethodName)) ∈ lw_all := lw_g (lw_at lw_m2 214 rfl) rfl
theorem q563 : (Jvm.Cond.selects "java/lang/StringBuilder" ({ cls := "java/lang/AbstractStringBuilder", name := "getValue", desc := "()[B" } : Jvm.MethodName) ({ cls := "java/lang/AbstractStringBuilder", name := "getValue", desc := "()[B" } : Jvm.MethodName)) ∈ lw_all := lw_g (lw_at lw_m2 224 rfl) rfl
theorem q568 : (Jvm.Cond.selects "java/lang/StringBuilder" ({ cls := "java/lang/AbstractStringBuilder", name := "length", desc := "()I" } : Jvm.MethodName) ({ cls := "java/lang/StringBuilder", name := "length", desc := "()I" } : Jvm.MethodName)) ∈ lw_all := lw_g (lw_at lw_m2 229 rfl) rfl
theorem q569 : (Jvm.Cond.instanceMethod ({ cls := "java/lang/StringBuilder", name := "length", desc := "()I" } : Jvm.MethodName)) ∈ lw_all := lw_g (lw_at lw_m2 230 rfl) rfl
theorem q570 : (Jvm.Cond.code ({ cls := "java/lang/StringBuilder", name := "length", desc := "()I" } : Jvm.MethodName) prog_17_method_93_code (1 : Nat) (Option.some Jvm.ClassFile.FieldType.int)) ∈ lw_all := lw_g (lw_at lw_m2 231 rfl) rfl
theorem q571 : (Jvm.Cond.methodLink "java/lang/StringBuilder" (343 : Nat) ({ cls := "java/lang/AbstractStringBuilder", name := "length", desc := "()I" } : Jvm.MethodName)) ∈ lw_all := lw_g (lw_at lw_m2 232 rfl) rfl
theorem q639 : (Jvm.Cond.instanceMethod ({ cls := "java/lang/StringBuilder", name := "append", desc := "(C)Ljava/lang/StringBuilder;" } : Jvm.MethodName)) ∈ lw_all := lw_g (lw_at lw_m3 60 rfl) rfl
theorem q640 : (Jvm.Cond.selects "java/lang/StringBuilder" ({ cls := "java/lang/StringBuilder", name := "append", desc := "(C)Ljava/lang/StringBuilder;" } : Jvm.MethodName) ({ cls := "java/lang/StringBuilder", name := "append", desc := "(C)Ljava/lang/StringBuilder;" } : Jvm.MethodName)) ∈ lw_all := lw_g (lw_at lw_m3 61 rfl) rfl
theorem q641 : (Jvm.Cond.code ({ cls := "java/lang/StringBuilder", name := "append", desc := "(C)Ljava/lang/StringBuilder;" } : Jvm.MethodName) prog_17_method_14_code (2 : Nat) (Option.some (Jvm.ClassFile.FieldType.object "java/lang/StringBuilder"))) ∈ lw_all := lw_g (lw_at lw_m3 62 rfl) rfl
theorem q642 : (Jvm.Cond.methodLink "java/lang/StringBuilder" (50 : Nat) ({ cls := "java/lang/AbstractStringBuilder", name := "append", desc := "(C)Ljava/lang/AbstractStringBuilder;" } : Jvm.MethodName)) ∈ lw_all := lw_g (lw_at lw_m3 63 rfl) rfl
theorem in_J1 : ∀ w ∈ wsJ10, w ∈ lw_all := lw_in wsJ10 [154, 156, 158, 160] (by decide +kernel) (by decide +kernel)

/-! java/lang/IllegalArgumentException -/
set_option maxRecDepth 100000
def RJ10 : String := "java/lang/IllegalArgumentException"
def TJ10 : u_T := fun k => match k with
  | 0 => ("java/lang/Throwable", "cause", "Ljava/lang/Throwable;", false)
  | 1 => ("java/lang/Throwable", "stackTrace", "[Ljava/lang/StackTraceElement;", false)
  | 2 => ("java/lang/Throwable", "suppressedExceptions", "Ljava/util/List;", false)
  | 3 => ("java/lang/Throwable", "detailMessage", "Ljava/lang/String;", false)
  | 4 => ("java/lang/Throwable", "backtrace", "Ljava/lang/Object;", false)
  | _ => ("java/lang/Throwable", "depth", "I", false)
def tyJ10 : Nat → FieldType := fun k => match k with
  | 0 => .object "java/lang/Throwable"
  | 1 => .array (.object "java/lang/StackTraceElement")
  | 2 => .object "java/util/List"
  | 3 => .object "java/lang/String"
  | 4 => .object "java/lang/Object"
  | _ => .int
abbrev wsJ100 : List Cond := u_ws RJ10 TJ10 6
theorem nmJ10 : ∀ a, a < 6 → ∀ b, b < 6 → a ≠ b → (TJ10 a).2.1 ≠ (TJ10 b).2.1 := by decide +kernel
theorem tyJ10_ok : ∀ k, k < 6 → parseFieldDescriptor (TJ10 k).2.2.1 = some (tyJ10 k) := by decide +kernel
abbrev cJ10_init : ByteArray := prog_11_method_2_code
def yJ10_init : MethodName := ⟨RJ10, "<init>", "(Ljava/lang/String;)V"⟩
abbrev cJ10_init_2 : ByteArray := prog_11_method_1_code
def yJ10_init_2 : MethodName := ⟨RJ10, "<init>", "()V"⟩
theorem q112 : (Jvm.Cond.initialized "java/lang/IllegalArgumentException") ∈ lw_all := lw_g (lw_at lw_m1 13 rfl) rfl
theorem q398 : (Jvm.Cond.instantiable "java/lang/IllegalArgumentException" (6 : Nat)) ∈ lw_all := lw_g (lw_at lw_m2 59 rfl) rfl
theorem q399 : (Jvm.Cond.castable "java/lang/IllegalArgumentException" "java/lang/IllegalArgumentException") ∈ lw_tbl := lw_at lw_m2 60 rfl
theorem q406 : (Jvm.Cond.selects "java/lang/IllegalArgumentException" ({ cls := "java/lang/Throwable", name := "fillInStackTrace", desc := "(I)Ljava/lang/Throwable;" } : Jvm.MethodName) ({ cls := "java/lang/Throwable", name := "fillInStackTrace", desc := "(I)Ljava/lang/Throwable;" } : Jvm.MethodName)) ∈ lw_all := lw_g (lw_at lw_m2 67 rfl) rfl
theorem q407 : (Jvm.Cond.selects "java/lang/IllegalArgumentException" ({ cls := "java/lang/Throwable", name := "fillInStackTrace", desc := "()Ljava/lang/Throwable;" } : Jvm.MethodName) ({ cls := "java/lang/Throwable", name := "fillInStackTrace", desc := "()Ljava/lang/Throwable;" } : Jvm.MethodName)) ∈ lw_all := lw_g (lw_at lw_m2 68 rfl) rfl
theorem q408 : (Jvm.Cond.lays "java/lang/IllegalArgumentException" "java/lang/Throwable" "cause" "Ljava/lang/Throwable;") ∈ lw_all := lw_g (lw_at lw_m2 69 rfl) rfl
theorem q410 : (Jvm.Cond.lays "java/lang/IllegalArgumentException" "java/lang/Throwable" "stackTrace" "[Ljava/lang/StackTraceElement;") ∈ lw_all := lw_g (lw_at lw_m2 71 rfl) rfl
theorem q412 : (Jvm.Cond.lays "java/lang/IllegalArgumentException" "java/lang/Throwable" "suppressedExceptions" "Ljava/util/List;") ∈ lw_all := lw_g (lw_at lw_m2 73 rfl) rfl
theorem q414 : (Jvm.Cond.lays "java/lang/IllegalArgumentException" "java/lang/Throwable" "detailMessage" "Ljava/lang/String;") ∈ lw_all := lw_g (lw_at lw_m2 75 rfl) rfl
theorem q416 : (Jvm.Cond.lays "java/lang/IllegalArgumentException" "java/lang/Throwable" "backtrace" "Ljava/lang/Object;") ∈ lw_all := lw_g (lw_at lw_m2 77 rfl) rfl
theorem q585 : (Jvm.Cond.instanceMethod ({ cls := "java/lang/IllegalArgumentException", name := "<init>", desc := "(Ljava/lang/String;)V" } : Jvm.MethodName)) ∈ lw_all := lw_g (lw_at lw_m3 6 rfl) rfl
theorem q586 : (Jvm.Cond.code ({ cls := "java/lang/IllegalArgumentException", name := "<init>", desc := "(Ljava/lang/String;)V" } : Jvm.MethodName) prog_11_method_2_code (2 : Nat) (Option.none : Option Jvm.ClassFile.FieldType)) ∈ lw_all := lw_g (lw_at lw_m3 7 rfl) rfl
theorem q587 : (Jvm.Cond.methodLink "java/lang/IllegalArgumentException" (7 : Nat) ({ cls := "java/lang/RuntimeException", name := "<init>", desc := "(Ljava/lang/String;)V" } : Jvm.MethodName)) ∈ lw_all := lw_g (lw_at lw_m3 8 rfl) rfl
theorem q605 : (Jvm.Cond.lays "java/lang/IllegalArgumentException" "java/lang/Throwable" "depth" "I") ∈ lw_all := lw_g (lw_at lw_m3 26 rfl) rfl
theorem q608 : (Jvm.Cond.superclass "java/lang/IllegalArgumentException" "java/lang/RuntimeException") ∈ lw_all := lw_g (lw_at lw_m3 29 rfl) rfl
theorem q1147 : (Jvm.Cond.instanceMethod ({ cls := "java/lang/IllegalArgumentException", name := "<init>", desc := "()V" } : Jvm.MethodName)) ∈ lw_all := lw_g (lw_at lw_m5 88 rfl) rfl
theorem q1148 : (Jvm.Cond.code ({ cls := "java/lang/IllegalArgumentException", name := "<init>", desc := "()V" } : Jvm.MethodName) prog_11_method_1_code (1 : Nat) (Option.none : Option Jvm.ClassFile.FieldType)) ∈ lw_all := lw_g (lw_at lw_m5 89 rfl) rfl
theorem q1149 : (Jvm.Cond.methodLink "java/lang/IllegalArgumentException" (1 : Nat) ({ cls := "java/lang/RuntimeException", name := "<init>", desc := "()V" } : Jvm.MethodName)) ∈ lw_all := lw_g (lw_at lw_m5 90 rfl) rfl
theorem in_J10 : ∀ w ∈ wsJ100, w ∈ lw_all := lw_in wsJ100 [408, 410, 412, 414, 416, 605] (by decide +kernel) (by decide +kernel)

/-! java/lang/Math -/
set_option maxRecDepth 100000
def RJ11 : String := "java/lang/Math"
abbrev cJ11_min : ByteArray := prog_14_method_69_code
def yJ11_min : MethodName := ⟨RJ11, "min", "(II)I"⟩
abbrev cJ11_max : ByteArray := prog_14_method_65_code
def yJ11_max : MethodName := ⟨RJ11, "max", "(II)I"⟩
theorem q114 : (Jvm.Cond.initialized "java/lang/Math") ∈ lw_all := lw_g (lw_at lw_m1 15 rfl) rfl
theorem q331 : (Jvm.Cond.static ({ cls := "java/lang/Math", name := "min", desc := "(II)I" } : Jvm.MethodName)) ∈ lw_all := lw_g (lw_at lw_m1 232 rfl) rfl
theorem q332 : (Jvm.Cond.code ({ cls := "java/lang/Math", name := "min", desc := "(II)I" } : Jvm.MethodName) prog_14_method_69_code (2 : Nat) (Option.some Jvm.ClassFile.FieldType.int)) ∈ lw_all := lw_g (lw_at lw_m1 233 rfl) rfl
theorem q362 : (Jvm.Cond.static ({ cls := "java/lang/Math", name := "max", desc := "(II)I" } : Jvm.MethodName)) ∈ lw_all := lw_g (lw_at lw_m2 23 rfl) rfl
theorem q363 : (Jvm.Cond.code ({ cls := "java/lang/Math", name := "max", desc := "(II)I" } : Jvm.MethodName) prog_14_method_65_code (2 : Nat) (Option.some Jvm.ClassFile.FieldType.int)) ∈ lw_all := lw_g (lw_at lw_m2 24 rfl) rfl

/-! jdk/internal/util/ArraysSupport -/
set_option maxRecDepth 100000
def RJ12 : String := "jdk/internal/util/ArraysSupport"
abbrev cJ12_newLength : ByteArray := prog_23_method_27_code
def yJ12_newLength : MethodName := ⟨RJ12, "newLength", "(III)I"⟩
abbrev cJ12_hugeLength : ByteArray := prog_23_method_28_code
def yJ12_hugeLength : MethodName := ⟨RJ12, "hugeLength", "(II)I"⟩
theorem q115 : (Jvm.Cond.initialized "jdk/internal/util/ArraysSupport") ∈ lw_all := lw_g (lw_at lw_m1 16 rfl) rfl
theorem q359 : (Jvm.Cond.static ({ cls := "jdk/internal/util/ArraysSupport", name := "newLength", desc := "(III)I" } : Jvm.MethodName)) ∈ lw_all := lw_g (lw_at lw_m2 20 rfl) rfl
theorem q360 : (Jvm.Cond.code ({ cls := "jdk/internal/util/ArraysSupport", name := "newLength", desc := "(III)I" } : Jvm.MethodName) prog_23_method_27_code (4 : Nat) (Option.some Jvm.ClassFile.FieldType.int)) ∈ lw_all := lw_g (lw_at lw_m2 21 rfl) rfl
theorem q361 : (Jvm.Cond.methodLink "jdk/internal/util/ArraysSupport" (194 : Nat) ({ cls := "java/lang/Math", name := "max", desc := "(II)I" } : Jvm.MethodName)) ∈ lw_all := lw_g (lw_at lw_m2 22 rfl) rfl
theorem q364 : (Jvm.Cond.constant "jdk/internal/util/ArraysSupport" (200 : Nat) (2147483639 : Int32)) ∈ lw_all := lw_g (lw_at lw_m2 25 rfl) rfl
theorem q365 : (Jvm.Cond.methodLink "jdk/internal/util/ArraysSupport" (201 : Nat) ({ cls := "jdk/internal/util/ArraysSupport", name := "hugeLength", desc := "(II)I" } : Jvm.MethodName)) ∈ lw_all := lw_g (lw_at lw_m2 26 rfl) rfl
theorem q366 : (Jvm.Cond.static ({ cls := "jdk/internal/util/ArraysSupport", name := "hugeLength", desc := "(II)I" } : Jvm.MethodName)) ∈ lw_all := lw_g (lw_at lw_m2 27 rfl) rfl
theorem q367 : (Jvm.Cond.code ({ cls := "jdk/internal/util/ArraysSupport", name := "hugeLength", desc := "(II)I" } : Jvm.MethodName) prog_23_method_28_code (3 : Nat) (Option.some Jvm.ClassFile.FieldType.int)) ∈ lw_all := lw_g (lw_at lw_m2 28 rfl) rfl

/-! java/util/Arrays -/
set_option maxRecDepth 100000
def RJ13 : String := "java/util/Arrays"
abbrev cJ13_copyOf : ByteArray := prog_22_method_121_code
def yJ13_copyOf : MethodName := ⟨RJ13, "copyOf", "([BI)[B"⟩
abbrev cJ13_fill : ByteArray := prog_22_method_110_code
def yJ13_fill : MethodName := ⟨RJ13, "fill", "([BIIB)V"⟩
abbrev cJ13_rangeCheck : ByteArray := prog_22_method_30_code
def yJ13_rangeCheck : MethodName := ⟨RJ13, "rangeCheck", "(III)V"⟩
abbrev cJ13_copyOfRange : ByteArray := prog_22_method_132_code
def yJ13_copyOfRange : MethodName := ⟨RJ13, "copyOfRange", "([BII)[B"⟩
abbrev cJ13_copyOfRangeByte : ByteArray := prog_22_method_133_code
def yJ13_copyOfRangeByte : MethodName := ⟨RJ13, "copyOfRangeByte", "([BII)[B"⟩
abbrev cJ13_checkLength : ByteArray := prog_22_method_131_code
def yJ13_checkLength : MethodName := ⟨RJ13, "checkLength", "(II)V"⟩
theorem q116 : (Jvm.Cond.initialized "java/util/Arrays") ∈ lw_all := lw_g (lw_at lw_m1 17 rfl) rfl
theorem q370 : (Jvm.Cond.static ({ cls := "java/util/Arrays", name := "copyOf", desc := "([BI)[B" } : Jvm.MethodName)) ∈ lw_all := lw_g (lw_at lw_m2 31 rfl) rfl
theorem q371 : (Jvm.Cond.code ({ cls := "java/util/Arrays", name := "copyOf", desc := "([BI)[B" } : Jvm.MethodName) prog_22_method_121_code (3 : Nat) (Option.some (Jvm.ClassFile.FieldType.array Jvm.ClassFile.FieldType.byte))) ∈ lw_all := lw_g (lw_at lw_m2 32 rfl) rfl
theorem q372 : (Jvm.Cond.methodLink "java/util/Arrays" (310 : Nat) ({ cls := "[B", name := "clone", desc := "()Ljava/lang/Object;" } : Jvm.MethodName)) ∈ lw_all := lw_g (lw_at lw_m2 33 rfl) rfl
theorem q378 : (Jvm.Cond.classLink "java/util/Arrays" (311 : Nat) "[B") ∈ lw_all := lw_g (lw_at lw_m2 39 rfl) rfl
theorem q379 : (Jvm.Cond.methodLink "java/util/Arrays" (304 : Nat) ({ cls := "java/lang/Math", name := "min", desc := "(II)I" } : Jvm.MethodName)) ∈ lw_all := lw_g (lw_at lw_m2 40 rfl) rfl
theorem q380 : (Jvm.Cond.methodLink "java/util/Arrays" (150 : Nat) ({ cls := "java/lang/System", name := "arraycopy", desc := "(Ljava/lang/Object;ILjava/lang/Object;II)V" } : Jvm.MethodName)) ∈ lw_all := lw_g (lw_at lw_m2 41 rfl) rfl
theorem q392 : (Jvm.Cond.static ({ cls := "java/util/Arrays", name := "fill", desc := "([BIIB)V" } : Jvm.MethodName)) ∈ lw_all := lw_g (lw_at lw_m2 53 rfl) rfl
theorem q393 : (Jvm.Cond.code ({ cls := "java/util/Arrays", name := "fill", desc := "([BIIB)V" } : Jvm.MethodName) prog_22_method_110_code (5 : Nat) (Option.none : Option Jvm.ClassFile.FieldType)) ∈ lw_all := lw_g (lw_at lw_m2 54 rfl) rfl
theorem q394 : (Jvm.Cond.methodLink "java/util/Arrays" (13 : Nat) ({ cls := "java/util/Arrays", name := "rangeCheck", desc := "(III)V" } : Jvm.MethodName)) ∈ lw_all := lw_g (lw_at lw_m2 55 rfl) rfl
theorem q395 : (Jvm.Cond.static ({ cls := "java/util/Arrays", name := "rangeCheck", desc := "(III)V" } : Jvm.MethodName)) ∈ lw_all := lw_g (lw_at lw_m2 56 rfl) rfl
theorem q396 : (Jvm.Cond.code ({ cls := "java/util/Arrays", name := "rangeCheck", desc := "(III)V" } : Jvm.MethodName) prog_22_method_30_code (3 : Nat) (Option.none : Option Jvm.ClassFile.FieldType)) ∈ lw_all := lw_g (lw_at lw_m2 57 rfl) rfl
theorem q397 : (Jvm.Cond.classLink "java/util/Arrays" (43 : Nat) "java/lang/IllegalArgumentException") ∈ lw_all := lw_g (lw_at lw_m2 58 rfl) rfl
theorem q437 : (Jvm.Cond.classLink "java/util/Arrays" (45 : Nat) "java/lang/StringBuilder") ∈ lw_all := lw_g (lw_at lw_m2 98 rfl) rfl
theorem q438 : (Jvm.Cond.methodLink "java/util/Arrays" (47 : Nat) ({ cls := "java/lang/StringBuilder", name := "<init>", desc := "()V" } : Jvm.MethodName)) ∈ lw_all := lw_g (lw_at lw_m2 99 rfl) rfl
theorem q439 : (Jvm.Cond.stringRef "java/util/Arrays" (48 : Nat) "fromIndex(") ∈ lw_tbl := lw_at lw_m2 100 rfl
theorem q440 : (Jvm.Cond.methodLink "java/util/Arrays" (50 : Nat) ({ cls := "java/lang/StringBuilder", name := "append", desc := "(Ljava/lang/String;)Ljava/lang/StringBuilder;" } : Jvm.MethodName)) ∈ lw_all := lw_g (lw_at lw_m2 101 rfl) rfl
theorem q520 : (Jvm.Cond.methodLink "java/util/Arrays" (54 : Nat) ({ cls := "java/lang/StringBuilder", name := "append", desc := "(I)Ljava/lang/StringBuilder;" } : Jvm.MethodName)) ∈ lw_all := lw_g (lw_at lw_m2 181 rfl) rfl
theorem q545 : (Jvm.Cond.stringRef "java/util/Arrays" (57 : Nat) ") > toIndex(") ∈ lw_tbl := lw_at lw_m2 206 rfl
theorem q546 : (Jvm.Cond.stringRef "java/util/Arrays" (59 : Nat) ")") ∈ lw_tbl := lw_at lw_m2 207 rfl
theorem q547 : (Jvm.Cond.methodLink "java/util/Arrays" (61 : Nat) ({ cls := "java/lang/StringBuilder", name := "toString", desc := "()Ljava/lang/String;" } : Jvm.MethodName)) ∈ lw_all := lw_g (lw_at lw_m2 208 rfl) rfl
theorem q575 : (Jvm.Cond.static ({ cls := "java/util/Arrays", name := "copyOfRange", desc := "([BII)[B" } : Jvm.MethodName)) ∈ lw_all := lw_g (lw_at lw_m2 236 rfl) rfl
theorem q576 : (Jvm.Cond.code ({ cls := "java/util/Arrays", name := "copyOfRange", desc := "([BII)[B" } : Jvm.MethodName) prog_22_method_132_code (3 : Nat) (Option.some (Jvm.ClassFile.FieldType.array Jvm.ClassFile.FieldType.byte))) ∈ lw_all := lw_g (lw_at lw_m2 237 rfl) rfl
theorem q577 : (Jvm.Cond.methodLink "java/util/Arrays" (339 : Nat) ({ cls := "java/util/Arrays", name := "copyOfRangeByte", desc := "([BII)[B" } : Jvm.MethodName)) ∈ lw_all := lw_g (lw_at lw_m2 238 rfl) rfl
theorem q578 : (Jvm.Cond.static ({ cls := "java/util/Arrays", name := "copyOfRangeByte", desc := "([BII)[B" } : Jvm.MethodName)) ∈ lw_all := lw_g (lw_at lw_m2 239 rfl) rfl
theorem q579 : (Jvm.Cond.code ({ cls := "java/util/Arrays", name := "copyOfRangeByte", desc := "([BII)[B" } : Jvm.MethodName) prog_22_method_133_code (5 : Nat) (Option.some (Jvm.ClassFile.FieldType.array Jvm.ClassFile.FieldType.byte))) ∈ lw_all := lw_g (lw_at lw_m3 0 rfl) rfl
theorem q580 : (Jvm.Cond.methodLink "java/util/Arrays" (343 : Nat) ({ cls := "java/util/Arrays", name := "checkLength", desc := "(II)V" } : Jvm.MethodName)) ∈ lw_all := lw_g (lw_at lw_m3 1 rfl) rfl
theorem q581 : (Jvm.Cond.static ({ cls := "java/util/Arrays", name := "checkLength", desc := "(II)V" } : Jvm.MethodName)) ∈ lw_all := lw_g (lw_at lw_m3 2 rfl) rfl
theorem q582 : (Jvm.Cond.code ({ cls := "java/util/Arrays", name := "checkLength", desc := "(II)V" } : Jvm.MethodName) prog_22_method_131_code (2 : Nat) (Option.none : Option Jvm.ClassFile.FieldType)) ∈ lw_all := lw_g (lw_at lw_m3 3 rfl) rfl
theorem q583 : (Jvm.Cond.stringRef "java/util/Arrays" (337 : Nat) " > ") ∈ lw_tbl := lw_at lw_m3 4 rfl
theorem q584 : (Jvm.Cond.methodLink "java/util/Arrays" (65 : Nat) ({ cls := "java/lang/IllegalArgumentException", name := "<init>", desc := "(Ljava/lang/String;)V" } : Jvm.MethodName)) ∈ lw_all := lw_g (lw_at lw_m3 5 rfl) rfl

/-! java/lang/Integer -/
set_option maxRecDepth 100000
def RJ14 : String := "java/lang/Integer"
abbrev cJ14_stringSize : ByteArray := prog_13_method_13_code
def yJ14_stringSize : MethodName := ⟨RJ14, "stringSize", "(I)I"⟩
abbrev cJ14_getChars : ByteArray := prog_13_method_12_code
def yJ14_getChars : MethodName := ⟨RJ14, "getChars", "(II[B)I"⟩
theorem q118 : (Jvm.Cond.initialized "java/lang/Integer") ∈ lw_all := lw_g (lw_at lw_m1 19 rfl) rfl
theorem q528 : (Jvm.Cond.static ({ cls := "java/lang/Integer", name := "stringSize", desc := "(I)I" } : Jvm.MethodName)) ∈ lw_all := lw_g (lw_at lw_m2 189 rfl) rfl
theorem q529 : (Jvm.Cond.code ({ cls := "java/lang/Integer", name := "stringSize", desc := "(I)I" } : Jvm.MethodName) prog_13_method_13_code (4 : Nat) (Option.some Jvm.ClassFile.FieldType.int)) ∈ lw_all := lw_g (lw_at lw_m2 190 rfl) rfl
theorem q531 : (Jvm.Cond.static ({ cls := "java/lang/Integer", name := "getChars", desc := "(II[B)I" } : Jvm.MethodName)) ∈ lw_all := lw_g (lw_at lw_m2 192 rfl) rfl
theorem q532 : (Jvm.Cond.code ({ cls := "java/lang/Integer", name := "getChars", desc := "(II[B)I" } : Jvm.MethodName) prog_13_method_12_code (7 : Nat) (Option.some Jvm.ClassFile.FieldType.int)) ∈ lw_all := lw_g (lw_at lw_m2 193 rfl) rfl
theorem q533 : (Jvm.Cond.fieldLink "java/lang/Integer" (83 : Nat) "java/lang/Integer" "DigitOnes" "[B") ∈ lw_all := lw_g (lw_at lw_m2 194 rfl) rfl
theorem q534 : (Jvm.Cond.laysStatic "java/lang/Integer" "DigitOnes" "[B") ∈ lw_tbl := lw_at lw_m2 195 rfl
theorem q535 : (Jvm.Cond.fieldLink "java/lang/Integer" (87 : Nat) "java/lang/Integer" "DigitTens" "[B") ∈ lw_all := lw_g (lw_at lw_m2 196 rfl) rfl
theorem q536 : (Jvm.Cond.laysStatic "java/lang/Integer" "DigitTens" "[B") ∈ lw_tbl := lw_at lw_m2 197 rfl

/-! java/lang/Character -/
set_option maxRecDepth 100000
def RJ15 : String := "java/lang/Character"
abbrev cJ15_isValidCodePoint : ByteArray := prog_8_method_11_code
def yJ15_isValidCodePoint : MethodName := ⟨RJ15, "isValidCodePoint", "(I)Z"⟩
abbrev cJ15_highSurrogate : ByteArray := prog_8_method_28_code
def yJ15_highSurrogate : MethodName := ⟨RJ15, "highSurrogate", "(I)C"⟩
abbrev cJ15_lowSurrogate : ByteArray := prog_8_method_29_code
def yJ15_lowSurrogate : MethodName := ⟨RJ15, "lowSurrogate", "(I)C"⟩
theorem q119 : (Jvm.Cond.initialized "java/lang/Character") ∈ lw_all := lw_g (lw_at lw_m1 20 rfl) rfl
theorem q737 : (Jvm.Cond.static ({ cls := "java/lang/Character", name := "isValidCodePoint", desc := "(I)Z" } : Jvm.MethodName)) ∈ lw_all := lw_g (lw_at lw_m3 158 rfl) rfl
theorem q738 : (Jvm.Cond.code ({ cls := "java/lang/Character", name := "isValidCodePoint", desc := "(I)Z" } : Jvm.MethodName) prog_8_method_11_code (2 : Nat) (Option.some Jvm.ClassFile.FieldType.boolean)) ∈ lw_all := lw_g (lw_at lw_m3 159 rfl) rfl
theorem q740 : (Jvm.Cond.static ({ cls := "java/lang/Character", name := "highSurrogate", desc := "(I)C" } : Jvm.MethodName)) ∈ lw_all := lw_g (lw_at lw_m3 161 rfl) rfl
theorem q741 : (Jvm.Cond.code ({ cls := "java/lang/Character", name := "highSurrogate", desc := "(I)C" } : Jvm.MethodName) prog_8_method_28_code (1 : Nat) (Option.some Jvm.ClassFile.FieldType.char)) ∈ lw_all := lw_g (lw_at lw_m3 162 rfl) rfl
theorem q742 : (Jvm.Cond.constant "java/lang/Character" (110 : Nat) (55232 : Int32)) ∈ lw_all := lw_g (lw_at lw_m3 163 rfl) rfl
theorem q744 : (Jvm.Cond.static ({ cls := "java/lang/Character", name := "lowSurrogate", desc := "(I)C" } : Jvm.MethodName)) ∈ lw_all := lw_g (lw_at lw_m3 165 rfl) rfl
theorem q745 : (Jvm.Cond.code ({ cls := "java/lang/Character", name := "lowSurrogate", desc := "(I)C" } : Jvm.MethodName) prog_8_method_29_code (1 : Nat) (Option.some Jvm.ClassFile.FieldType.char)) ∈ lw_all := lw_g (lw_at lw_m3 166 rfl) rfl
theorem q746 : (Jvm.Cond.constant "java/lang/Character" (76 : Nat) (56320 : Int32)) ∈ lw_all := lw_g (lw_at lw_m3 167 rfl) rfl

/-! java/lang/String -/
set_option maxRecDepth 100000
def RJ2 : String := "java/lang/String"
def TJ2 : u_T := fun k => match k with
  | 0 => ("java/lang/String", "value", "[B", true)
  | 1 => ("java/lang/String", "coder", "B", true)
  | 2 => ("java/lang/String", "hash", "I", false)
  | _ => ("java/lang/String", "hashIsZero", "Z", false)
def tyJ2 : Nat → FieldType := fun k => match k with
  | 0 => .array .byte
  | 1 => .byte
  | 2 => .int
  | _ => .boolean
abbrev wsJ20 : List Cond := u_ws RJ2 TJ2 4
theorem nmJ2 : ∀ a, a < 4 → ∀ b, b < 4 → a ≠ b → (TJ2 a).2.1 ≠ (TJ2 b).2.1 := by decide +kernel
theorem tyJ2_ok : ∀ k, k < 4 → parseFieldDescriptor (TJ2 k).2.2.1 = some (tyJ2 k) := by decide +kernel
abbrev cJ2_checkBoundsBeginEnd : ByteArray := prog_16_method_158_code
def yJ2_checkBoundsBeginEnd : MethodName := ⟨RJ2, "checkBoundsBeginEnd", "(III)V"⟩
abbrev cJ2_length : ByteArray := prog_16_method_54_code
def yJ2_length : MethodName := ⟨RJ2, "length", "()I"⟩
abbrev cJ2_coder : ByteArray := prog_16_method_152_code
def yJ2_coder : MethodName := ⟨RJ2, "coder", "()B"⟩
abbrev cJ2_checkBoundsOffCount : ByteArray := prog_16_method_157_code
def yJ2_checkBoundsOffCount : MethodName := ⟨RJ2, "checkBoundsOffCount", "(III)I"⟩
abbrev cJ2_getBytes : ByteArray := prog_16_method_147_code
def yJ2_getBytes : MethodName := ⟨RJ2, "getBytes", "([BIB)V"⟩
abbrev cJ2_init : ByteArray := prog_16_method_53_code
def yJ2_init : MethodName := ⟨RJ2, "<init>", "(Ljava/lang/StringBuilder;)V"⟩
abbrev cJ2_init_2 : ByteArray := prog_16_method_150_code
def yJ2_init_2 : MethodName := ⟨RJ2, "<init>", "(Ljava/lang/AbstractStringBuilder;Ljava/lang/Void;)V"⟩
abbrev cJ2_checkIndex : ByteArray := prog_16_method_155_code
def yJ2_checkIndex : MethodName := ⟨RJ2, "checkIndex", "(II)V"⟩
abbrev cJ2_charAt : ByteArray := prog_16_method_56_code
def yJ2_charAt : MethodName := ⟨RJ2, "charAt", "(I)C"⟩
abbrev cJ2_isLatin1 : ByteArray := prog_16_method_154_code
def yJ2_isLatin1 : MethodName := ⟨RJ2, "isLatin1", "()Z"⟩
abbrev cJ2_indexOf : ByteArray := prog_16_method_79_code
def yJ2_indexOf : MethodName := ⟨RJ2, "indexOf", "(I)I"⟩
abbrev cJ2_indexOf_2 : ByteArray := prog_16_method_80_code
def yJ2_indexOf_2 : MethodName := ⟨RJ2, "indexOf", "(II)I"⟩
abbrev cJ2_equals : ByteArray := prog_16_method_66_code
def yJ2_equals : MethodName := ⟨RJ2, "equals", "(Ljava/lang/Object;)Z"⟩
theorem q103 : (Jvm.Cond.initialized "java/lang/String") ∈ lw_all := lw_g (lw_at lw_m1 4 rfl) rfl
theorem q141 : (Jvm.Cond.laysStatic "java/lang/String" "COMPACT_STRINGS" "Z") ∈ lw_tbl := lw_at lw_m1 42 rfl
theorem q152 : (Jvm.Cond.fieldLink "java/lang/String" (1048 : Nat) "java/lang/AbstractStringBuilder" "maybeLatin1" "Z") ∈ lw_all := lw_g (lw_at lw_m1 53 rfl) rfl
theorem q461 : (Jvm.Cond.static ({ cls := "java/lang/String", name := "checkBoundsBeginEnd", desc := "(III)V" } : Jvm.MethodName)) ∈ lw_all := lw_g (lw_at lw_m2 122 rfl) rfl
theorem q462 : (Jvm.Cond.code ({ cls := "java/lang/String", name := "checkBoundsBeginEnd", desc := "(III)V" } : Jvm.MethodName) prog_16_method_158_code (3 : Nat) (Option.none : Option Jvm.ClassFile.FieldType)) ∈ lw_all := lw_g (lw_at lw_m2 123 rfl) rfl
theorem q463 : (Jvm.Cond.fieldLink "java/lang/String" (1053 : Nat) "jdk/internal/util/Preconditions" "SIOOBE_FORMATTER" "Ljava/util/function/BiFunction;") ∈ lw_all := lw_g (lw_at lw_m2 124 rfl) rfl
theorem q465 : (Jvm.Cond.methodLink "java/lang/String" (1062 : Nat) ({ cls := "jdk/internal/util/Preconditions", name := "checkFromToIndex", desc := "(IIILjava/util/function/BiFunction;)I" } : Jvm.MethodName)) ∈ lw_all := lw_g (lw_at lw_m2 126 rfl) rfl
theorem q478 : (Jvm.Cond.instanceMethod ({ cls := "java/lang/String", name := "length", desc := "()I" } : Jvm.MethodName)) ∈ lw_all := lw_g (lw_at lw_m2 139 rfl) rfl
theorem q479 : (Jvm.Cond.selects "java/lang/String" ({ cls := "java/lang/String", name := "length", desc := "()I" } : Jvm.MethodName) ({ cls := "java/lang/String", name := "length", desc := "()I" } : Jvm.MethodName)) ∈ lw_all := lw_g (lw_at lw_m2 140 rfl) rfl
theorem q480 : (Jvm.Cond.code ({ cls := "java/lang/String", name := "length", desc := "()I" } : Jvm.MethodName) prog_16_method_54_code (1 : Nat) (Option.some Jvm.ClassFile.FieldType.int)) ∈ lw_all := lw_g (lw_at lw_m2 141 rfl) rfl
theorem q481 : (Jvm.Cond.methodLink "java/lang/String" (335 : Nat) ({ cls := "java/lang/String", name := "coder", desc := "()B" } : Jvm.MethodName)) ∈ lw_all := lw_g (lw_at lw_m2 142 rfl) rfl
theorem q482 : (Jvm.Cond.instanceMethod ({ cls := "java/lang/String", name := "coder", desc := "()B" } : Jvm.MethodName)) ∈ lw_all := lw_g (lw_at lw_m2 143 rfl) rfl
theorem q483 : (Jvm.Cond.selects "java/lang/String" ({ cls := "java/lang/String", name := "coder", desc := "()B" } : Jvm.MethodName) ({ cls := "java/lang/String", name := "coder", desc := "()B" } : Jvm.MethodName)) ∈ lw_all := lw_g (lw_at lw_m2 144 rfl) rfl
theorem q484 : (Jvm.Cond.code ({ cls := "java/lang/String", name := "coder", desc := "()B" } : Jvm.MethodName) prog_16_method_152_code (1 : Nat) (Option.some Jvm.ClassFile.FieldType.byte)) ∈ lw_all := lw_g (lw_at lw_m2 145 rfl) rfl
theorem q485 : (Jvm.Cond.fieldLink "java/lang/String" (38 : Nat) "java/lang/String" "COMPACT_STRINGS" "Z") ∈ lw_all := lw_g (lw_at lw_m2 146 rfl) rfl
theorem q509 : (Jvm.Cond.static ({ cls := "java/lang/String", name := "checkBoundsOffCount", desc := "(III)I" } : Jvm.MethodName)) ∈ lw_all := lw_g (lw_at lw_m2 170 rfl) rfl
theorem q510 : (Jvm.Cond.code ({ cls := "java/lang/String", name := "checkBoundsOffCount", desc := "(III)I" } : Jvm.MethodName) prog_16_method_157_code (3 : Nat) (Option.some Jvm.ClassFile.FieldType.int)) ∈ lw_all := lw_g (lw_at lw_m2 171 rfl) rfl
theorem q511 : (Jvm.Cond.methodLink "java/lang/String" (1065 : Nat) ({ cls := "jdk/internal/util/Preconditions", name := "checkFromIndexSize", desc := "(IIILjava/util/function/BiFunction;)I" } : Jvm.MethodName)) ∈ lw_all := lw_g (lw_at lw_m2 172 rfl) rfl
theorem q515 : (Jvm.Cond.instanceMethod ({ cls := "java/lang/String", name := "getBytes", desc := "([BIB)V" } : Jvm.MethodName)) ∈ lw_all := lw_g (lw_at lw_m2 176 rfl) rfl
theorem q516 : (Jvm.Cond.selects "java/lang/String" ({ cls := "java/lang/String", name := "getBytes", desc := "([BIB)V" } : Jvm.MethodName) ({ cls := "java/lang/String", name := "getBytes", desc := "([BIB)V" } : Jvm.MethodName)) ∈ lw_all := lw_g (lw_at lw_m2 177 rfl) rfl
theorem q517 : (Jvm.Cond.code ({ cls := "java/lang/String", name := "getBytes", desc := "([BIB)V" } : Jvm.MethodName) prog_16_method_147_code (4 : Nat) (Option.none : Option Jvm.ClassFile.FieldType)) ∈ lw_all := lw_g (lw_at lw_m2 178 rfl) rfl
theorem q518 : (Jvm.Cond.methodLink "java/lang/String" (212 : Nat) ({ cls := "java/lang/System", name := "arraycopy", desc := "(Ljava/lang/Object;ILjava/lang/Object;II)V" } : Jvm.MethodName)) ∈ lw_all := lw_g (lw_at lw_m2 179 rfl) rfl
theorem q519 : (Jvm.Cond.methodLink "java/lang/String" (106 : Nat) ({ cls := "java/lang/StringLatin1", name := "inflate", desc := "([BI[BII)V" } : Jvm.MethodName)) ∈ lw_all := lw_g (lw_at lw_m2 180 rfl) rfl
theorem q552 : (Jvm.Cond.instantiable "java/lang/String" (4 : Nat)) ∈ lw_all := lw_g (lw_at lw_m2 213 rfl) rfl
theorem q554 : (Jvm.Cond.instanceMethod ({ cls := "java/lang/String", name := "<init>", desc := "(Ljava/lang/StringBuilder;)V" } : Jvm.MethodName)) ∈ lw_all := lw_g (lw_at lw_m2 215 rfl) rfl
theorem q555 : (Jvm.Cond.code ({ cls := "java/lang/String", name := "<init>", desc := "(Ljava/lang/StringBuilder;)V" } : Jvm.MethodName) prog_16_method_53_code (2 : Nat) (Option.none : Option Jvm.ClassFile.FieldType)) ∈ lw_all := lw_g (lw_at lw_m2 216 rfl) rfl
theorem q556 : (Jvm.Cond.methodLink "java/lang/String" (489 : Nat) ({ cls := "java/lang/String", name := "<init>", desc := "(Ljava/lang/AbstractStringBuilder;Ljava/lang/Void;)V" } : Jvm.MethodName)) ∈ lw_all := lw_g (lw_at lw_m2 217 rfl) rfl
theorem q557 : (Jvm.Cond.instanceMethod ({ cls := "java/lang/String", name := "<init>", desc := "(Ljava/lang/AbstractStringBuilder;Ljava/lang/Void;)V" } : Jvm.MethodName)) ∈ lw_all := lw_g (lw_at lw_m2 218 rfl) rfl
theorem q558 : (Jvm.Cond.code ({ cls := "java/lang/String", name := "<init>", desc := "(Ljava/lang/AbstractStringBuilder;Ljava/lang/Void;)V" } : Jvm.MethodName) prog_16_method_150_code (5 : Nat) (Option.none : Option Jvm.ClassFile.FieldType)) ∈ lw_all := lw_g (lw_at lw_m2 219 rfl) rfl
theorem q559 : (Jvm.Cond.methodLink "java/lang/String" (1 : Nat) ({ cls := "java/lang/Object", name := "<init>", desc := "()V" } : Jvm.MethodName)) ∈ lw_all := lw_g (lw_at lw_m2 220 rfl) rfl
theorem q560 : (Jvm.Cond.methodLink "java/lang/String" (552 : Nat) ({ cls := "java/lang/AbstractStringBuilder", name := "getValue", desc := "()[B" } : Jvm.MethodName)) ∈ lw_all := lw_g (lw_at lw_m2 221 rfl) rfl
theorem q565 : (Jvm.Cond.methodLink "java/lang/String" (549 : Nat) ({ cls := "java/lang/AbstractStringBuilder", name := "length", desc := "()I" } : Jvm.MethodName)) ∈ lw_all := lw_g (lw_at lw_m2 226 rfl) rfl
theorem q573 : (Jvm.Cond.methodLink "java/lang/String" (1047 : Nat) ({ cls := "java/lang/AbstractStringBuilder", name := "isLatin1", desc := "()Z" } : Jvm.MethodName)) ∈ lw_all := lw_g (lw_at lw_m2 234 rfl) rfl
theorem q574 : (Jvm.Cond.methodLink "java/lang/String" (54 : Nat) ({ cls := "java/util/Arrays", name := "copyOfRange", desc := "([BII)[B" } : Jvm.MethodName)) ∈ lw_all := lw_g (lw_at lw_m2 235 rfl) rfl
theorem q610 : (Jvm.Cond.methodLink "java/lang/String" (1051 : Nat) ({ cls := "java/lang/StringUTF16", name := "compress", desc := "([BII)[B" } : Jvm.MethodName)) ∈ lw_all := lw_g (lw_at lw_m3 31 rfl) rfl
theorem q620 : (Jvm.Cond.methodLink "java/lang/String" (47 : Nat) ({ cls := "java/lang/StringUTF16", name := "coderFromArrayLen", desc := "([BI)B" } : Jvm.MethodName)) ∈ lw_all := lw_g (lw_at lw_m3 41 rfl) rfl
theorem q623 : (Jvm.Cond.fieldLink "java/lang/String" (9 : Nat) "java/lang/String" "value" "[B") ∈ lw_all := lw_g (lw_at lw_m3 44 rfl) rfl
theorem q624 : (Jvm.Cond.fieldLink "java/lang/String" (15 : Nat) "java/lang/String" "coder" "B") ∈ lw_all := lw_g (lw_at lw_m3 45 rfl) rfl
theorem q625 : (Jvm.Cond.laysFinal "java/lang/String" "java/lang/String" "value" "[B") ∈ lw_all := lw_g (lw_at lw_m3 46 rfl) rfl
theorem q626 : (Jvm.Cond.soleField "java/lang/String" "value") ∈ lw_all := lw_g (lw_at lw_m3 47 rfl) rfl
theorem q627 : (Jvm.Cond.laysFinal "java/lang/String" "java/lang/String" "coder" "B") ∈ lw_all := lw_g (lw_at lw_m3 48 rfl) rfl
theorem q628 : (Jvm.Cond.soleField "java/lang/String" "coder") ∈ lw_all := lw_g (lw_at lw_m3 49 rfl) rfl
theorem q629 : (Jvm.Cond.lays "java/lang/String" "java/lang/String" "hash" "I") ∈ lw_all := lw_g (lw_at lw_m3 50 rfl) rfl
theorem q630 : (Jvm.Cond.soleField "java/lang/String" "hash") ∈ lw_all := lw_g (lw_at lw_m3 51 rfl) rfl
theorem q631 : (Jvm.Cond.lays "java/lang/String" "java/lang/String" "hashIsZero" "Z") ∈ lw_all := lw_g (lw_at lw_m3 52 rfl) rfl
theorem q632 : (Jvm.Cond.soleField "java/lang/String" "hashIsZero") ∈ lw_all := lw_g (lw_at lw_m3 53 rfl) rfl
theorem q633 : (Jvm.Cond.superclass "java/lang/String" "java/lang/Object") ∈ lw_all := lw_g (lw_at lw_m3 54 rfl) rfl
theorem q655 : (Jvm.Cond.static ({ cls := "java/lang/String", name := "checkIndex", desc := "(II)V" } : Jvm.MethodName)) ∈ lw_all := lw_g (lw_at lw_m3 76 rfl) rfl
theorem q656 : (Jvm.Cond.code ({ cls := "java/lang/String", name := "checkIndex", desc := "(II)V" } : Jvm.MethodName) prog_16_method_155_code (2 : Nat) (Option.none : Option Jvm.ClassFile.FieldType)) ∈ lw_all := lw_g (lw_at lw_m3 77 rfl) rfl
theorem q657 : (Jvm.Cond.methodLink "java/lang/String" (1059 : Nat) ({ cls := "jdk/internal/util/Preconditions", name := "checkIndex", desc := "(IILjava/util/function/BiFunction;)I" } : Jvm.MethodName)) ∈ lw_all := lw_g (lw_at lw_m3 78 rfl) rfl
theorem q680 : (Jvm.Cond.instanceMethod ({ cls := "java/lang/String", name := "charAt", desc := "(I)C" } : Jvm.MethodName)) ∈ lw_all := lw_g (lw_at lw_m3 101 rfl) rfl
theorem q681 : (Jvm.Cond.selects "java/lang/String" ({ cls := "java/lang/String", name := "charAt", desc := "(I)C" } : Jvm.MethodName) ({ cls := "java/lang/String", name := "charAt", desc := "(I)C" } : Jvm.MethodName)) ∈ lw_all := lw_g (lw_at lw_m3 102 rfl) rfl
theorem q682 : (Jvm.Cond.code ({ cls := "java/lang/String", name := "charAt", desc := "(I)C" } : Jvm.MethodName) prog_16_method_56_code (2 : Nat) (Option.some Jvm.ClassFile.FieldType.char)) ∈ lw_all := lw_g (lw_at lw_m3 103 rfl) rfl
theorem q683 : (Jvm.Cond.methodLink "java/lang/String" (492 : Nat) ({ cls := "java/lang/String", name := "isLatin1", desc := "()Z" } : Jvm.MethodName)) ∈ lw_all := lw_g (lw_at lw_m3 104 rfl) rfl
theorem q684 : (Jvm.Cond.instanceMethod ({ cls := "java/lang/String", name := "isLatin1", desc := "()Z" } : Jvm.MethodName)) ∈ lw_all := lw_g (lw_at lw_m3 105 rfl) rfl
theorem q685 : (Jvm.Cond.selects "java/lang/String" ({ cls := "java/lang/String", name := "isLatin1", desc := "()Z" } : Jvm.MethodName) ({ cls := "java/lang/String", name := "isLatin1", desc := "()Z" } : Jvm.MethodName)) ∈ lw_all := lw_g (lw_at lw_m3 106 rfl) rfl
theorem q686 : (Jvm.Cond.code ({ cls := "java/lang/String", name := "isLatin1", desc := "()Z" } : Jvm.MethodName) prog_16_method_154_code (1 : Nat) (Option.some Jvm.ClassFile.FieldType.boolean)) ∈ lw_all := lw_g (lw_at lw_m3 107 rfl) rfl
theorem q687 : (Jvm.Cond.methodLink "java/lang/String" (495 : Nat) ({ cls := "java/lang/StringLatin1", name := "charAt", desc := "([BI)C" } : Jvm.MethodName)) ∈ lw_all := lw_g (lw_at lw_m3 108 rfl) rfl
theorem q691 : (Jvm.Cond.methodLink "java/lang/String" (498 : Nat) ({ cls := "java/lang/StringUTF16", name := "charAt", desc := "([BI)C" } : Jvm.MethodName)) ∈ lw_all := lw_g (lw_at lw_m3 112 rfl) rfl
theorem q702 : (Jvm.Cond.instanceMethod ({ cls := "java/lang/String", name := "indexOf", desc := "(I)I" } : Jvm.MethodName)) ∈ lw_all := lw_g (lw_at lw_m3 123 rfl) rfl
theorem q703 : (Jvm.Cond.selects "java/lang/String" ({ cls := "java/lang/String", name := "indexOf", desc := "(I)I" } : Jvm.MethodName) ({ cls := "java/lang/String", name := "indexOf", desc := "(I)I" } : Jvm.MethodName)) ∈ lw_all := lw_g (lw_at lw_m3 124 rfl) rfl
theorem q704 : (Jvm.Cond.code ({ cls := "java/lang/String", name := "indexOf", desc := "(I)I" } : Jvm.MethodName) prog_16_method_79_code (2 : Nat) (Option.some Jvm.ClassFile.FieldType.int)) ∈ lw_all := lw_g (lw_at lw_m3 125 rfl) rfl
theorem q705 : (Jvm.Cond.methodLink "java/lang/String" (633 : Nat) ({ cls := "java/lang/String", name := "indexOf", desc := "(II)I" } : Jvm.MethodName)) ∈ lw_all := lw_g (lw_at lw_m3 126 rfl) rfl
theorem q706 : (Jvm.Cond.instanceMethod ({ cls := "java/lang/String", name := "indexOf", desc := "(II)I" } : Jvm.MethodName)) ∈ lw_all := lw_g (lw_at lw_m3 127 rfl) rfl
theorem q707 : (Jvm.Cond.selects "java/lang/String" ({ cls := "java/lang/String", name := "indexOf", desc := "(II)I" } : Jvm.MethodName) ({ cls := "java/lang/String", name := "indexOf", desc := "(II)I" } : Jvm.MethodName)) ∈ lw_all := lw_g (lw_at lw_m3 128 rfl) rfl
theorem q708 : (Jvm.Cond.code ({ cls := "java/lang/String", name := "indexOf", desc := "(II)I" } : Jvm.MethodName) prog_16_method_80_code (3 : Nat) (Option.some Jvm.ClassFile.FieldType.int)) ∈ lw_all := lw_g (lw_at lw_m3 129 rfl) rfl
theorem q709 : (Jvm.Cond.methodLink "java/lang/String" (505 : Nat) ({ cls := "java/lang/String", name := "length", desc := "()I" } : Jvm.MethodName)) ∈ lw_all := lw_g (lw_at lw_m3 130 rfl) rfl
theorem q710 : (Jvm.Cond.methodLink "java/lang/String" (637 : Nat) ({ cls := "java/lang/StringLatin1", name := "indexOf", desc := "([BIII)I" } : Jvm.MethodName)) ∈ lw_all := lw_g (lw_at lw_m3 131 rfl) rfl
theorem q721 : (Jvm.Cond.methodLink "java/lang/String" (640 : Nat) ({ cls := "java/lang/StringUTF16", name := "indexOf", desc := "([BIII)I" } : Jvm.MethodName)) ∈ lw_all := lw_g (lw_at lw_m3 142 rfl) rfl
theorem q773 : (Jvm.Cond.instanceMethod ({ cls := "java/lang/String", name := "equals", desc := "(Ljava/lang/Object;)Z" } : Jvm.MethodName)) ∈ lw_all := lw_g (lw_at lw_m3 194 rfl) rfl
theorem q774 : (Jvm.Cond.selects "java/lang/String" ({ cls := "java/lang/String", name := "equals", desc := "(Ljava/lang/Object;)Z" } : Jvm.MethodName) ({ cls := "java/lang/String", name := "equals", desc := "(Ljava/lang/Object;)Z" } : Jvm.MethodName)) ∈ lw_all := lw_g (lw_at lw_m3 195 rfl) rfl
theorem q775 : (Jvm.Cond.code ({ cls := "java/lang/String", name := "equals", desc := "(Ljava/lang/Object;)Z" } : Jvm.MethodName) prog_16_method_66_code (3 : Nat) (Option.some Jvm.ClassFile.FieldType.boolean)) ∈ lw_all := lw_g (lw_at lw_m3 196 rfl) rfl
theorem q776 : (Jvm.Cond.classLink "java/lang/String" (10 : Nat) "java/lang/String") ∈ lw_all := lw_g (lw_at lw_m3 197 rfl) rfl
theorem q777 : (Jvm.Cond.methodLink "java/lang/String" (541 : Nat) ({ cls := "java/lang/StringLatin1", name := "equals", desc := "([B[B)Z" } : Jvm.MethodName)) ∈ lw_all := lw_g (lw_at lw_m3 198 rfl) rfl
theorem in_J2 : ∀ w ∈ wsJ20, w ∈ lw_all := lw_in wsJ20 [625, 627, 629, 631] (by decide +kernel) (by decide +kernel)

/-! java/lang/StringUTF16 -/
set_option maxRecDepth 100000
def RJ3 : String := "java/lang/StringUTF16"
abbrev cJ3_newBytesFor : ByteArray := prog_19_method_2_code
def yJ3_newBytesFor : MethodName := ⟨RJ3, "newBytesFor", "(I)[B"⟩
abbrev cJ3_newBytesLength : ByteArray := prog_19_method_3_code
def yJ3_newBytesLength : MethodName := ⟨RJ3, "newBytesLength", "(I)I"⟩
abbrev cJ3_putCharsAt : ByteArray := prog_19_method_81_code
def yJ3_putCharsAt : MethodName := ⟨RJ3, "putCharsAt", "([BICCCC)I"⟩
abbrev cJ3_checkBoundsBeginEnd : ByteArray := prog_19_method_93_code
def yJ3_checkBoundsBeginEnd : MethodName := ⟨RJ3, "checkBoundsBeginEnd", "(II[B)V"⟩
abbrev cJ3_length : ByteArray := prog_19_method_6_code
def yJ3_length : MethodName := ⟨RJ3, "length", "([B)I"⟩
abbrev cJ3_putChar : ByteArray := prog_19_method_4_code
def yJ3_putChar : MethodName := ⟨RJ3, "putChar", "([BII)V"⟩
abbrev cJ3_inflate : ByteArray := prog_19_method_86_code
def yJ3_inflate : MethodName := ⟨RJ3, "inflate", "([BI[BII)V"⟩
abbrev cJ3_checkBoundsOffCount : ByteArray := prog_19_method_94_code
def yJ3_checkBoundsOffCount : MethodName := ⟨RJ3, "checkBoundsOffCount", "(II[B)V"⟩
abbrev cJ3_getChars : ByteArray := prog_19_method_77_code
def yJ3_getChars : MethodName := ⟨RJ3, "getChars", "(III[B)I"⟩
abbrev cJ3_getChars_2 : ByteArray := prog_19_method_89_code
def yJ3_getChars_2 : MethodName := ⟨RJ3, "getChars", "(II[B)I"⟩
abbrev cJ3_compress : ByteArray := prog_19_method_17_code
def yJ3_compress : MethodName := ⟨RJ3, "compress", "([BII)[B"⟩
abbrev cJ3_compress_2 : ByteArray := prog_19_method_22_code
def yJ3_compress_2 : MethodName := ⟨RJ3, "compress", "([BI[BII)I"⟩
abbrev cJ3_getChar : ByteArray := prog_19_method_5_code
def yJ3_getChar : MethodName := ⟨RJ3, "getChar", "([BI)C"⟩
abbrev cJ3_coderFromArrayLen : ByteArray := prog_19_method_15_code
def yJ3_coderFromArrayLen : MethodName := ⟨RJ3, "coderFromArrayLen", "([BI)B"⟩
abbrev cJ3_fillNull : ByteArray := prog_19_method_70_code
def yJ3_fillNull : MethodName := ⟨RJ3, "fillNull", "([BII)V"⟩
abbrev cJ3_putCharSB : ByteArray := prog_19_method_71_code
def yJ3_putCharSB : MethodName := ⟨RJ3, "putCharSB", "([BII)V"⟩
abbrev cJ3_checkIndex : ByteArray := prog_19_method_91_code
def yJ3_checkIndex : MethodName := ⟨RJ3, "checkIndex", "(I[B)V"⟩
abbrev cJ3_charAt : ByteArray := prog_19_method_83_code
def yJ3_charAt : MethodName := ⟨RJ3, "charAt", "([BI)C"⟩
abbrev cJ3_indexOf : ByteArray := prog_19_method_40_code
def yJ3_indexOf : MethodName := ⟨RJ3, "indexOf", "([BIII)I"⟩
abbrev cJ3_indexOfChar : ByteArray := prog_19_method_47_code
def yJ3_indexOfChar : MethodName := ⟨RJ3, "indexOfChar", "([BIII)I"⟩
abbrev cJ3_indexOfCharUnsafe : ByteArray := prog_19_method_48_code
def yJ3_indexOfCharUnsafe : MethodName := ⟨RJ3, "indexOfCharUnsafe", "([BIII)I"⟩
abbrev cJ3_indexOfSupplementary : ByteArray := prog_19_method_49_code
def yJ3_indexOfSupplementary : MethodName := ⟨RJ3, "indexOfSupplementary", "([BIII)I"⟩
theorem q104 : (Jvm.Cond.initialized "java/lang/StringUTF16") ∈ lw_all := lw_g (lw_at lw_m1 5 rfl) rfl
theorem q143 : (Jvm.Cond.static ({ cls := "java/lang/StringUTF16", name := "newBytesFor", desc := "(I)[B" } : Jvm.MethodName)) ∈ lw_all := lw_g (lw_at lw_m1 44 rfl) rfl
theorem q144 : (Jvm.Cond.code ({ cls := "java/lang/StringUTF16", name := "newBytesFor", desc := "(I)[B" } : Jvm.MethodName) prog_19_method_2_code (1 : Nat) (Option.some (Jvm.ClassFile.FieldType.array Jvm.ClassFile.FieldType.byte))) ∈ lw_all := lw_g (lw_at lw_m1 45 rfl) rfl
theorem q145 : (Jvm.Cond.methodLink "java/lang/StringUTF16" (11 : Nat) ({ cls := "java/lang/StringUTF16", name := "newBytesLength", desc := "(I)I" } : Jvm.MethodName)) ∈ lw_all := lw_g (lw_at lw_m1 46 rfl) rfl
theorem q146 : (Jvm.Cond.static ({ cls := "java/lang/StringUTF16", name := "newBytesLength", desc := "(I)I" } : Jvm.MethodName)) ∈ lw_all := lw_g (lw_at lw_m1 47 rfl) rfl
theorem q147 : (Jvm.Cond.code ({ cls := "java/lang/StringUTF16", name := "newBytesLength", desc := "(I)I" } : Jvm.MethodName) prog_19_method_3_code (1 : Nat) (Option.some Jvm.ClassFile.FieldType.int)) ∈ lw_all := lw_g (lw_at lw_m1 48 rfl) rfl
theorem q148 : (Jvm.Cond.constant "java/lang/StringUTF16" (20 : Nat) (1073741823 : Int32)) ∈ lw_all := lw_g (lw_at lw_m1 49 rfl) rfl
theorem q452 : (Jvm.Cond.static ({ cls := "java/lang/StringUTF16", name := "putCharsAt", desc := "([BICCCC)I" } : Jvm.MethodName)) ∈ lw_all := lw_g (lw_at lw_m2 113 rfl) rfl
theorem q453 : (Jvm.Cond.code ({ cls := "java/lang/StringUTF16", name := "putCharsAt", desc := "([BICCCC)I" } : Jvm.MethodName) prog_19_method_81_code (7 : Nat) (Option.some Jvm.ClassFile.FieldType.int)) ∈ lw_all := lw_g (lw_at lw_m2 114 rfl) rfl
theorem q454 : (Jvm.Cond.methodLink "java/lang/StringUTF16" (96 : Nat) ({ cls := "java/lang/StringUTF16", name := "checkBoundsBeginEnd", desc := "(II[B)V" } : Jvm.MethodName)) ∈ lw_all := lw_g (lw_at lw_m2 115 rfl) rfl
theorem q455 : (Jvm.Cond.static ({ cls := "java/lang/StringUTF16", name := "checkBoundsBeginEnd", desc := "(II[B)V" } : Jvm.MethodName)) ∈ lw_all := lw_g (lw_at lw_m2 116 rfl) rfl
theorem q456 : (Jvm.Cond.code ({ cls := "java/lang/StringUTF16", name := "checkBoundsBeginEnd", desc := "(II[B)V" } : Jvm.MethodName) prog_19_method_93_code (3 : Nat) (Option.none : Option Jvm.ClassFile.FieldType)) ∈ lw_all := lw_g (lw_at lw_m2 117 rfl) rfl
theorem q457 : (Jvm.Cond.methodLink "java/lang/StringUTF16" (48 : Nat) ({ cls := "java/lang/StringUTF16", name := "length", desc := "([B)I" } : Jvm.MethodName)) ∈ lw_all := lw_g (lw_at lw_m2 118 rfl) rfl
theorem q458 : (Jvm.Cond.static ({ cls := "java/lang/StringUTF16", name := "length", desc := "([B)I" } : Jvm.MethodName)) ∈ lw_all := lw_g (lw_at lw_m2 119 rfl) rfl
theorem q459 : (Jvm.Cond.code ({ cls := "java/lang/StringUTF16", name := "length", desc := "([B)I" } : Jvm.MethodName) prog_19_method_6_code (1 : Nat) (Option.some Jvm.ClassFile.FieldType.int)) ∈ lw_all := lw_g (lw_at lw_m2 120 rfl) rfl
theorem q460 : (Jvm.Cond.methodLink "java/lang/StringUTF16" (241 : Nat) ({ cls := "java/lang/String", name := "checkBoundsBeginEnd", desc := "(III)V" } : Jvm.MethodName)) ∈ lw_all := lw_g (lw_at lw_m2 121 rfl) rfl
theorem q468 : (Jvm.Cond.methodLink "java/lang/StringUTF16" (111 : Nat) ({ cls := "java/lang/StringUTF16", name := "putChar", desc := "([BII)V" } : Jvm.MethodName)) ∈ lw_all := lw_g (lw_at lw_m2 129 rfl) rfl
theorem q469 : (Jvm.Cond.static ({ cls := "java/lang/StringUTF16", name := "putChar", desc := "([BII)V" } : Jvm.MethodName)) ∈ lw_all := lw_g (lw_at lw_m2 130 rfl) rfl
theorem q470 : (Jvm.Cond.code ({ cls := "java/lang/StringUTF16", name := "putChar", desc := "([BII)V" } : Jvm.MethodName) prog_19_method_4_code (3 : Nat) (Option.none : Option Jvm.ClassFile.FieldType)) ∈ lw_all := lw_g (lw_at lw_m2 131 rfl) rfl
theorem q471 : (Jvm.Cond.fieldLink "java/lang/StringUTF16" (44 : Nat) "java/lang/StringUTF16" "$assertionsDisabled" "Z") ∈ lw_all := lw_g (lw_at lw_m2 132 rfl) rfl
theorem q472 : (Jvm.Cond.laysStatic "java/lang/StringUTF16" "$assertionsDisabled" "Z") ∈ lw_tbl := lw_at lw_m2 133 rfl
theorem q473 : (Jvm.Cond.fieldLink "java/lang/StringUTF16" (59 : Nat) "java/lang/StringUTF16" "HI_BYTE_SHIFT" "I") ∈ lw_all := lw_g (lw_at lw_m2 134 rfl) rfl
theorem q474 : (Jvm.Cond.laysStatic "java/lang/StringUTF16" "HI_BYTE_SHIFT" "I") ∈ lw_tbl := lw_at lw_m2 135 rfl
theorem q475 : (Jvm.Cond.fieldLink "java/lang/StringUTF16" (63 : Nat) "java/lang/StringUTF16" "LO_BYTE_SHIFT" "I") ∈ lw_all := lw_g (lw_at lw_m2 136 rfl) rfl
theorem q476 : (Jvm.Cond.laysStatic "java/lang/StringUTF16" "LO_BYTE_SHIFT" "I") ∈ lw_tbl := lw_at lw_m2 137 rfl
theorem q503 : (Jvm.Cond.static ({ cls := "java/lang/StringUTF16", name := "inflate", desc := "([BI[BII)V" } : Jvm.MethodName)) ∈ lw_all := lw_g (lw_at lw_m2 164 rfl) rfl
theorem q504 : (Jvm.Cond.code ({ cls := "java/lang/StringUTF16", name := "inflate", desc := "([BI[BII)V" } : Jvm.MethodName) prog_19_method_86_code (6 : Nat) (Option.none : Option Jvm.ClassFile.FieldType)) ∈ lw_all := lw_g (lw_at lw_m2 165 rfl) rfl
theorem q505 : (Jvm.Cond.methodLink "java/lang/StringUTF16" (173 : Nat) ({ cls := "java/lang/StringUTF16", name := "checkBoundsOffCount", desc := "(II[B)V" } : Jvm.MethodName)) ∈ lw_all := lw_g (lw_at lw_m2 166 rfl) rfl
theorem q506 : (Jvm.Cond.static ({ cls := "java/lang/StringUTF16", name := "checkBoundsOffCount", desc := "(II[B)V" } : Jvm.MethodName)) ∈ lw_all := lw_g (lw_at lw_m2 167 rfl) rfl
theorem q507 : (Jvm.Cond.code ({ cls := "java/lang/StringUTF16", name := "checkBoundsOffCount", desc := "(II[B)V" } : Jvm.MethodName) prog_19_method_94_code (3 : Nat) (Option.none : Option Jvm.ClassFile.FieldType)) ∈ lw_all := lw_g (lw_at lw_m2 168 rfl) rfl
theorem q508 : (Jvm.Cond.methodLink "java/lang/StringUTF16" (419 : Nat) ({ cls := "java/lang/String", name := "checkBoundsOffCount", desc := "(III)I" } : Jvm.MethodName)) ∈ lw_all := lw_g (lw_at lw_m2 169 rfl) rfl
theorem q538 : (Jvm.Cond.static ({ cls := "java/lang/StringUTF16", name := "getChars", desc := "(III[B)I" } : Jvm.MethodName)) ∈ lw_all := lw_g (lw_at lw_m2 199 rfl) rfl
theorem q539 : (Jvm.Cond.code ({ cls := "java/lang/StringUTF16", name := "getChars", desc := "(III[B)I" } : Jvm.MethodName) prog_19_method_77_code (5 : Nat) (Option.some Jvm.ClassFile.FieldType.int)) ∈ lw_all := lw_g (lw_at lw_m2 200 rfl) rfl
theorem q540 : (Jvm.Cond.methodLink "java/lang/StringUTF16" (393 : Nat) ({ cls := "java/lang/StringUTF16", name := "getChars", desc := "(II[B)I" } : Jvm.MethodName)) ∈ lw_all := lw_g (lw_at lw_m2 201 rfl) rfl
theorem q541 : (Jvm.Cond.static ({ cls := "java/lang/StringUTF16", name := "getChars", desc := "(II[B)I" } : Jvm.MethodName)) ∈ lw_all := lw_g (lw_at lw_m2 202 rfl) rfl
theorem q542 : (Jvm.Cond.code ({ cls := "java/lang/StringUTF16", name := "getChars", desc := "(II[B)I" } : Jvm.MethodName) prog_19_method_89_code (7 : Nat) (Option.some Jvm.ClassFile.FieldType.int)) ∈ lw_all := lw_g (lw_at lw_m2 203 rfl) rfl
theorem q543 : (Jvm.Cond.fieldLink "java/lang/StringUTF16" (403 : Nat) "java/lang/Integer" "DigitOnes" "[B") ∈ lw_all := lw_g (lw_at lw_m2 204 rfl) rfl
theorem q544 : (Jvm.Cond.fieldLink "java/lang/StringUTF16" (407 : Nat) "java/lang/Integer" "DigitTens" "[B") ∈ lw_all := lw_g (lw_at lw_m2 205 rfl) rfl
theorem q611 : (Jvm.Cond.static ({ cls := "java/lang/StringUTF16", name := "compress", desc := "([BII)[B" } : Jvm.MethodName)) ∈ lw_all := lw_g (lw_at lw_m3 32 rfl) rfl
theorem q612 : (Jvm.Cond.code ({ cls := "java/lang/StringUTF16", name := "compress", desc := "([BII)[B" } : Jvm.MethodName) prog_19_method_17_code (6 : Nat) (Option.some (Jvm.ClassFile.FieldType.array Jvm.ClassFile.FieldType.byte))) ∈ lw_all := lw_g (lw_at lw_m3 33 rfl) rfl
theorem q613 : (Jvm.Cond.methodLink "java/lang/StringUTF16" (123 : Nat) ({ cls := "java/lang/StringUTF16", name := "compress", desc := "([BI[BII)I" } : Jvm.MethodName)) ∈ lw_all := lw_g (lw_at lw_m3 34 rfl) rfl
theorem q614 : (Jvm.Cond.static ({ cls := "java/lang/StringUTF16", name := "compress", desc := "([BI[BII)I" } : Jvm.MethodName)) ∈ lw_all := lw_g (lw_at lw_m3 35 rfl) rfl
theorem q615 : (Jvm.Cond.code ({ cls := "java/lang/StringUTF16", name := "compress", desc := "([BI[BII)I" } : Jvm.MethodName) prog_19_method_22_code (7 : Nat) (Option.some Jvm.ClassFile.FieldType.int)) ∈ lw_all := lw_g (lw_at lw_m3 36 rfl) rfl
theorem q616 : (Jvm.Cond.methodLink "java/lang/StringUTF16" (71 : Nat) ({ cls := "java/lang/StringUTF16", name := "getChar", desc := "([BI)C" } : Jvm.MethodName)) ∈ lw_all := lw_g (lw_at lw_m3 37 rfl) rfl
theorem q617 : (Jvm.Cond.static ({ cls := "java/lang/StringUTF16", name := "getChar", desc := "([BI)C" } : Jvm.MethodName)) ∈ lw_all := lw_g (lw_at lw_m3 38 rfl) rfl
theorem q618 : (Jvm.Cond.code ({ cls := "java/lang/StringUTF16", name := "getChar", desc := "([BI)C" } : Jvm.MethodName) prog_19_method_5_code (2 : Nat) (Option.some Jvm.ClassFile.FieldType.char)) ∈ lw_all := lw_g (lw_at lw_m3 39 rfl) rfl
theorem q619 : (Jvm.Cond.methodLink "java/lang/StringUTF16" (126 : Nat) ({ cls := "java/util/Arrays", name := "copyOfRange", desc := "([BII)[B" } : Jvm.MethodName)) ∈ lw_all := lw_g (lw_at lw_m3 40 rfl) rfl
theorem q621 : (Jvm.Cond.static ({ cls := "java/lang/StringUTF16", name := "coderFromArrayLen", desc := "([BI)B" } : Jvm.MethodName)) ∈ lw_all := lw_g (lw_at lw_m3 42 rfl) rfl
theorem q622 : (Jvm.Cond.code ({ cls := "java/lang/StringUTF16", name := "coderFromArrayLen", desc := "([BI)B" } : Jvm.MethodName) prog_19_method_15_code (2 : Nat) (Option.some Jvm.ClassFile.FieldType.byte)) ∈ lw_all := lw_g (lw_at lw_m3 43 rfl) rfl
theorem q635 : (Jvm.Cond.static ({ cls := "java/lang/StringUTF16", name := "fillNull", desc := "([BII)V" } : Jvm.MethodName)) ∈ lw_all := lw_g (lw_at lw_m3 56 rfl) rfl
theorem q636 : (Jvm.Cond.code ({ cls := "java/lang/StringUTF16", name := "fillNull", desc := "([BII)V" } : Jvm.MethodName) prog_19_method_70_code (3 : Nat) (Option.none : Option Jvm.ClassFile.FieldType)) ∈ lw_all := lw_g (lw_at lw_m3 57 rfl) rfl
theorem q637 : (Jvm.Cond.methodLink "java/lang/StringUTF16" (380 : Nat) ({ cls := "java/util/Arrays", name := "fill", desc := "([BIIB)V" } : Jvm.MethodName)) ∈ lw_all := lw_g (lw_at lw_m3 58 rfl) rfl
theorem q649 : (Jvm.Cond.static ({ cls := "java/lang/StringUTF16", name := "putCharSB", desc := "([BII)V" } : Jvm.MethodName)) ∈ lw_all := lw_g (lw_at lw_m3 70 rfl) rfl
theorem q650 : (Jvm.Cond.code ({ cls := "java/lang/StringUTF16", name := "putCharSB", desc := "([BII)V" } : Jvm.MethodName) prog_19_method_71_code (3 : Nat) (Option.none : Option Jvm.ClassFile.FieldType)) ∈ lw_all := lw_g (lw_at lw_m3 71 rfl) rfl
theorem q651 : (Jvm.Cond.methodLink "java/lang/StringUTF16" (67 : Nat) ({ cls := "java/lang/StringUTF16", name := "checkIndex", desc := "(I[B)V" } : Jvm.MethodName)) ∈ lw_all := lw_g (lw_at lw_m3 72 rfl) rfl
theorem q652 : (Jvm.Cond.static ({ cls := "java/lang/StringUTF16", name := "checkIndex", desc := "(I[B)V" } : Jvm.MethodName)) ∈ lw_all := lw_g (lw_at lw_m3 73 rfl) rfl
theorem q653 : (Jvm.Cond.code ({ cls := "java/lang/StringUTF16", name := "checkIndex", desc := "(I[B)V" } : Jvm.MethodName) prog_19_method_91_code (2 : Nat) (Option.none : Option Jvm.ClassFile.FieldType)) ∈ lw_all := lw_g (lw_at lw_m3 74 rfl) rfl
theorem q654 : (Jvm.Cond.methodLink "java/lang/StringUTF16" (414 : Nat) ({ cls := "java/lang/String", name := "checkIndex", desc := "(II)V" } : Jvm.MethodName)) ∈ lw_all := lw_g (lw_at lw_m3 75 rfl) rfl
theorem q692 : (Jvm.Cond.static ({ cls := "java/lang/StringUTF16", name := "charAt", desc := "([BI)C" } : Jvm.MethodName)) ∈ lw_all := lw_g (lw_at lw_m3 113 rfl) rfl
theorem q693 : (Jvm.Cond.code ({ cls := "java/lang/StringUTF16", name := "charAt", desc := "([BI)C" } : Jvm.MethodName) prog_19_method_83_code (2 : Nat) (Option.some Jvm.ClassFile.FieldType.char)) ∈ lw_all := lw_g (lw_at lw_m3 114 rfl) rfl
theorem q722 : (Jvm.Cond.static ({ cls := "java/lang/StringUTF16", name := "indexOf", desc := "([BIII)I" } : Jvm.MethodName)) ∈ lw_all := lw_g (lw_at lw_m3 143 rfl) rfl
theorem q723 : (Jvm.Cond.code ({ cls := "java/lang/StringUTF16", name := "indexOf", desc := "([BIII)I" } : Jvm.MethodName) prog_19_method_40_code (4 : Nat) (Option.some Jvm.ClassFile.FieldType.int)) ∈ lw_all := lw_g (lw_at lw_m3 144 rfl) rfl
theorem q724 : (Jvm.Cond.methodLink "java/lang/StringUTF16" (224 : Nat) ({ cls := "java/lang/Math", name := "max", desc := "(II)I" } : Jvm.MethodName)) ∈ lw_all := lw_g (lw_at lw_m3 145 rfl) rfl
theorem q725 : (Jvm.Cond.methodLink "java/lang/StringUTF16" (183 : Nat) ({ cls := "java/lang/Math", name := "min", desc := "(II)I" } : Jvm.MethodName)) ∈ lw_all := lw_g (lw_at lw_m3 146 rfl) rfl
theorem q726 : (Jvm.Cond.constant "java/lang/StringUTF16" (227 : Nat) (65536 : Int32)) ∈ lw_all := lw_g (lw_at lw_m3 147 rfl) rfl
theorem q727 : (Jvm.Cond.methodLink "java/lang/StringUTF16" (228 : Nat) ({ cls := "java/lang/StringUTF16", name := "indexOfChar", desc := "([BIII)I" } : Jvm.MethodName)) ∈ lw_all := lw_g (lw_at lw_m3 148 rfl) rfl
theorem q728 : (Jvm.Cond.static ({ cls := "java/lang/StringUTF16", name := "indexOfChar", desc := "([BIII)I" } : Jvm.MethodName)) ∈ lw_all := lw_g (lw_at lw_m3 149 rfl) rfl
theorem q729 : (Jvm.Cond.code ({ cls := "java/lang/StringUTF16", name := "indexOfChar", desc := "([BIII)I" } : Jvm.MethodName) prog_19_method_47_code (4 : Nat) (Option.some Jvm.ClassFile.FieldType.int)) ∈ lw_all := lw_g (lw_at lw_m3 150 rfl) rfl
theorem q730 : (Jvm.Cond.methodLink "java/lang/StringUTF16" (244 : Nat) ({ cls := "java/lang/StringUTF16", name := "indexOfCharUnsafe", desc := "([BIII)I" } : Jvm.MethodName)) ∈ lw_all := lw_g (lw_at lw_m3 151 rfl) rfl
theorem q731 : (Jvm.Cond.static ({ cls := "java/lang/StringUTF16", name := "indexOfCharUnsafe", desc := "([BIII)I" } : Jvm.MethodName)) ∈ lw_all := lw_g (lw_at lw_m3 152 rfl) rfl
theorem q732 : (Jvm.Cond.code ({ cls := "java/lang/StringUTF16", name := "indexOfCharUnsafe", desc := "([BIII)I" } : Jvm.MethodName) prog_19_method_48_code (5 : Nat) (Option.some Jvm.ClassFile.FieldType.int)) ∈ lw_all := lw_g (lw_at lw_m3 153 rfl) rfl
theorem q733 : (Jvm.Cond.methodLink "java/lang/StringUTF16" (232 : Nat) ({ cls := "java/lang/StringUTF16", name := "indexOfSupplementary", desc := "([BIII)I" } : Jvm.MethodName)) ∈ lw_all := lw_g (lw_at lw_m3 154 rfl) rfl
theorem q734 : (Jvm.Cond.static ({ cls := "java/lang/StringUTF16", name := "indexOfSupplementary", desc := "([BIII)I" } : Jvm.MethodName)) ∈ lw_all := lw_g (lw_at lw_m3 155 rfl) rfl
theorem q735 : (Jvm.Cond.code ({ cls := "java/lang/StringUTF16", name := "indexOfSupplementary", desc := "([BIII)I" } : Jvm.MethodName) prog_19_method_49_code (7 : Nat) (Option.some Jvm.ClassFile.FieldType.int)) ∈ lw_all := lw_g (lw_at lw_m3 156 rfl) rfl
theorem q736 : (Jvm.Cond.methodLink "java/lang/StringUTF16" (164 : Nat) ({ cls := "java/lang/Character", name := "isValidCodePoint", desc := "(I)Z" } : Jvm.MethodName)) ∈ lw_all := lw_g (lw_at lw_m3 157 rfl) rfl
theorem q739 : (Jvm.Cond.methodLink "java/lang/StringUTF16" (157 : Nat) ({ cls := "java/lang/Character", name := "highSurrogate", desc := "(I)C" } : Jvm.MethodName)) ∈ lw_all := lw_g (lw_at lw_m3 160 rfl) rfl
theorem q743 : (Jvm.Cond.methodLink "java/lang/StringUTF16" (161 : Nat) ({ cls := "java/lang/Character", name := "lowSurrogate", desc := "(I)C" } : Jvm.MethodName)) ∈ lw_all := lw_g (lw_at lw_m3 164 rfl) rfl

/-! java/lang/StringLatin1 -/
set_option maxRecDepth 100000
def RJ4 : String := "java/lang/StringLatin1"
abbrev cJ4_fillNull : ByteArray := prog_18_method_48_code
def yJ4_fillNull : MethodName := ⟨RJ4, "fillNull", "([BII)V"⟩
abbrev cJ4_inflate : ByteArray := prog_18_method_50_code
def yJ4_inflate : MethodName := ⟨RJ4, "inflate", "([BI[BII)V"⟩
abbrev cJ4_canEncode : ByteArray := prog_18_method_3_code
def yJ4_canEncode : MethodName := ⟨RJ4, "canEncode", "(C)Z"⟩
abbrev cJ4_charAt : ByteArray := prog_18_method_2_code
def yJ4_charAt : MethodName := ⟨RJ4, "charAt", "([BI)C"⟩
abbrev cJ4_indexOf : ByteArray := prog_18_method_22_code
def yJ4_indexOf : MethodName := ⟨RJ4, "indexOf", "([BIII)I"⟩
abbrev cJ4_canEncode_2 : ByteArray := prog_18_method_4_code
def yJ4_canEncode_2 : MethodName := ⟨RJ4, "canEncode", "(I)Z"⟩
abbrev cJ4_indexOfChar : ByteArray := prog_18_method_23_code
def yJ4_indexOfChar : MethodName := ⟨RJ4, "indexOfChar", "([BIII)I"⟩
abbrev cJ4_equals : ByteArray := prog_18_method_13_code
def yJ4_equals : MethodName := ⟨RJ4, "equals", "([B[B)Z"⟩
theorem q106 : (Jvm.Cond.initialized "java/lang/StringLatin1") ∈ lw_all := lw_g (lw_at lw_m1 7 rfl) rfl
theorem q389 : (Jvm.Cond.static ({ cls := "java/lang/StringLatin1", name := "fillNull", desc := "([BII)V" } : Jvm.MethodName)) ∈ lw_all := lw_g (lw_at lw_m2 50 rfl) rfl
theorem q390 : (Jvm.Cond.code ({ cls := "java/lang/StringLatin1", name := "fillNull", desc := "([BII)V" } : Jvm.MethodName) prog_18_method_48_code (3 : Nat) (Option.none : Option Jvm.ClassFile.FieldType)) ∈ lw_all := lw_g (lw_at lw_m2 51 rfl) rfl
theorem q391 : (Jvm.Cond.methodLink "java/lang/StringLatin1" (236 : Nat) ({ cls := "java/util/Arrays", name := "fill", desc := "([BIIB)V" } : Jvm.MethodName)) ∈ lw_all := lw_g (lw_at lw_m2 52 rfl) rfl
theorem q500 : (Jvm.Cond.static ({ cls := "java/lang/StringLatin1", name := "inflate", desc := "([BI[BII)V" } : Jvm.MethodName)) ∈ lw_all := lw_g (lw_at lw_m2 161 rfl) rfl
theorem q501 : (Jvm.Cond.code ({ cls := "java/lang/StringLatin1", name := "inflate", desc := "([BI[BII)V" } : Jvm.MethodName) prog_18_method_50_code (5 : Nat) (Option.none : Option Jvm.ClassFile.FieldType)) ∈ lw_all := lw_g (lw_at lw_m2 162 rfl) rfl
theorem q502 : (Jvm.Cond.methodLink "java/lang/StringLatin1" (240 : Nat) ({ cls := "java/lang/StringUTF16", name := "inflate", desc := "([BI[BII)V" } : Jvm.MethodName)) ∈ lw_all := lw_g (lw_at lw_m2 163 rfl) rfl
theorem q646 : (Jvm.Cond.static ({ cls := "java/lang/StringLatin1", name := "canEncode", desc := "(C)Z" } : Jvm.MethodName)) ∈ lw_all := lw_g (lw_at lw_m3 67 rfl) rfl
theorem q647 : (Jvm.Cond.code ({ cls := "java/lang/StringLatin1", name := "canEncode", desc := "(C)Z" } : Jvm.MethodName) prog_18_method_3_code (1 : Nat) (Option.some Jvm.ClassFile.FieldType.boolean)) ∈ lw_all := lw_g (lw_at lw_m3 68 rfl) rfl
theorem q688 : (Jvm.Cond.static ({ cls := "java/lang/StringLatin1", name := "charAt", desc := "([BI)C" } : Jvm.MethodName)) ∈ lw_all := lw_g (lw_at lw_m3 109 rfl) rfl
theorem q689 : (Jvm.Cond.code ({ cls := "java/lang/StringLatin1", name := "charAt", desc := "([BI)C" } : Jvm.MethodName) prog_18_method_2_code (2 : Nat) (Option.some Jvm.ClassFile.FieldType.char)) ∈ lw_all := lw_g (lw_at lw_m3 110 rfl) rfl
theorem q690 : (Jvm.Cond.methodLink "java/lang/StringLatin1" (9 : Nat) ({ cls := "java/lang/String", name := "checkIndex", desc := "(II)V" } : Jvm.MethodName)) ∈ lw_all := lw_g (lw_at lw_m3 111 rfl) rfl
theorem q711 : (Jvm.Cond.static ({ cls := "java/lang/StringLatin1", name := "indexOf", desc := "([BIII)I" } : Jvm.MethodName)) ∈ lw_all := lw_g (lw_at lw_m3 132 rfl) rfl
theorem q712 : (Jvm.Cond.code ({ cls := "java/lang/StringLatin1", name := "indexOf", desc := "([BIII)I" } : Jvm.MethodName) prog_18_method_22_code (4 : Nat) (Option.some Jvm.ClassFile.FieldType.int)) ∈ lw_all := lw_g (lw_at lw_m3 133 rfl) rfl
theorem q713 : (Jvm.Cond.methodLink "java/lang/StringLatin1" (88 : Nat) ({ cls := "java/lang/StringLatin1", name := "canEncode", desc := "(I)Z" } : Jvm.MethodName)) ∈ lw_all := lw_g (lw_at lw_m3 134 rfl) rfl
theorem q714 : (Jvm.Cond.static ({ cls := "java/lang/StringLatin1", name := "canEncode", desc := "(I)Z" } : Jvm.MethodName)) ∈ lw_all := lw_g (lw_at lw_m3 135 rfl) rfl
theorem q715 : (Jvm.Cond.code ({ cls := "java/lang/StringLatin1", name := "canEncode", desc := "(I)Z" } : Jvm.MethodName) prog_18_method_4_code (1 : Nat) (Option.some Jvm.ClassFile.FieldType.boolean)) ∈ lw_all := lw_g (lw_at lw_m3 136 rfl) rfl
theorem q716 : (Jvm.Cond.methodLink "java/lang/StringLatin1" (92 : Nat) ({ cls := "java/lang/Math", name := "max", desc := "(II)I" } : Jvm.MethodName)) ∈ lw_all := lw_g (lw_at lw_m3 137 rfl) rfl
theorem q717 : (Jvm.Cond.methodLink "java/lang/StringLatin1" (38 : Nat) ({ cls := "java/lang/Math", name := "min", desc := "(II)I" } : Jvm.MethodName)) ∈ lw_all := lw_g (lw_at lw_m3 138 rfl) rfl
theorem q718 : (Jvm.Cond.methodLink "java/lang/StringLatin1" (95 : Nat) ({ cls := "java/lang/StringLatin1", name := "indexOfChar", desc := "([BIII)I" } : Jvm.MethodName)) ∈ lw_all := lw_g (lw_at lw_m3 139 rfl) rfl
theorem q719 : (Jvm.Cond.static ({ cls := "java/lang/StringLatin1", name := "indexOfChar", desc := "([BIII)I" } : Jvm.MethodName)) ∈ lw_all := lw_g (lw_at lw_m3 140 rfl) rfl
theorem q720 : (Jvm.Cond.code ({ cls := "java/lang/StringLatin1", name := "indexOfChar", desc := "([BIII)I" } : Jvm.MethodName) prog_18_method_23_code (6 : Nat) (Option.some Jvm.ClassFile.FieldType.int)) ∈ lw_all := lw_g (lw_at lw_m3 141 rfl) rfl
theorem q778 : (Jvm.Cond.static ({ cls := "java/lang/StringLatin1", name := "equals", desc := "([B[B)Z" } : Jvm.MethodName)) ∈ lw_all := lw_g (lw_at lw_m3 199 rfl) rfl
theorem q779 : (Jvm.Cond.code ({ cls := "java/lang/StringLatin1", name := "equals", desc := "([B[B)Z" } : Jvm.MethodName) prog_18_method_13_code (3 : Nat) (Option.some Jvm.ClassFile.FieldType.boolean)) ∈ lw_all := lw_g (lw_at lw_m3 200 rfl) rfl

/-! jdk/internal/util/Preconditions -/
set_option maxRecDepth 100000
def RJ5 : String := "jdk/internal/util/Preconditions"
abbrev cJ5_checkFromToIndex : ByteArray := prog_24_method_12_code
def yJ5_checkFromToIndex : MethodName := ⟨RJ5, "checkFromToIndex", "(IIILjava/util/function/BiFunction;)I"⟩
abbrev cJ5_checkFromIndexSize : ByteArray := prog_24_method_13_code
def yJ5_checkFromIndexSize : MethodName := ⟨RJ5, "checkFromIndexSize", "(IIILjava/util/function/BiFunction;)I"⟩
abbrev cJ5_checkIndex : ByteArray := prog_24_method_11_code
def yJ5_checkIndex : MethodName := ⟨RJ5, "checkIndex", "(IILjava/util/function/BiFunction;)I"⟩
theorem q107 : (Jvm.Cond.initialized "jdk/internal/util/Preconditions") ∈ lw_all := lw_g (lw_at lw_m1 8 rfl) rfl
theorem q464 : (Jvm.Cond.laysStatic "jdk/internal/util/Preconditions" "SIOOBE_FORMATTER" "Ljava/util/function/BiFunction;") ∈ lw_tbl := lw_at lw_m2 125 rfl
theorem q466 : (Jvm.Cond.static ({ cls := "jdk/internal/util/Preconditions", name := "checkFromToIndex", desc := "(IIILjava/util/function/BiFunction;)I" } : Jvm.MethodName)) ∈ lw_all := lw_g (lw_at lw_m2 127 rfl) rfl
theorem q467 : (Jvm.Cond.code ({ cls := "jdk/internal/util/Preconditions", name := "checkFromToIndex", desc := "(IIILjava/util/function/BiFunction;)I" } : Jvm.MethodName) prog_24_method_12_code (4 : Nat) (Option.some Jvm.ClassFile.FieldType.int)) ∈ lw_all := lw_g (lw_at lw_m2 128 rfl) rfl
theorem q512 : (Jvm.Cond.static ({ cls := "jdk/internal/util/Preconditions", name := "checkFromIndexSize", desc := "(IIILjava/util/function/BiFunction;)I" } : Jvm.MethodName)) ∈ lw_all := lw_g (lw_at lw_m2 173 rfl) rfl
theorem q513 : (Jvm.Cond.code ({ cls := "jdk/internal/util/Preconditions", name := "checkFromIndexSize", desc := "(IIILjava/util/function/BiFunction;)I" } : Jvm.MethodName) prog_24_method_13_code (4 : Nat) (Option.some Jvm.ClassFile.FieldType.int)) ∈ lw_all := lw_g (lw_at lw_m2 174 rfl) rfl
theorem q658 : (Jvm.Cond.static ({ cls := "jdk/internal/util/Preconditions", name := "checkIndex", desc := "(IILjava/util/function/BiFunction;)I" } : Jvm.MethodName)) ∈ lw_all := lw_g (lw_at lw_m3 79 rfl) rfl
theorem q659 : (Jvm.Cond.code ({ cls := "jdk/internal/util/Preconditions", name := "checkIndex", desc := "(IILjava/util/function/BiFunction;)I" } : Jvm.MethodName) prog_24_method_11_code (3 : Nat) (Option.some Jvm.ClassFile.FieldType.int)) ∈ lw_all := lw_g (lw_at lw_m3 80 rfl) rfl

/-! java/lang/Throwable -/
set_option maxRecDepth 100000
def RJ6 : String := "java/lang/Throwable"
def TJ6 : u_T := fun k => match k with
  | 0 => ("java/lang/Throwable", "cause", "Ljava/lang/Throwable;", false)
  | 1 => ("java/lang/Throwable", "stackTrace", "[Ljava/lang/StackTraceElement;", false)
  | 2 => ("java/lang/Throwable", "suppressedExceptions", "Ljava/util/List;", false)
  | 3 => ("java/lang/Throwable", "detailMessage", "Ljava/lang/String;", false)
  | _ => ("java/lang/Throwable", "backtrace", "Ljava/lang/Object;", false)
def tyJ6 : Nat → FieldType := fun k => match k with
  | 0 => .object "java/lang/Throwable"
  | 1 => .array (.object "java/lang/StackTraceElement")
  | 2 => .object "java/util/List"
  | 3 => .object "java/lang/String"
  | _ => .object "java/lang/Object"
abbrev wsJ60 : List Cond := u_ws RJ6 TJ6 5
theorem nmJ6 : ∀ a, a < 5 → ∀ b, b < 5 → a ≠ b → (TJ6 a).2.1 ≠ (TJ6 b).2.1 := by decide +kernel
theorem tyJ6_ok : ∀ k, k < 5 → parseFieldDescriptor (TJ6 k).2.2.1 = some (tyJ6 k) := by decide +kernel
abbrev cJ6_init : ByteArray := prog_21_method_1_code
def yJ6_init : MethodName := ⟨RJ6, "<init>", "()V"⟩
abbrev cJ6_init_2 : ByteArray := prog_21_method_2_code
def yJ6_init_2 : MethodName := ⟨RJ6, "<init>", "(Ljava/lang/String;)V"⟩
theorem q108 : (Jvm.Cond.initialized "java/lang/Throwable") ∈ lw_all := lw_g (lw_at lw_m1 9 rfl) rfl
theorem q404 : (Jvm.Cond.declares ({ cls := "java/lang/Throwable", name := "<init>", desc := "()V" } : Jvm.MethodName)) ∈ lw_tbl := lw_at lw_m2 65 rfl
theorem q405 : (Jvm.Cond.declares ({ cls := "java/lang/Throwable", name := "<init>", desc := "(Ljava/lang/String;)V" } : Jvm.MethodName)) ∈ lw_tbl := lw_at lw_m2 66 rfl
theorem q409 : (Jvm.Cond.lays "java/lang/Throwable" "java/lang/Throwable" "cause" "Ljava/lang/Throwable;") ∈ lw_all := lw_g (lw_at lw_m2 70 rfl) rfl
theorem q411 : (Jvm.Cond.lays "java/lang/Throwable" "java/lang/Throwable" "stackTrace" "[Ljava/lang/StackTraceElement;") ∈ lw_all := lw_g (lw_at lw_m2 72 rfl) rfl
theorem q413 : (Jvm.Cond.lays "java/lang/Throwable" "java/lang/Throwable" "suppressedExceptions" "Ljava/util/List;") ∈ lw_all := lw_g (lw_at lw_m2 74 rfl) rfl
theorem q415 : (Jvm.Cond.lays "java/lang/Throwable" "java/lang/Throwable" "detailMessage" "Ljava/lang/String;") ∈ lw_all := lw_g (lw_at lw_m2 76 rfl) rfl
theorem q417 : (Jvm.Cond.lays "java/lang/Throwable" "java/lang/Throwable" "backtrace" "Ljava/lang/Object;") ∈ lw_all := lw_g (lw_at lw_m2 78 rfl) rfl
theorem q418 : (Jvm.Cond.fieldLink "java/lang/Throwable" (198 : Nat) "java/lang/Throwable" "backtrace" "Ljava/lang/Object;") ∈ lw_all := lw_g (lw_at lw_m2 79 rfl) rfl
theorem q419 : (Jvm.Cond.superclass "java/lang/Throwable" "java/lang/Object") ∈ lw_all := lw_g (lw_at lw_m2 80 rfl) rfl
theorem q420 : (Jvm.Cond.instanceMethod ({ cls := "java/lang/Throwable", name := "<init>", desc := "()V" } : Jvm.MethodName)) ∈ lw_all := lw_g (lw_at lw_m2 81 rfl) rfl
theorem q421 : (Jvm.Cond.code ({ cls := "java/lang/Throwable", name := "<init>", desc := "()V" } : Jvm.MethodName) prog_21_method_1_code (1 : Nat) (Option.none : Option Jvm.ClassFile.FieldType)) ∈ lw_all := lw_g (lw_at lw_m2 82 rfl) rfl
theorem q422 : (Jvm.Cond.methodLink "java/lang/Throwable" (1 : Nat) ({ cls := "java/lang/Object", name := "<init>", desc := "()V" } : Jvm.MethodName)) ∈ lw_all := lw_g (lw_at lw_m2 83 rfl) rfl
theorem q423 : (Jvm.Cond.fieldLink "java/lang/Throwable" (13 : Nat) "java/lang/Throwable" "UNASSIGNED_STACK" "[Ljava/lang/StackTraceElement;") ∈ lw_all := lw_g (lw_at lw_m2 84 rfl) rfl
theorem q424 : (Jvm.Cond.laysStatic "java/lang/Throwable" "UNASSIGNED_STACK" "[Ljava/lang/StackTraceElement;") ∈ lw_tbl := lw_at lw_m2 85 rfl
theorem q425 : (Jvm.Cond.fieldLink "java/lang/Throwable" (20 : Nat) "java/lang/Throwable" "SUPPRESSED_SENTINEL" "Ljava/util/List;") ∈ lw_all := lw_g (lw_at lw_m2 86 rfl) rfl
theorem q426 : (Jvm.Cond.laysStatic "java/lang/Throwable" "SUPPRESSED_SENTINEL" "Ljava/util/List;") ∈ lw_tbl := lw_at lw_m2 87 rfl
theorem q427 : (Jvm.Cond.methodLink "java/lang/Throwable" (27 : Nat) ({ cls := "java/lang/Throwable", name := "fillInStackTrace", desc := "()Ljava/lang/Throwable;" } : Jvm.MethodName)) ∈ lw_all := lw_g (lw_at lw_m2 88 rfl) rfl
theorem q428 : (Jvm.Cond.instanceMethod ({ cls := "java/lang/Throwable", name := "fillInStackTrace", desc := "()Ljava/lang/Throwable;" } : Jvm.MethodName)) ∈ lw_all := lw_g (lw_at lw_m2 89 rfl) rfl
theorem q429 : (Jvm.Cond.sameMethod "java/lang/Throwable" "java/lang/Throwable" "fillInStackTrace" "()Ljava/lang/Throwable;") ∈ lw_all := lw_g (lw_at lw_m2 90 rfl) rfl
theorem q431 : (Jvm.Cond.codeSync ({ cls := "java/lang/Throwable", name := "fillInStackTrace", desc := "()Ljava/lang/Throwable;" } : Jvm.MethodName) prog_21_method_18_code (1 : Nat) (Option.some (Jvm.ClassFile.FieldType.object "java/lang/Throwable"))) ∈ lw_all := lw_g (lw_at lw_m2 92 rfl) rfl
theorem q432 : (Jvm.Cond.methodLink "java/lang/Throwable" (202 : Nat) ({ cls := "java/lang/Throwable", name := "fillInStackTrace", desc := "(I)Ljava/lang/Throwable;" } : Jvm.MethodName)) ∈ lw_all := lw_g (lw_at lw_m2 93 rfl) rfl
theorem q433 : (Jvm.Cond.privateMethod ({ cls := "java/lang/Throwable", name := "fillInStackTrace", desc := "(I)Ljava/lang/Throwable;" } : Jvm.MethodName)) ∈ lw_tbl := lw_at lw_m2 94 rfl
theorem q434 : (Jvm.Cond.instanceMethod ({ cls := "java/lang/Throwable", name := "fillInStackTrace", desc := "(I)Ljava/lang/Throwable;" } : Jvm.MethodName)) ∈ lw_all := lw_g (lw_at lw_m2 95 rfl) rfl
theorem q435 : (Jvm.Cond.instantiable "java/lang/Throwable" (6 : Nat)) ∈ lw_all := lw_g (lw_at lw_m2 96 rfl) rfl
theorem q436 : (Jvm.Cond.native ({ cls := "java/lang/Throwable", name := "fillInStackTrace", desc := "(I)Ljava/lang/Throwable;" } : Jvm.MethodName)) ∈ lw_all := lw_g (lw_at lw_m2 97 rfl) rfl
theorem q594 : (Jvm.Cond.instanceMethod ({ cls := "java/lang/Throwable", name := "<init>", desc := "(Ljava/lang/String;)V" } : Jvm.MethodName)) ∈ lw_all := lw_g (lw_at lw_m3 15 rfl) rfl
theorem q595 : (Jvm.Cond.code ({ cls := "java/lang/Throwable", name := "<init>", desc := "(Ljava/lang/String;)V" } : Jvm.MethodName) prog_21_method_2_code (2 : Nat) (Option.none : Option Jvm.ClassFile.FieldType)) ∈ lw_all := lw_g (lw_at lw_m3 16 rfl) rfl
theorem q596 : (Jvm.Cond.fieldLink "java/lang/Throwable" (198 : Nat) "java/lang/Throwable" "backtrace" "Ljava/lang/Object;") ∈ lw_all := lw_g (lw_at lw_m3 17 rfl) rfl
theorem q597 : (Jvm.Cond.fieldLink "java/lang/Throwable" (31 : Nat) "java/lang/Throwable" "detailMessage" "Ljava/lang/String;") ∈ lw_all := lw_g (lw_at lw_m3 18 rfl) rfl
theorem q598 : (Jvm.Cond.fieldLink "java/lang/Throwable" (7 : Nat) "java/lang/Throwable" "cause" "Ljava/lang/Throwable;") ∈ lw_all := lw_g (lw_at lw_m3 19 rfl) rfl
theorem q599 : (Jvm.Cond.fieldLink "java/lang/Throwable" (17 : Nat) "java/lang/Throwable" "stackTrace" "[Ljava/lang/StackTraceElement;") ∈ lw_all := lw_g (lw_at lw_m3 20 rfl) rfl
theorem q600 : (Jvm.Cond.fieldLink "java/lang/Throwable" (24 : Nat) "java/lang/Throwable" "suppressedExceptions" "Ljava/util/List;") ∈ lw_all := lw_g (lw_at lw_m3 21 rfl) rfl
theorem q601 : (Jvm.Cond.soleField "java/lang/Throwable" "backtrace") ∈ lw_all := lw_g (lw_at lw_m3 22 rfl) rfl
theorem q602 : (Jvm.Cond.soleField "java/lang/Throwable" "detailMessage") ∈ lw_all := lw_g (lw_at lw_m3 23 rfl) rfl
theorem q603 : (Jvm.Cond.soleField "java/lang/Throwable" "cause") ∈ lw_all := lw_g (lw_at lw_m3 24 rfl) rfl
theorem q604 : (Jvm.Cond.soleField "java/lang/Throwable" "stackTrace") ∈ lw_all := lw_g (lw_at lw_m3 25 rfl) rfl
theorem q606 : (Jvm.Cond.soleField "java/lang/Throwable" "depth") ∈ lw_all := lw_g (lw_at lw_m3 27 rfl) rfl
theorem q607 : (Jvm.Cond.soleField "java/lang/Throwable" "suppressedExceptions") ∈ lw_all := lw_g (lw_at lw_m3 28 rfl) rfl
theorem q1805 : (Jvm.Cond.sameMethod "java/lang/Throwable" "java/lang/Throwable" "fillInStackTrace" "(I)Ljava/lang/Throwable;") ∈ lw_all := lw_g (lw_at lw_m8 26 rfl) rfl
theorem in_J6 : ∀ w ∈ wsJ60, w ∈ lw_all := lw_in wsJ60 [409, 411, 413, 415, 417] (by decide +kernel) (by decide +kernel)

/-! java/lang/Exception -/
set_option maxRecDepth 100000
def RJ7 : String := "java/lang/Exception"
abbrev cJ7_init : ByteArray := prog_10_method_2_code
def yJ7_init : MethodName := ⟨RJ7, "<init>", "(Ljava/lang/String;)V"⟩
abbrev cJ7_init_2 : ByteArray := prog_10_method_1_code
def yJ7_init_2 : MethodName := ⟨RJ7, "<init>", "()V"⟩
theorem q109 : (Jvm.Cond.initialized "java/lang/Exception") ∈ lw_all := lw_g (lw_at lw_m1 10 rfl) rfl
theorem q402 : (Jvm.Cond.declares ({ cls := "java/lang/Exception", name := "<init>", desc := "()V" } : Jvm.MethodName)) ∈ lw_tbl := lw_at lw_m2 63 rfl
theorem q403 : (Jvm.Cond.declares ({ cls := "java/lang/Exception", name := "<init>", desc := "(Ljava/lang/String;)V" } : Jvm.MethodName)) ∈ lw_tbl := lw_at lw_m2 64 rfl
theorem q591 : (Jvm.Cond.instanceMethod ({ cls := "java/lang/Exception", name := "<init>", desc := "(Ljava/lang/String;)V" } : Jvm.MethodName)) ∈ lw_all := lw_g (lw_at lw_m3 12 rfl) rfl
theorem q592 : (Jvm.Cond.code ({ cls := "java/lang/Exception", name := "<init>", desc := "(Ljava/lang/String;)V" } : Jvm.MethodName) prog_10_method_2_code (2 : Nat) (Option.none : Option Jvm.ClassFile.FieldType)) ∈ lw_all := lw_g (lw_at lw_m3 13 rfl) rfl
theorem q593 : (Jvm.Cond.methodLink "java/lang/Exception" (7 : Nat) ({ cls := "java/lang/Throwable", name := "<init>", desc := "(Ljava/lang/String;)V" } : Jvm.MethodName)) ∈ lw_all := lw_g (lw_at lw_m3 14 rfl) rfl
theorem q1128 : (Jvm.Cond.instanceMethod ({ cls := "java/lang/Exception", name := "<init>", desc := "()V" } : Jvm.MethodName)) ∈ lw_all := lw_g (lw_at lw_m5 69 rfl) rfl
theorem q1129 : (Jvm.Cond.code ({ cls := "java/lang/Exception", name := "<init>", desc := "()V" } : Jvm.MethodName) prog_10_method_1_code (1 : Nat) (Option.none : Option Jvm.ClassFile.FieldType)) ∈ lw_all := lw_g (lw_at lw_m5 70 rfl) rfl
theorem q1130 : (Jvm.Cond.methodLink "java/lang/Exception" (1 : Nat) ({ cls := "java/lang/Throwable", name := "<init>", desc := "()V" } : Jvm.MethodName)) ∈ lw_all := lw_g (lw_at lw_m5 71 rfl) rfl

/-! java/lang/RuntimeException -/
set_option maxRecDepth 100000
def RJ8 : String := "java/lang/RuntimeException"
abbrev cJ8_init : ByteArray := prog_15_method_2_code
def yJ8_init : MethodName := ⟨RJ8, "<init>", "(Ljava/lang/String;)V"⟩
abbrev cJ8_init_2 : ByteArray := prog_15_method_1_code
def yJ8_init_2 : MethodName := ⟨RJ8, "<init>", "()V"⟩
theorem q110 : (Jvm.Cond.initialized "java/lang/RuntimeException") ∈ lw_all := lw_g (lw_at lw_m1 11 rfl) rfl
theorem q400 : (Jvm.Cond.declares ({ cls := "java/lang/RuntimeException", name := "<init>", desc := "()V" } : Jvm.MethodName)) ∈ lw_tbl := lw_at lw_m2 61 rfl
theorem q401 : (Jvm.Cond.declares ({ cls := "java/lang/RuntimeException", name := "<init>", desc := "(Ljava/lang/String;)V" } : Jvm.MethodName)) ∈ lw_tbl := lw_at lw_m2 62 rfl
theorem q588 : (Jvm.Cond.instanceMethod ({ cls := "java/lang/RuntimeException", name := "<init>", desc := "(Ljava/lang/String;)V" } : Jvm.MethodName)) ∈ lw_all := lw_g (lw_at lw_m3 9 rfl) rfl
theorem q589 : (Jvm.Cond.code ({ cls := "java/lang/RuntimeException", name := "<init>", desc := "(Ljava/lang/String;)V" } : Jvm.MethodName) prog_15_method_2_code (2 : Nat) (Option.none : Option Jvm.ClassFile.FieldType)) ∈ lw_all := lw_g (lw_at lw_m3 10 rfl) rfl
theorem q590 : (Jvm.Cond.methodLink "java/lang/RuntimeException" (7 : Nat) ({ cls := "java/lang/Exception", name := "<init>", desc := "(Ljava/lang/String;)V" } : Jvm.MethodName)) ∈ lw_all := lw_g (lw_at lw_m3 11 rfl) rfl
theorem q1125 : (Jvm.Cond.instanceMethod ({ cls := "java/lang/RuntimeException", name := "<init>", desc := "()V" } : Jvm.MethodName)) ∈ lw_all := lw_g (lw_at lw_m5 66 rfl) rfl
theorem q1126 : (Jvm.Cond.code ({ cls := "java/lang/RuntimeException", name := "<init>", desc := "()V" } : Jvm.MethodName) prog_15_method_1_code (1 : Nat) (Option.none : Option Jvm.ClassFile.FieldType)) ∈ lw_all := lw_g (lw_at lw_m5 67 rfl) rfl
theorem q1127 : (Jvm.Cond.methodLink "java/lang/RuntimeException" (1 : Nat) ({ cls := "java/lang/Exception", name := "<init>", desc := "()V" } : Jvm.MethodName)) ∈ lw_all := lw_g (lw_at lw_m5 68 rfl) rfl

/-! java/lang/IllegalStateException -/
set_option maxRecDepth 100000
def RJ9 : String := "java/lang/IllegalStateException"
def TJ9 : u_T := fun k => match k with
  | 0 => ("java/lang/Throwable", "cause", "Ljava/lang/Throwable;", false)
  | 1 => ("java/lang/Throwable", "stackTrace", "[Ljava/lang/StackTraceElement;", false)
  | 2 => ("java/lang/Throwable", "suppressedExceptions", "Ljava/util/List;", false)
  | 3 => ("java/lang/Throwable", "detailMessage", "Ljava/lang/String;", false)
  | 4 => ("java/lang/Throwable", "backtrace", "Ljava/lang/Object;", false)
  | _ => ("java/lang/Throwable", "depth", "I", false)
def tyJ9 : Nat → FieldType := fun k => match k with
  | 0 => .object "java/lang/Throwable"
  | 1 => .array (.object "java/lang/StackTraceElement")
  | 2 => .object "java/util/List"
  | 3 => .object "java/lang/String"
  | 4 => .object "java/lang/Object"
  | _ => .int
abbrev wsJ90 : List Cond := u_ws RJ9 TJ9 6
theorem nmJ9 : ∀ a, a < 6 → ∀ b, b < 6 → a ≠ b → (TJ9 a).2.1 ≠ (TJ9 b).2.1 := by decide +kernel
theorem tyJ9_ok : ∀ k, k < 6 → parseFieldDescriptor (TJ9 k).2.2.1 = some (tyJ9 k) := by decide +kernel
abbrev cJ9_init : ByteArray := prog_12_method_1_code
def yJ9_init : MethodName := ⟨RJ9, "<init>", "()V"⟩
theorem q111 : (Jvm.Cond.initialized "java/lang/IllegalStateException") ∈ lw_all := lw_g (lw_at lw_m1 12 rfl) rfl
theorem q430 : (Jvm.Cond.selects "java/lang/IllegalStateException" ({ cls := "java/lang/Throwable", name := "fillInStackTrace", desc := "()Ljava/lang/Throwable;" } : Jvm.MethodName) ({ cls := "java/lang/Throwable", name := "fillInStackTrace", desc := "()Ljava/lang/Throwable;" } : Jvm.MethodName)) ∈ lw_all := lw_g (lw_at lw_m2 91 rfl) rfl
theorem q1113 : (Jvm.Cond.instantiable "java/lang/IllegalStateException" (6 : Nat)) ∈ lw_all := lw_g (lw_at lw_m5 54 rfl) rfl
theorem q1114 : (Jvm.Cond.castable "java/lang/IllegalStateException" "java/lang/IllegalStateException") ∈ lw_tbl := lw_at lw_m5 55 rfl
theorem q1115 : (Jvm.Cond.selects "java/lang/IllegalStateException" ({ cls := "java/lang/Throwable", name := "fillInStackTrace", desc := "(I)Ljava/lang/Throwable;" } : Jvm.MethodName) ({ cls := "java/lang/Throwable", name := "fillInStackTrace", desc := "(I)Ljava/lang/Throwable;" } : Jvm.MethodName)) ∈ lw_all := lw_g (lw_at lw_m5 56 rfl) rfl
theorem q1116 : (Jvm.Cond.lays "java/lang/IllegalStateException" "java/lang/Throwable" "cause" "Ljava/lang/Throwable;") ∈ lw_all := lw_g (lw_at lw_m5 57 rfl) rfl
theorem q1117 : (Jvm.Cond.lays "java/lang/IllegalStateException" "java/lang/Throwable" "stackTrace" "[Ljava/lang/StackTraceElement;") ∈ lw_all := lw_g (lw_at lw_m5 58 rfl) rfl
theorem q1118 : (Jvm.Cond.lays "java/lang/IllegalStateException" "java/lang/Throwable" "suppressedExceptions" "Ljava/util/List;") ∈ lw_all := lw_g (lw_at lw_m5 59 rfl) rfl
theorem q1119 : (Jvm.Cond.lays "java/lang/IllegalStateException" "java/lang/Throwable" "detailMessage" "Ljava/lang/String;") ∈ lw_all := lw_g (lw_at lw_m5 60 rfl) rfl
theorem q1120 : (Jvm.Cond.lays "java/lang/IllegalStateException" "java/lang/Throwable" "backtrace" "Ljava/lang/Object;") ∈ lw_all := lw_g (lw_at lw_m5 61 rfl) rfl
theorem q1122 : (Jvm.Cond.instanceMethod ({ cls := "java/lang/IllegalStateException", name := "<init>", desc := "()V" } : Jvm.MethodName)) ∈ lw_all := lw_g (lw_at lw_m5 63 rfl) rfl
theorem q1123 : (Jvm.Cond.code ({ cls := "java/lang/IllegalStateException", name := "<init>", desc := "()V" } : Jvm.MethodName) prog_12_method_1_code (1 : Nat) (Option.none : Option Jvm.ClassFile.FieldType)) ∈ lw_all := lw_g (lw_at lw_m5 64 rfl) rfl
theorem q1124 : (Jvm.Cond.methodLink "java/lang/IllegalStateException" (1 : Nat) ({ cls := "java/lang/RuntimeException", name := "<init>", desc := "()V" } : Jvm.MethodName)) ∈ lw_all := lw_g (lw_at lw_m5 65 rfl) rfl
theorem q1131 : (Jvm.Cond.lays "java/lang/IllegalStateException" "java/lang/Throwable" "depth" "I") ∈ lw_all := lw_g (lw_at lw_m5 72 rfl) rfl
theorem q1132 : (Jvm.Cond.superclass "java/lang/IllegalStateException" "java/lang/RuntimeException") ∈ lw_all := lw_g (lw_at lw_m5 73 rfl) rfl
theorem in_J9 : ∀ w ∈ wsJ90, w ∈ lw_all := lw_in wsJ90 [1116, 1117, 1118, 1119, 1120, 1131] (by decide +kernel) (by decide +kernel)

/-! ClassGateLaw -/
set_option maxRecDepth 100000
def RX0 : String := "ClassGateLaw"
abbrev cX0_feed : ByteArray := method_3_code
def yX0_feed : MethodName := ⟨RX0, "feed", "(LClassGate;IIIII[J)I"⟩
abbrev cX0_end : ByteArray := method_4_code
def yX0_end : MethodName := ⟨RX0, "end", "(LClassGate;I[J)I"⟩
abbrev cX0_count : ByteArray := method_5_code
def yX0_count : MethodName := ⟨RX0, "count", "(LClassGate;I[J)I"⟩
abbrev cX0_entry : ByteArray := method_6_code
def yX0_entry : MethodName := ⟨RX0, "entry", "(LClassGate;II[J)I"⟩
abbrev cX0_member : ByteArray := method_7_code
def yX0_member : MethodName := ⟨RX0, "member", "(LClassGate;ZII[J)I"⟩
abbrev cX0_row : ByteArray := method_8_code
def yX0_row : MethodName := ⟨RX0, "row", "(LClassGate;III[J)I"⟩
abbrev cX0_instruction : ByteArray := method_9_code
def yX0_instruction : MethodName := ⟨RX0, "instruction", "(LClassGate;III[J)I"⟩
theorem q99 : (Jvm.Cond.initialized "ClassGateLaw") ∈ lw_all := lw_g (lw_at lw_m1 0 rfl) rfl
theorem q122 : (Jvm.Cond.classLink "ClassGateLaw" (8 : Nat) "ClassGate") ∈ lw_all := lw_g (lw_at lw_m1 23 rfl) rfl
theorem q124 : (Jvm.Cond.methodLink "ClassGateLaw" (39 : Nat) ({ cls := "ClassGate", name := "<init>", desc := "()V" } : Jvm.MethodName)) ∈ lw_all := lw_g (lw_at lw_m1 25 rfl) rfl
theorem q204 : (Jvm.Cond.methodLink "ClassGateLaw" (57 : Nat) ({ cls := "ClassGate", name := "read", desc := "()I" } : Jvm.MethodName)) ∈ lw_all := lw_g (lw_at lw_m1 105 rfl) rfl
theorem q1005 : (Jvm.Cond.methodLink "ClassGateLaw" (61 : Nat) ({ cls := "ClassGate", name := "place", desc := "()I" } : Jvm.MethodName)) ∈ lw_all := lw_g (lw_at lw_m4 186 rfl) rfl
theorem q1009 : (Jvm.Cond.methodLink "ClassGateLaw" (72 : Nat) ({ cls := "ClassGate", name := "bits", desc := "(I)J" } : Jvm.MethodName)) ∈ lw_all := lw_g (lw_at lw_m4 190 rfl) rfl
theorem q1017 : (Jvm.Cond.methodLink "ClassGateLaw" (77 : Nat) ({ cls := "ClassGate", name := "character", desc := "(II)I" } : Jvm.MethodName)) ∈ lw_all := lw_g (lw_at lw_m4 198 rfl) rfl
theorem q1025 : (Jvm.Cond.methodLink "ClassGateLaw" (81 : Nat) ({ cls := "ClassGate", name := "places", desc := "(I)I" } : Jvm.MethodName)) ∈ lw_all := lw_g (lw_at lw_m4 206 rfl) rfl
theorem q1029 : (Jvm.Cond.methodLink "ClassGateLaw" (89 : Nat) ({ cls := "ClassGate", name := "find", desc := "(ZII)I" } : Jvm.MethodName)) ∈ lw_all := lw_g (lw_at lw_m4 210 rfl) rfl
theorem q1033 : (Jvm.Cond.methodLink "ClassGateLaw" (97 : Nat) ({ cls := "ClassGate", name := "bootstrap", desc := "(II)I" } : Jvm.MethodName)) ∈ lw_all := lw_g (lw_at lw_m4 214 rfl) rfl
theorem q1037 : (Jvm.Cond.methodLink "ClassGateLaw" (101 : Nat) ({ cls := "ClassGate", name := "cut", desc := "(I)I" } : Jvm.MethodName)) ∈ lw_all := lw_g (lw_at lw_m4 218 rfl) rfl
theorem q1095 : (Jvm.Cond.methodLink "ClassGateLaw" (108 : Nat) ({ cls := "ClassGate", name := "jump", desc := "(IIIZ)I" } : Jvm.MethodName)) ∈ lw_all := lw_g (lw_at lw_m5 36 rfl) rfl
theorem q1104 : (Jvm.Cond.methodLink "ClassGateLaw" (43 : Nat) ({ cls := "ClassGateLaw", name := "feed", desc := "(LClassGate;IIIII[J)I" } : Jvm.MethodName)) ∈ lw_all := lw_g (lw_at lw_m5 45 rfl) rfl
theorem q1105 : (Jvm.Cond.static ({ cls := "ClassGateLaw", name := "feed", desc := "(LClassGate;IIIII[J)I" } : Jvm.MethodName)) ∈ lw_all := lw_g (lw_at lw_m5 46 rfl) rfl
theorem q1106 : (Jvm.Cond.codeWith ({ cls := "ClassGateLaw", name := "feed", desc := "(LClassGate;IIIII[J)I" } : Jvm.MethodName) method_3_code (8 : Nat) (Option.some Jvm.ClassFile.FieldType.int) [((0 : Nat), (16 : Nat), (19 : Nat), (13 : Nat))]) ∈ lw_all := lw_g (lw_at lw_m5 47 rfl) rfl
theorem q1107 : (Jvm.Cond.classLink "ClassGateLaw" (13 : Nat) "java/lang/IllegalStateException") ∈ lw_all := lw_g (lw_at lw_m5 48 rfl) rfl
theorem q1108 : (Jvm.Cond.methodLink "ClassGateLaw" (7 : Nat) ({ cls := "ClassGate", name := "feed", desc := "(IIIII)I" } : Jvm.MethodName)) ∈ lw_all := lw_g (lw_at lw_m5 49 rfl) rfl
theorem q1137 : (Jvm.Cond.methodLink "ClassGateLaw" (53 : Nat) ({ cls := "ClassGateLaw", name := "end", desc := "(LClassGate;I[J)I" } : Jvm.MethodName)) ∈ lw_all := lw_g (lw_at lw_m5 78 rfl) rfl
theorem q1138 : (Jvm.Cond.static ({ cls := "ClassGateLaw", name := "end", desc := "(LClassGate;I[J)I" } : Jvm.MethodName)) ∈ lw_all := lw_g (lw_at lw_m5 79 rfl) rfl
theorem q1139 : (Jvm.Cond.codeWith ({ cls := "ClassGateLaw", name := "end", desc := "(LClassGate;I[J)I" } : Jvm.MethodName) method_4_code (4 : Nat) (Option.some Jvm.ClassFile.FieldType.int) [((0 : Nat), (9 : Nat), (12 : Nat), (19 : Nat))]) ∈ lw_all := lw_g (lw_at lw_m5 80 rfl) rfl
theorem q1140 : (Jvm.Cond.classLink "ClassGateLaw" (19 : Nat) "java/lang/IllegalArgumentException") ∈ lw_all := lw_g (lw_at lw_m5 81 rfl) rfl
theorem q1141 : (Jvm.Cond.methodLink "ClassGateLaw" (15 : Nat) ({ cls := "ClassGate", name := "end", desc := "(I)I" } : Jvm.MethodName)) ∈ lw_all := lw_g (lw_at lw_m5 82 rfl) rfl
theorem q1150 : (Jvm.Cond.methodLink "ClassGateLaw" (65 : Nat) ({ cls := "ClassGateLaw", name := "count", desc := "(LClassGate;I[J)I" } : Jvm.MethodName)) ∈ lw_all := lw_g (lw_at lw_m5 91 rfl) rfl
theorem q1151 : (Jvm.Cond.static ({ cls := "ClassGateLaw", name := "count", desc := "(LClassGate;I[J)I" } : Jvm.MethodName)) ∈ lw_all := lw_g (lw_at lw_m5 92 rfl) rfl
theorem q1152 : (Jvm.Cond.codeWith ({ cls := "ClassGateLaw", name := "count", desc := "(LClassGate;I[J)I" } : Jvm.MethodName) method_5_code (4 : Nat) (Option.some Jvm.ClassFile.FieldType.int) [((0 : Nat), (9 : Nat), (12 : Nat), (19 : Nat))]) ∈ lw_all := lw_g (lw_at lw_m5 93 rfl) rfl
theorem q1153 : (Jvm.Cond.methodLink "ClassGateLaw" (21 : Nat) ({ cls := "ClassGate", name := "count", desc := "(I)I" } : Jvm.MethodName)) ∈ lw_all := lw_g (lw_at lw_m5 94 rfl) rfl
theorem q1157 : (Jvm.Cond.methodLink "ClassGateLaw" (68 : Nat) ({ cls := "ClassGateLaw", name := "entry", desc := "(LClassGate;II[J)I" } : Jvm.MethodName)) ∈ lw_all := lw_g (lw_at lw_m5 98 rfl) rfl
theorem q1158 : (Jvm.Cond.static ({ cls := "ClassGateLaw", name := "entry", desc := "(LClassGate;II[J)I" } : Jvm.MethodName)) ∈ lw_all := lw_g (lw_at lw_m5 99 rfl) rfl
theorem q1159 : (Jvm.Cond.codeWith ({ cls := "ClassGateLaw", name := "entry", desc := "(LClassGate;II[J)I" } : Jvm.MethodName) method_6_code (5 : Nat) (Option.some Jvm.ClassFile.FieldType.int) [((0 : Nat), (10 : Nat), (13 : Nat), (19 : Nat))]) ∈ lw_all := lw_g (lw_at lw_m5 100 rfl) rfl
theorem q1160 : (Jvm.Cond.methodLink "ClassGateLaw" (24 : Nat) ({ cls := "ClassGate", name := "entry", desc := "(II)I" } : Jvm.MethodName)) ∈ lw_all := lw_g (lw_at lw_m5 101 rfl) rfl
theorem q1164 : (Jvm.Cond.methodLink "ClassGateLaw" (85 : Nat) ({ cls := "ClassGateLaw", name := "member", desc := "(LClassGate;ZII[J)I" } : Jvm.MethodName)) ∈ lw_all := lw_g (lw_at lw_m5 105 rfl) rfl
theorem q1165 : (Jvm.Cond.static ({ cls := "ClassGateLaw", name := "member", desc := "(LClassGate;ZII[J)I" } : Jvm.MethodName)) ∈ lw_all := lw_g (lw_at lw_m5 106 rfl) rfl
theorem q1166 : (Jvm.Cond.codeWith ({ cls := "ClassGateLaw", name := "member", desc := "(LClassGate;ZII[J)I" } : Jvm.MethodName) method_7_code (6 : Nat) (Option.some Jvm.ClassFile.FieldType.int) [((0 : Nat), (12 : Nat), (15 : Nat), (19 : Nat))]) ∈ lw_all := lw_g (lw_at lw_m5 107 rfl) rfl
theorem q1167 : (Jvm.Cond.methodLink "ClassGateLaw" (28 : Nat) ({ cls := "ClassGate", name := "member", desc := "(ZII)I" } : Jvm.MethodName)) ∈ lw_all := lw_g (lw_at lw_m5 108 rfl) rfl
theorem q1171 : (Jvm.Cond.methodLink "ClassGateLaw" (93 : Nat) ({ cls := "ClassGateLaw", name := "row", desc := "(LClassGate;III[J)I" } : Jvm.MethodName)) ∈ lw_all := lw_g (lw_at lw_m5 112 rfl) rfl
theorem q1172 : (Jvm.Cond.static ({ cls := "ClassGateLaw", name := "row", desc := "(LClassGate;III[J)I" } : Jvm.MethodName)) ∈ lw_all := lw_g (lw_at lw_m5 113 rfl) rfl
theorem q1173 : (Jvm.Cond.codeWith ({ cls := "ClassGateLaw", name := "row", desc := "(LClassGate;III[J)I" } : Jvm.MethodName) method_8_code (6 : Nat) (Option.some Jvm.ClassFile.FieldType.int) [((0 : Nat), (12 : Nat), (15 : Nat), (19 : Nat))]) ∈ lw_all := lw_g (lw_at lw_m5 114 rfl) rfl
theorem q1174 : (Jvm.Cond.methodLink "ClassGateLaw" (32 : Nat) ({ cls := "ClassGate", name := "row", desc := "(III)I" } : Jvm.MethodName)) ∈ lw_all := lw_g (lw_at lw_m5 115 rfl) rfl
theorem q1178 : (Jvm.Cond.methodLink "ClassGateLaw" (105 : Nat) ({ cls := "ClassGateLaw", name := "instruction", desc := "(LClassGate;III[J)I" } : Jvm.MethodName)) ∈ lw_all := lw_g (lw_at lw_m5 119 rfl) rfl
theorem q1179 : (Jvm.Cond.static ({ cls := "ClassGateLaw", name := "instruction", desc := "(LClassGate;III[J)I" } : Jvm.MethodName)) ∈ lw_all := lw_g (lw_at lw_m5 120 rfl) rfl
theorem q1180 : (Jvm.Cond.codeWith ({ cls := "ClassGateLaw", name := "instruction", desc := "(LClassGate;III[J)I" } : Jvm.MethodName) method_9_code (6 : Nat) (Option.some Jvm.ClassFile.FieldType.int) [((0 : Nat), (12 : Nat), (15 : Nat), (19 : Nat))]) ∈ lw_all := lw_g (lw_at lw_m5 121 rfl) rfl
theorem q1181 : (Jvm.Cond.methodLink "ClassGateLaw" (36 : Nat) ({ cls := "ClassGate", name := "instruction", desc := "(III)I" } : Jvm.MethodName)) ∈ lw_all := lw_g (lw_at lw_m5 122 rfl) rfl
theorem q1185 : (Jvm.Cond.methodLink "ClassGateLaw" (49 : Nat) ({ cls := "ClassGateModel", name := "thrown", desc := "()I" } : Jvm.MethodName)) ∈ lw_all := lw_g (lw_at lw_m5 126 rfl) rfl
theorem q1189 : (Jvm.Cond.classLink "ClassGateLaw" (40 : Nat) "ClassGateModel") ∈ lw_all := lw_g (lw_at lw_m5 130 rfl) rfl
theorem q1191 : (Jvm.Cond.methodLink "ClassGateLaw" (42 : Nat) ({ cls := "ClassGateModel", name := "<init>", desc := "()V" } : Jvm.MethodName)) ∈ lw_all := lw_g (lw_at lw_m5 132 rfl) rfl
theorem q1475 : (Jvm.Cond.methodLink "ClassGateLaw" (48 : Nat) ({ cls := "ClassGateModel", name := "feed", desc := "(IIIII)I" } : Jvm.MethodName)) ∈ lw_all := lw_g (lw_at lw_m6 176 rfl) rfl
theorem q1483 : (Jvm.Cond.methodLink "ClassGateLaw" (56 : Nat) ({ cls := "ClassGateModel", name := "end", desc := "(I)I" } : Jvm.MethodName)) ∈ lw_all := lw_g (lw_at lw_m6 184 rfl) rfl
theorem q1491 : (Jvm.Cond.methodLink "ClassGateLaw" (60 : Nat) ({ cls := "ClassGateModel", name := "read", desc := "()I" } : Jvm.MethodName)) ∈ lw_all := lw_g (lw_at lw_m6 192 rfl) rfl
theorem q1668 : (Jvm.Cond.methodLink "ClassGateLaw" (64 : Nat) ({ cls := "ClassGateModel", name := "place", desc := "()I" } : Jvm.MethodName)) ∈ lw_all := lw_g (lw_at lw_m7 129 rfl) rfl
theorem q1672 : (Jvm.Cond.methodLink "ClassGateLaw" (67 : Nat) ({ cls := "ClassGateModel", name := "count", desc := "(I)I" } : Jvm.MethodName)) ∈ lw_all := lw_g (lw_at lw_m7 133 rfl) rfl
theorem q1676 : (Jvm.Cond.methodLink "ClassGateLaw" (71 : Nat) ({ cls := "ClassGateModel", name := "entry", desc := "(II)I" } : Jvm.MethodName)) ∈ lw_all := lw_g (lw_at lw_m7 137 rfl) rfl
theorem q1680 : (Jvm.Cond.methodLink "ClassGateLaw" (76 : Nat) ({ cls := "ClassGateModel", name := "bits", desc := "(I)J" } : Jvm.MethodName)) ∈ lw_all := lw_g (lw_at lw_m7 141 rfl) rfl
theorem q1684 : (Jvm.Cond.methodLink "ClassGateLaw" (80 : Nat) ({ cls := "ClassGateModel", name := "character", desc := "(II)I" } : Jvm.MethodName)) ∈ lw_all := lw_g (lw_at lw_m7 145 rfl) rfl
theorem q1688 : (Jvm.Cond.methodLink "ClassGateLaw" (88 : Nat) ({ cls := "ClassGateModel", name := "member", desc := "(ZII)I" } : Jvm.MethodName)) ∈ lw_all := lw_g (lw_at lw_m7 149 rfl) rfl
theorem q1692 : (Jvm.Cond.methodLink "ClassGateLaw" (92 : Nat) ({ cls := "ClassGateModel", name := "find", desc := "(ZII)I" } : Jvm.MethodName)) ∈ lw_all := lw_g (lw_at lw_m7 153 rfl) rfl
theorem q1696 : (Jvm.Cond.methodLink "ClassGateLaw" (96 : Nat) ({ cls := "ClassGateModel", name := "row", desc := "(III)I" } : Jvm.MethodName)) ∈ lw_all := lw_g (lw_at lw_m7 157 rfl) rfl
theorem q1700 : (Jvm.Cond.methodLink "ClassGateLaw" (100 : Nat) ({ cls := "ClassGateModel", name := "bootstrap", desc := "(II)I" } : Jvm.MethodName)) ∈ lw_all := lw_g (lw_at lw_m7 161 rfl) rfl
theorem q1704 : (Jvm.Cond.methodLink "ClassGateLaw" (84 : Nat) ({ cls := "ClassGateModel", name := "places", desc := "(I)I" } : Jvm.MethodName)) ∈ lw_all := lw_g (lw_at lw_m7 165 rfl) rfl
theorem q1712 : (Jvm.Cond.methodLink "ClassGateLaw" (104 : Nat) ({ cls := "ClassGateModel", name := "cut", desc := "(I)I" } : Jvm.MethodName)) ∈ lw_all := lw_g (lw_at lw_m7 173 rfl) rfl
theorem q1782 : (Jvm.Cond.methodLink "ClassGateLaw" (107 : Nat) ({ cls := "ClassGateModel", name := "instruction", desc := "(III)I" } : Jvm.MethodName)) ∈ lw_all := lw_g (lw_at lw_m8 3 rfl) rfl
theorem q1798 : (Jvm.Cond.methodLink "ClassGateLaw" (112 : Nat) ({ cls := "ClassGateModel", name := "jump", desc := "(IIIZ)I" } : Jvm.MethodName)) ∈ lw_all := lw_g (lw_at lw_m8 19 rfl) rfl

/-! ClassGate -/
set_option maxRecDepth 100000
def RX1 : String := "ClassGate"
def TX1 : u_T := fun k => match k with
  | 0 => ("ClassGate", "came", "[B", true)
  | 1 => ("ClassGate", "cameCount", "I", false)
  | 2 => ("ClassGate", "file", "[B", false)
  | 3 => ("ClassGate", "faultRule", "I", false)
  | 4 => ("ClassGate", "faultPlace", "I", false)
  | 5 => ("ClassGate", "kept", "LClassGate$Cls;", false)
  | 6 => ("ClassGate", "at", "I", false)
  | 7 => ("ClassGate", "tagAt", "[I", false)
  | 8 => ("ClassGate", "isWrong", "Z", false)
  | 9 => ("ClassGate", "headAt", "I", false)
  | 10 => ("ClassGate", "membersAt", "I", false)
  | 11 => ("ClassGate", "reading", "Ljava/lang/StringBuilder;", true)
  | _ => ("ClassGate", "afterInstruction", "I", false)
def tyX1 : Nat → FieldType := fun k => match k with
  | 0 => .array .byte
  | 1 => .int
  | 2 => .array .byte
  | 3 => .int
  | 4 => .int
  | 5 => .object "ClassGate$Cls"
  | 6 => .int
  | 7 => .array .int
  | 8 => .boolean
  | 9 => .int
  | 10 => .int
  | 11 => .object "java/lang/StringBuilder"
  | _ => .int
abbrev wsX10 : List Cond := u_ws RX1 TX1 13
set_option maxRecDepth 100000 in
theorem nmX1 : ∀ a, a < 13 → ∀ b, b < 13 → a ≠ b → (TX1 a).2.1 ≠ (TX1 b).2.1 := by decide +kernel
set_option maxRecDepth 100000 in
theorem tyX1_ok : ∀ k, k < 13 → parseFieldDescriptor (TX1 k).2.2.1 = some (tyX1 k) := by decide +kernel
abbrev cX1_init : ByteArray := prog_1_method_1_code
def yX1_init : MethodName := ⟨RX1, "<init>", "()V"⟩
abbrev cX1_read : ByteArray := prog_1_method_5_code
def yX1_read : MethodName := ⟨RX1, "read", "()I"⟩
abbrev cX1_structure : ByteArray := prog_1_method_23_code
def yX1_structure : MethodName := ⟨RX1, "structure", "()LClassGate$Cls;"⟩
abbrev cX1_next4 : ByteArray := prog_1_method_22_code
def yX1_next4 : MethodName := ⟨RX1, "next4", "()J"⟩
abbrev cX1_has : ByteArray := prog_1_method_17_code
def yX1_has : MethodName := ⟨RX1, "has", "(J)Z"⟩
abbrev cX1_wrong : ByteArray := prog_1_method_16_code
def yX1_wrong : MethodName := ⟨RX1, "wrong", "(II)Z"⟩
abbrev cX1_u4 : ByteArray := prog_1_method_20_code
def yX1_u4 : MethodName := ⟨RX1, "u4", "(I)I"⟩
abbrev cX1_u2 : ByteArray := prog_1_method_19_code
def yX1_u2 : MethodName := ⟨RX1, "u2", "(I)I"⟩
abbrev cX1_next2 : ByteArray := prog_1_method_21_code
def yX1_next2 : MethodName := ⟨RX1, "next2", "()I"⟩
abbrev cX1_readPool : ByteArray := prog_1_method_25_code
def yX1_readPool : MethodName := ⟨RX1, "readPool", "(LClassGate$Cls;)Z"⟩
abbrev cX1_u1 : ByteArray := prog_1_method_18_code
def yX1_u1 : MethodName := ⟨RX1, "u1", "(I)I"⟩
abbrev cX1_readText : ByteArray := prog_1_method_26_code
def yX1_readText : MethodName := ⟨RX1, "readText", "(LClassGate$Cls;I)Z"⟩
abbrev cX1_passAttributes : ByteArray := prog_1_method_24_code
def yX1_passAttributes : MethodName := ⟨RX1, "passAttributes", "()V"⟩
abbrev cX1_checkPool : ByteArray := prog_1_method_34_code
def yX1_checkPool : MethodName := ⟨RX1, "checkPool", "(LClassGate$Cls;)Z"⟩
abbrev cX1_ruleOfEntry : ByteArray := prog_1_method_35_code
def yX1_ruleOfEntry : MethodName := ⟨RX1, "ruleOfEntry", "(LClassGate$Cls;I)I"⟩
abbrev cX1_textAt : ByteArray := prog_1_method_29_code
def yX1_textAt : MethodName := ⟨RX1, "textAt", "(LClassGate$Cls;I)Ljava/lang/String;"⟩
abbrev cX1_isTag : ByteArray := prog_1_method_27_code
def yX1_isTag : MethodName := ⟨RX1, "isTag", "(LClassGate$Cls;II)Z"⟩
abbrev cX1_isFieldType : ByteArray := prog_1_method_10_code
def yX1_isFieldType : MethodName := ⟨RX1, "isFieldType", "(Ljava/lang/String;)Z"⟩
abbrev cX1_endOfType : ByteArray := prog_1_method_9_code
def yX1_endOfType : MethodName := ⟨RX1, "endOfType", "(Ljava/lang/String;I)I"⟩
abbrev cX1_isName : ByteArray := prog_1_method_8_code
def yX1_isName : MethodName := ⟨RX1, "isName", "(Ljava/lang/String;II)Z"⟩
abbrev cX1_isPlainName : ByteArray := prog_1_method_7_code
def yX1_isPlainName : MethodName := ⟨RX1, "isPlainName", "(Ljava/lang/String;IIZ)Z"⟩
abbrev cX1_isMethodType : ByteArray := prog_1_method_12_code
def yX1_isMethodType : MethodName := ⟨RX1, "isMethodType", "(Ljava/lang/String;)Z"⟩
abbrev cX1_placesOf : ByteArray := prog_1_method_11_code
def yX1_placesOf : MethodName := ⟨RX1, "placesOf", "(Ljava/lang/String;)I"⟩
abbrev cX1_isClass : ByteArray := prog_1_method_38_code
def yX1_isClass : MethodName := ⟨RX1, "isClass", "(LClassGate$Cls;I)Z"⟩
abbrev cX1_isPair : ByteArray := prog_1_method_36_code
def yX1_isPair : MethodName := ⟨RX1, "isPair", "(LClassGate$Cls;I)Z"⟩
abbrev cX1_nameAt : ByteArray := prog_1_method_31_code
def yX1_nameAt : MethodName := ⟨RX1, "nameAt", "(LClassGate$Cls;I)Ljava/lang/String;"⟩
abbrev cX1_typeAt : ByteArray := prog_1_method_32_code
def yX1_typeAt : MethodName := ⟨RX1, "typeAt", "(LClassGate$Cls;I)Ljava/lang/String;"⟩
abbrev cX1_hasAngles : ByteArray := prog_1_method_39_code
def yX1_hasAngles : MethodName := ⟨RX1, "hasAngles", "(Ljava/lang/String;)Z"⟩
abbrev cX1_isWhole : ByteArray := prog_1_method_37_code
def yX1_isWhole : MethodName := ⟨RX1, "isWhole", "(LClassGate$Cls;I)Z"⟩
abbrev cX1_checkHead : ByteArray := prog_1_method_40_code
def yX1_checkHead : MethodName := ⟨RX1, "checkHead", "(LClassGate$Cls;)Z"⟩
abbrev cX1_isArrayClass : ByteArray := prog_1_method_33_code
def yX1_isArrayClass : MethodName := ⟨RX1, "isArrayClass", "(LClassGate$Cls;I)Z"⟩
abbrev cX1_classAt : ByteArray := prog_1_method_30_code
def yX1_classAt : MethodName := ⟨RX1, "classAt", "(LClassGate$Cls;I)Ljava/lang/String;"⟩
abbrev cX1_checkFields : ByteArray := prog_1_method_42_code
def yX1_checkFields : MethodName := ⟨RX1, "checkFields", "(LClassGate$Cls;)Z"⟩
abbrev cX1_isMoreThanOne : ByteArray := prog_1_method_41_code
def yX1_isMoreThanOne : MethodName := ⟨RX1, "isMoreThanOne", "(I)Z"⟩
abbrev cX1_kindAt : ByteArray := prog_1_method_13_code
def yX1_kindAt : MethodName := ⟨RX1, "kindAt", "(Ljava/lang/String;I)I"⟩
abbrev cX1_attributes : ByteArray := prog_1_method_46_code
def yX1_attributes : MethodName := ⟨RX1, "attributes", "(LClassGate$Cls;ILClassGate$Fld;LClassGate$Mth;)Z"⟩
abbrev cX1_known : ByteArray := prog_1_method_45_code
def yX1_known : MethodName := ⟨RX1, "known", "(LClassGate$Cls;ILjava/lang/String;)I"⟩
abbrev cX1_attribute : ByteArray := prog_1_method_49_code
def yX1_attribute : MethodName := ⟨RX1, "attribute", "(LClassGate$Cls;IIIILClassGate$Fld;LClassGate$Mth;)Z"⟩
abbrev cX1_isConstant : ByteArray := prog_1_method_50_code
def yX1_isConstant : MethodName := ⟨RX1, "isConstant", "(LClassGate$Cls;LClassGate$Fld;)Z"⟩
abbrev cX1_code : ByteArray := prog_1_method_55_code
def yX1_code : MethodName := ⟨RX1, "code", "(LClassGate$Cls;LClassGate$Mth;III)Z"⟩
abbrev cX1_endOfAttributes : ByteArray := prog_1_method_51_code
def yX1_endOfAttributes : MethodName := ⟨RX1, "endOfAttributes", "(II)I"⟩
abbrev cX1_isTable : ByteArray := prog_1_method_47_code
def yX1_isTable : MethodName := ⟨RX1, "isTable", "(III)Z"⟩
abbrev cX1_areClasses : ByteArray := prog_1_method_48_code
def yX1_areClasses : MethodName := ⟨RX1, "areClasses", "(LClassGate$Cls;I)Z"⟩
abbrev cX1_boots : ByteArray := prog_1_method_54_code
def yX1_boots : MethodName := ⟨RX1, "boots", "(LClassGate$Cls;III)Z"⟩
abbrev cX1_isLoadable : ByteArray := prog_1_method_53_code
def yX1_isLoadable : MethodName := ⟨RX1, "isLoadable", "(LClassGate$Cls;I)Z"⟩
abbrev cX1_record : ByteArray := prog_1_method_52_code
def yX1_record : MethodName := ⟨RX1, "record", "(LClassGate$Cls;III)Z"⟩
abbrev cX1_checkMethods : ByteArray := prog_1_method_44_code
def yX1_checkMethods : MethodName := ⟨RX1, "checkMethods", "(LClassGate$Cls;)Z"⟩
abbrev cX1_areMethodFlags : ByteArray := prog_1_method_43_code
def yX1_areMethodFlags : MethodName := ⟨RX1, "areMethodFlags", "(LClassGate$Cls;LClassGate$Mth;)Z"⟩
abbrev cX1_describe : ByteArray := prog_1_method_15_code
def yX1_describe : MethodName := ⟨RX1, "describe", "(LClassGate$Mth;)V"⟩
abbrev cX1_isTwo : ByteArray := prog_1_method_14_code
def yX1_isTwo : MethodName := ⟨RX1, "isTwo", "(I)Z"⟩
abbrev cX1_checkRest : ByteArray := prog_1_method_56_code
def yX1_checkRest : MethodName := ⟨RX1, "checkRest", "(LClassGate$Cls;)Z"⟩
abbrev cX1_place : ByteArray := prog_1_method_6_code
def yX1_place : MethodName := ⟨RX1, "place", "()I"⟩
abbrev cX1_bits : ByteArray := prog_1_method_75_code
def yX1_bits : MethodName := ⟨RX1, "bits", "(I)J"⟩
abbrev cX1_isEntry : ByteArray := prog_1_method_73_code
def yX1_isEntry : MethodName := ⟨RX1, "isEntry", "(I)Z"⟩
abbrev cX1_character : ByteArray := prog_1_method_77_code
def yX1_character : MethodName := ⟨RX1, "character", "(II)I"⟩
abbrev cX1_textOf : ByteArray := prog_1_method_76_code
def yX1_textOf : MethodName := ⟨RX1, "textOf", "(I)Ljava/lang/String;"⟩
abbrev cX1_places : ByteArray := prog_1_method_78_code
def yX1_places : MethodName := ⟨RX1, "places", "(I)I"⟩
abbrev cX1_find : ByteArray := prog_1_method_80_code
def yX1_find : MethodName := ⟨RX1, "find", "(ZII)I"⟩
abbrev cX1_bootstrap : ByteArray := prog_1_method_83_code
def yX1_bootstrap : MethodName := ⟨RX1, "bootstrap", "(II)I"⟩
abbrev cX1_cut : ByteArray := prog_1_method_84_code
def yX1_cut : MethodName := ⟨RX1, "cut", "(I)I"⟩
abbrev cX1_methodAt : ByteArray := prog_1_method_81_code
def yX1_methodAt : MethodName := ⟨RX1, "methodAt", "(I)LClassGate$Mth;"⟩
abbrev cX1_cut_2 : ByteArray := prog_1_method_63_code
def yX1_cut_2 : MethodName := ⟨RX1, "cut", "(LClassGate$Cls;LClassGate$Mth;)I"⟩
abbrev cX1_cutOne : ByteArray := prog_1_method_65_code
def yX1_cutOne : MethodName := ⟨RX1, "cutOne", "(LClassGate$Cls;LClassGate$Mth;II[[I)Z"⟩
abbrev cX1_codeU1 : ByteArray := prog_1_method_57_code
def yX1_codeU1 : MethodName := ⟨RX1, "codeU1", "(LClassGate$Mth;I)I"⟩
abbrev cX1_operands : ByteArray := prog_1_method_61_code
def yX1_operands : MethodName := ⟨RX1, "operands", "(I)I"⟩
abbrev cX1_cutWide : ByteArray := prog_1_method_68_code
def yX1_cutWide : MethodName := ⟨RX1, "cutWide", "(LClassGate$Mth;II)Z"⟩
abbrev cX1_isLocalOp : ByteArray := prog_1_method_66_code
def yX1_isLocalOp : MethodName := ⟨RX1, "isLocalOp", "(I)Z"⟩
abbrev cX1_codeU2 : ByteArray := prog_1_method_58_code
def yX1_codeU2 : MethodName := ⟨RX1, "codeU2", "(LClassGate$Mth;I)I"⟩
abbrev cX1_codeS2 : ByteArray := prog_1_method_59_code
def yX1_codeS2 : MethodName := ⟨RX1, "codeS2", "(LClassGate$Mth;I)I"⟩
abbrev cX1_isTwoLocal : ByteArray := prog_1_method_67_code
def yX1_isTwoLocal : MethodName := ⟨RX1, "isTwoLocal", "(I)Z"⟩
abbrev cX1_cutSwitch : ByteArray := prog_1_method_69_code
def yX1_cutSwitch : MethodName := ⟨RX1, "cutSwitch", "(LClassGate$Mth;II[[I)Z"⟩
abbrev cX1_codeS4 : ByteArray := prog_1_method_60_code
def yX1_codeS4 : MethodName := ⟨RX1, "codeS4", "(LClassGate$Mth;I)I"⟩
abbrev cX1_isJump : ByteArray := prog_1_method_62_code
def yX1_isJump : MethodName := ⟨RX1, "isJump", "(I)Z"⟩
abbrev cX1_isGoodEntry : ByteArray := prog_1_method_71_code
def yX1_isGoodEntry : MethodName := ⟨RX1, "isGoodEntry", "(LClassGate$Cls;LClassGate$Mth;III)Z"⟩
abbrev cX1_dimensions : ByteArray := prog_1_method_70_code
def yX1_dimensions : MethodName := ⟨RX1, "dimensions", "(Ljava/lang/String;)I"⟩
abbrev cX1_indexOf : ByteArray := prog_1_method_64_code
def yX1_indexOf : MethodName := ⟨RX1, "indexOf", "(LClassGate$Mth;I)I"⟩
abbrev cX1_jump : ByteArray := prog_1_method_87_code
def yX1_jump : MethodName := ⟨RX1, "jump", "(IIIZ)I"⟩
abbrev cX1_cutAt : ByteArray := prog_1_method_85_code
def yX1_cutAt : MethodName := ⟨RX1, "cutAt", "(II)LClassGate$Mth;"⟩
abbrev cX1_feed : ByteArray := prog_1_method_2_code
def yX1_feed : MethodName := ⟨RX1, "feed", "(IIIII)I"⟩
abbrev cX1_four : ByteArray := prog_1_method_3_code
def yX1_four : MethodName := ⟨RX1, "four", "(I)V"⟩
abbrev cX1_end : ByteArray := prog_1_method_4_code
def yX1_end : MethodName := ⟨RX1, "end", "(I)I"⟩
abbrev cX1_count : ByteArray := prog_1_method_72_code
def yX1_count : MethodName := ⟨RX1, "count", "(I)I"⟩
abbrev cX1_entry : ByteArray := prog_1_method_74_code
def yX1_entry : MethodName := ⟨RX1, "entry", "(II)I"⟩
abbrev cX1_member : ByteArray := prog_1_method_79_code
def yX1_member : MethodName := ⟨RX1, "member", "(ZII)I"⟩
abbrev cX1_row : ByteArray := prog_1_method_82_code
def yX1_row : MethodName := ⟨RX1, "row", "(III)I"⟩
abbrev cX1_instruction : ByteArray := prog_1_method_86_code
def yX1_instruction : MethodName := ⟨RX1, "instruction", "(III)I"⟩
theorem q100 : (Jvm.Cond.initialized "ClassGate") ∈ lw_all := lw_g (lw_at lw_m1 1 rfl) rfl
theorem q123 : (Jvm.Cond.instantiable "ClassGate" (13 : Nat)) ∈ lw_all := lw_g (lw_at lw_m1 24 rfl) rfl
theorem q125 : (Jvm.Cond.instanceMethod ({ cls := "ClassGate", name := "<init>", desc := "()V" } : Jvm.MethodName)) ∈ lw_all := lw_g (lw_at lw_m1 26 rfl) rfl
theorem q126 : (Jvm.Cond.code ({ cls := "ClassGate", name := "<init>", desc := "()V" } : Jvm.MethodName) prog_1_method_1_code (1 : Nat) (Option.none : Option Jvm.ClassFile.FieldType)) ∈ lw_all := lw_g (lw_at lw_m1 27 rfl) rfl
theorem q127 : (Jvm.Cond.methodLink "ClassGate" (1 : Nat) ({ cls := "java/lang/Object", name := "<init>", desc := "()V" } : Jvm.MethodName)) ∈ lw_all := lw_g (lw_at lw_m1 28 rfl) rfl
theorem q130 : (Jvm.Cond.constant "ClassGate" (7 : Nat) (65540 : Int32)) ∈ lw_all := lw_g (lw_at lw_m1 31 rfl) rfl
theorem q131 : (Jvm.Cond.classLink "ClassGate" (21 : Nat) "java/lang/StringBuilder") ∈ lw_all := lw_g (lw_at lw_m1 32 rfl) rfl
theorem q133 : (Jvm.Cond.methodLink "ClassGate" (23 : Nat) ({ cls := "java/lang/StringBuilder", name := "<init>", desc := "()V" } : Jvm.MethodName)) ∈ lw_all := lw_g (lw_at lw_m1 34 rfl) rfl
theorem q164 : (Jvm.Cond.fieldLink "ClassGate" (8 : Nat) "ClassGate" "came" "[B") ∈ lw_all := lw_g (lw_at lw_m1 65 rfl) rfl
theorem q165 : (Jvm.Cond.fieldLink "ClassGate" (28 : Nat) "ClassGate" "cameCount" "I") ∈ lw_all := lw_g (lw_at lw_m1 66 rfl) rfl
theorem q166 : (Jvm.Cond.fieldLink "ClassGate" (14 : Nat) "ClassGate" "file" "[B") ∈ lw_all := lw_g (lw_at lw_m1 67 rfl) rfl
theorem q167 : (Jvm.Cond.fieldLink "ClassGate" (41 : Nat) "ClassGate" "faultRule" "I") ∈ lw_all := lw_g (lw_at lw_m1 68 rfl) rfl
theorem q168 : (Jvm.Cond.fieldLink "ClassGate" (17 : Nat) "ClassGate" "faultPlace" "I") ∈ lw_all := lw_g (lw_at lw_m1 69 rfl) rfl
theorem q169 : (Jvm.Cond.fieldLink "ClassGate" (64 : Nat) "ClassGate" "kept" "LClassGate$Cls;") ∈ lw_all := lw_g (lw_at lw_m1 70 rfl) rfl
theorem q170 : (Jvm.Cond.fieldLink "ClassGate" (124 : Nat) "ClassGate" "at" "I") ∈ lw_all := lw_g (lw_at lw_m1 71 rfl) rfl
theorem q171 : (Jvm.Cond.fieldLink "ClassGate" (204 : Nat) "ClassGate" "tagAt" "[I") ∈ lw_all := lw_g (lw_at lw_m1 72 rfl) rfl
theorem q172 : (Jvm.Cond.fieldLink "ClassGate" (120 : Nat) "ClassGate" "isWrong" "Z") ∈ lw_all := lw_g (lw_at lw_m1 73 rfl) rfl
theorem q173 : (Jvm.Cond.fieldLink "ClassGate" (171 : Nat) "ClassGate" "headAt" "I") ∈ lw_all := lw_g (lw_at lw_m1 74 rfl) rfl
theorem q174 : (Jvm.Cond.fieldLink "ClassGate" (174 : Nat) "ClassGate" "membersAt" "I") ∈ lw_all := lw_g (lw_at lw_m1 75 rfl) rfl
theorem q175 : (Jvm.Cond.fieldLink "ClassGate" (24 : Nat) "ClassGate" "reading" "Ljava/lang/StringBuilder;") ∈ lw_all := lw_g (lw_at lw_m1 76 rfl) rfl
theorem q176 : (Jvm.Cond.fieldLink "ClassGate" (471 : Nat) "ClassGate" "afterInstruction" "I") ∈ lw_all := lw_g (lw_at lw_m1 77 rfl) rfl
theorem q177 : (Jvm.Cond.laysFinal "ClassGate" "ClassGate" "came" "[B") ∈ lw_all := lw_g (lw_at lw_m1 78 rfl) rfl
theorem q178 : (Jvm.Cond.soleField "ClassGate" "came") ∈ lw_all := lw_g (lw_at lw_m1 79 rfl) rfl
theorem q179 : (Jvm.Cond.lays "ClassGate" "ClassGate" "cameCount" "I") ∈ lw_all := lw_g (lw_at lw_m1 80 rfl) rfl
theorem q180 : (Jvm.Cond.soleField "ClassGate" "cameCount") ∈ lw_all := lw_g (lw_at lw_m1 81 rfl) rfl
theorem q181 : (Jvm.Cond.lays "ClassGate" "ClassGate" "file" "[B") ∈ lw_all := lw_g (lw_at lw_m1 82 rfl) rfl
theorem q182 : (Jvm.Cond.soleField "ClassGate" "file") ∈ lw_all := lw_g (lw_at lw_m1 83 rfl) rfl
theorem q183 : (Jvm.Cond.lays "ClassGate" "ClassGate" "faultRule" "I") ∈ lw_all := lw_g (lw_at lw_m1 84 rfl) rfl
theorem q184 : (Jvm.Cond.soleField "ClassGate" "faultRule") ∈ lw_all := lw_g (lw_at lw_m1 85 rfl) rfl
theorem q185 : (Jvm.Cond.lays "ClassGate" "ClassGate" "faultPlace" "I") ∈ lw_all := lw_g (lw_at lw_m1 86 rfl) rfl
theorem q186 : (Jvm.Cond.soleField "ClassGate" "faultPlace") ∈ lw_all := lw_g (lw_at lw_m1 87 rfl) rfl
theorem q187 : (Jvm.Cond.lays "ClassGate" "ClassGate" "kept" "LClassGate$Cls;") ∈ lw_all := lw_g (lw_at lw_m1 88 rfl) rfl
theorem q188 : (Jvm.Cond.soleField "ClassGate" "kept") ∈ lw_all := lw_g (lw_at lw_m1 89 rfl) rfl
theorem q189 : (Jvm.Cond.lays "ClassGate" "ClassGate" "at" "I") ∈ lw_all := lw_g (lw_at lw_m1 90 rfl) rfl
theorem q190 : (Jvm.Cond.soleField "ClassGate" "at") ∈ lw_all := lw_g (lw_at lw_m1 91 rfl) rfl
theorem q191 : (Jvm.Cond.lays "ClassGate" "ClassGate" "tagAt" "[I") ∈ lw_all := lw_g (lw_at lw_m1 92 rfl) rfl
theorem q192 : (Jvm.Cond.soleField "ClassGate" "tagAt") ∈ lw_all := lw_g (lw_at lw_m1 93 rfl) rfl
theorem q193 : (Jvm.Cond.lays "ClassGate" "ClassGate" "isWrong" "Z") ∈ lw_all := lw_g (lw_at lw_m1 94 rfl) rfl
theorem q194 : (Jvm.Cond.soleField "ClassGate" "isWrong") ∈ lw_all := lw_g (lw_at lw_m1 95 rfl) rfl
theorem q195 : (Jvm.Cond.lays "ClassGate" "ClassGate" "headAt" "I") ∈ lw_all := lw_g (lw_at lw_m1 96 rfl) rfl
theorem q196 : (Jvm.Cond.soleField "ClassGate" "headAt") ∈ lw_all := lw_g (lw_at lw_m1 97 rfl) rfl
theorem q197 : (Jvm.Cond.lays "ClassGate" "ClassGate" "membersAt" "I") ∈ lw_all := lw_g (lw_at lw_m1 98 rfl) rfl
theorem q198 : (Jvm.Cond.soleField "ClassGate" "membersAt") ∈ lw_all := lw_g (lw_at lw_m1 99 rfl) rfl
theorem q199 : (Jvm.Cond.laysFinal "ClassGate" "ClassGate" "reading" "Ljava/lang/StringBuilder;") ∈ lw_all := lw_g (lw_at lw_m1 100 rfl) rfl
theorem q200 : (Jvm.Cond.soleField "ClassGate" "reading") ∈ lw_all := lw_g (lw_at lw_m1 101 rfl) rfl
theorem q201 : (Jvm.Cond.lays "ClassGate" "ClassGate" "afterInstruction" "I") ∈ lw_all := lw_g (lw_at lw_m1 102 rfl) rfl
theorem q202 : (Jvm.Cond.soleField "ClassGate" "afterInstruction") ∈ lw_all := lw_g (lw_at lw_m1 103 rfl) rfl
theorem q203 : (Jvm.Cond.superclass "ClassGate" "java/lang/Object") ∈ lw_all := lw_g (lw_at lw_m1 104 rfl) rfl
theorem q205 : (Jvm.Cond.instanceMethod ({ cls := "ClassGate", name := "read", desc := "()I" } : Jvm.MethodName)) ∈ lw_all := lw_g (lw_at lw_m1 106 rfl) rfl
theorem q206 : (Jvm.Cond.selects "ClassGate" ({ cls := "ClassGate", name := "read", desc := "()I" } : Jvm.MethodName) ({ cls := "ClassGate", name := "read", desc := "()I" } : Jvm.MethodName)) ∈ lw_all := lw_g (lw_at lw_m1 107 rfl) rfl
theorem q207 : (Jvm.Cond.code ({ cls := "ClassGate", name := "read", desc := "()I" } : Jvm.MethodName) prog_1_method_5_code (3 : Nat) (Option.some Jvm.ClassFile.FieldType.int)) ∈ lw_all := lw_g (lw_at lw_m1 108 rfl) rfl
theorem q208 : (Jvm.Cond.methodLink "ClassGate" (44 : Nat) ({ cls := "ClassGate", name := "structure", desc := "()LClassGate$Cls;" } : Jvm.MethodName)) ∈ lw_all := lw_g (lw_at lw_m1 109 rfl) rfl
theorem q209 : (Jvm.Cond.privateMethod ({ cls := "ClassGate", name := "structure", desc := "()LClassGate$Cls;" } : Jvm.MethodName)) ∈ lw_tbl := lw_at lw_m1 110 rfl
theorem q210 : (Jvm.Cond.instanceMethod ({ cls := "ClassGate", name := "structure", desc := "()LClassGate$Cls;" } : Jvm.MethodName)) ∈ lw_all := lw_g (lw_at lw_m1 111 rfl) rfl
theorem q211 : (Jvm.Cond.code ({ cls := "ClassGate", name := "structure", desc := "()LClassGate$Cls;" } : Jvm.MethodName) prog_1_method_23_code (8 : Nat) (Option.some (Jvm.ClassFile.FieldType.object "ClassGate$Cls"))) ∈ lw_all := lw_g (lw_at lw_m1 112 rfl) rfl
theorem q212 : (Jvm.Cond.classLink "ClassGate" (147 : Nat) "ClassGate$Cls") ∈ lw_all := lw_g (lw_at lw_m1 113 rfl) rfl
theorem q214 : (Jvm.Cond.methodLinkNest "ClassGate" (149 : Nat) ({ cls := "ClassGate$Cls", name := "<init>", desc := "()V" } : Jvm.MethodName) "ClassGate") ∈ lw_tbl := lw_at lw_m1 115 rfl
theorem q225 : (Jvm.Cond.fieldLink "ClassGate" (271 : Nat) "ClassGate$Cls" "flags" "I") ∈ lw_all := lw_g (lw_at lw_m1 126 rfl) rfl
theorem q226 : (Jvm.Cond.fieldLink "ClassGate" (162 : Nat) "ClassGate$Cls" "major" "I") ∈ lw_all := lw_g (lw_at lw_m1 127 rfl) rfl
theorem q227 : (Jvm.Cond.fieldLink "ClassGate" (159 : Nat) "ClassGate$Cls" "minor" "I") ∈ lw_all := lw_g (lw_at lw_m1 128 rfl) rfl
theorem q228 : (Jvm.Cond.fieldLink "ClassGate" (277 : Nat) "ClassGate$Cls" "self" "I") ∈ lw_all := lw_g (lw_at lw_m1 129 rfl) rfl
theorem q229 : (Jvm.Cond.fieldLink "ClassGate" (281 : Nat) "ClassGate$Cls" "above" "I") ∈ lw_all := lw_g (lw_at lw_m1 130 rfl) rfl
theorem q231 : (Jvm.Cond.fieldLink "ClassGate" (284 : Nat) "ClassGate$Cls" "faces" "[I") ∈ lw_all := lw_g (lw_at lw_m1 132 rfl) rfl
theorem q232 : (Jvm.Cond.fieldLink "ClassGate" (165 : Nat) "ClassGate$Cls" "poolCount" "I") ∈ lw_all := lw_g (lw_at lw_m1 133 rfl) rfl
theorem q233 : (Jvm.Cond.fieldLink "ClassGate" (186 : Nat) "ClassGate$Cls" "tag" "[B") ∈ lw_all := lw_g (lw_at lw_m1 134 rfl) rfl
theorem q234 : (Jvm.Cond.fieldLink "ClassGate" (189 : Nat) "ClassGate$Cls" "pa" "[I") ∈ lw_all := lw_g (lw_at lw_m1 135 rfl) rfl
theorem q235 : (Jvm.Cond.fieldLink "ClassGate" (193 : Nat) "ClassGate$Cls" "pb" "[I") ∈ lw_all := lw_g (lw_at lw_m1 136 rfl) rfl
theorem q236 : (Jvm.Cond.fieldLink "ClassGate" (196 : Nat) "ClassGate$Cls" "pv" "[J") ∈ lw_all := lw_g (lw_at lw_m1 137 rfl) rfl
theorem q237 : (Jvm.Cond.fieldLink "ClassGate" (200 : Nat) "ClassGate$Cls" "text" "[Ljava/lang/String;") ∈ lw_all := lw_g (lw_at lw_m1 138 rfl) rfl
theorem q239 : (Jvm.Cond.fieldLink "ClassGate" (289 : Nat) "ClassGate$Cls" "fields" "[LClassGate$Fld;") ∈ lw_all := lw_g (lw_at lw_m1 140 rfl) rfl
theorem q241 : (Jvm.Cond.fieldLink "ClassGate" (325 : Nat) "ClassGate$Cls" "methods" "[LClassGate$Mth;") ∈ lw_all := lw_g (lw_at lw_m1 142 rfl) rfl
theorem q242 : (Jvm.Cond.fieldLink "ClassGate" (409 : Nat) "ClassGate$Cls" "hasHost" "Z") ∈ lw_all := lw_g (lw_at lw_m1 143 rfl) rfl
theorem q243 : (Jvm.Cond.fieldLink "ClassGate" (406 : Nat) "ClassGate$Cls" "hasMembers" "Z") ∈ lw_all := lw_g (lw_at lw_m1 144 rfl) rfl
theorem q244 : (Jvm.Cond.fieldLink "ClassGate" (412 : Nat) "ClassGate$Cls" "members" "I") ∈ lw_all := lw_g (lw_at lw_m1 145 rfl) rfl
theorem q245 : (Jvm.Cond.fieldLink "ClassGate" (421 : Nat) "ClassGate$Cls" "permitted" "I") ∈ lw_all := lw_g (lw_at lw_m1 146 rfl) rfl
theorem q246 : (Jvm.Cond.fieldLink "ClassGate" (399 : Nat) "ClassGate$Cls" "inner" "I") ∈ lw_all := lw_g (lw_at lw_m1 147 rfl) rfl
theorem q248 : (Jvm.Cond.fieldLink "ClassGate" (428 : Nat) "ClassGate$Cls" "parts" "I") ∈ lw_all := lw_g (lw_at lw_m1 149 rfl) rfl
theorem q249 : (Jvm.Cond.fieldLink "ClassGate" (373 : Nat) "ClassGate$Cls" "known" "I") ∈ lw_all := lw_g (lw_at lw_m1 150 rfl) rfl
theorem q251 : (Jvm.Cond.fieldLink "ClassGate" (432 : Nat) "ClassGate$Cls" "boots" "[[I") ∈ lw_all := lw_g (lw_at lw_m1 152 rfl) rfl
theorem q298 : (Jvm.Cond.methodLink "ClassGate" (150 : Nat) ({ cls := "ClassGate", name := "next4", desc := "()J" } : Jvm.MethodName)) ∈ lw_all := lw_g (lw_at lw_m1 199 rfl) rfl
theorem q299 : (Jvm.Cond.privateMethod ({ cls := "ClassGate", name := "next4", desc := "()J" } : Jvm.MethodName)) ∈ lw_tbl := lw_at lw_m1 200 rfl
theorem q300 : (Jvm.Cond.instanceMethod ({ cls := "ClassGate", name := "next4", desc := "()J" } : Jvm.MethodName)) ∈ lw_all := lw_g (lw_at lw_m1 201 rfl) rfl
theorem q301 : (Jvm.Cond.code ({ cls := "ClassGate", name := "next4", desc := "()J" } : Jvm.MethodName) prog_1_method_22_code (1 : Nat) (Option.some Jvm.ClassFile.FieldType.long)) ∈ lw_all := lw_g (lw_at lw_m1 202 rfl) rfl
theorem q302 : (Jvm.Cond.constantLong "ClassGate" (140 : Nat) (4 : Int64)) ∈ lw_all := lw_g (lw_at lw_m1 203 rfl) rfl
theorem q303 : (Jvm.Cond.methodLink "ClassGate" (136 : Nat) ({ cls := "ClassGate", name := "has", desc := "(J)Z" } : Jvm.MethodName)) ∈ lw_all := lw_g (lw_at lw_m1 204 rfl) rfl
theorem q304 : (Jvm.Cond.privateMethod ({ cls := "ClassGate", name := "has", desc := "(J)Z" } : Jvm.MethodName)) ∈ lw_tbl := lw_at lw_m1 205 rfl
theorem q305 : (Jvm.Cond.instanceMethod ({ cls := "ClassGate", name := "has", desc := "(J)Z" } : Jvm.MethodName)) ∈ lw_all := lw_g (lw_at lw_m1 206 rfl) rfl
theorem q306 : (Jvm.Cond.code ({ cls := "ClassGate", name := "has", desc := "(J)Z" } : Jvm.MethodName) prog_1_method_17_code (3 : Nat) (Option.some Jvm.ClassFile.FieldType.boolean)) ∈ lw_all := lw_g (lw_at lw_m1 207 rfl) rfl
theorem q307 : (Jvm.Cond.methodLink "ClassGate" (127 : Nat) ({ cls := "ClassGate", name := "wrong", desc := "(II)Z" } : Jvm.MethodName)) ∈ lw_all := lw_g (lw_at lw_m1 208 rfl) rfl
theorem q308 : (Jvm.Cond.privateMethod ({ cls := "ClassGate", name := "wrong", desc := "(II)Z" } : Jvm.MethodName)) ∈ lw_tbl := lw_at lw_m1 209 rfl
theorem q309 : (Jvm.Cond.instanceMethod ({ cls := "ClassGate", name := "wrong", desc := "(II)Z" } : Jvm.MethodName)) ∈ lw_all := lw_g (lw_at lw_m1 210 rfl) rfl
theorem q310 : (Jvm.Cond.code ({ cls := "ClassGate", name := "wrong", desc := "(II)Z" } : Jvm.MethodName) prog_1_method_16_code (3 : Nat) (Option.some Jvm.ClassFile.FieldType.boolean)) ∈ lw_all := lw_g (lw_at lw_m1 211 rfl) rfl
theorem q311 : (Jvm.Cond.methodLink "ClassGate" (142 : Nat) ({ cls := "ClassGate", name := "u4", desc := "(I)I" } : Jvm.MethodName)) ∈ lw_all := lw_g (lw_at lw_m1 212 rfl) rfl
theorem q312 : (Jvm.Cond.privateMethod ({ cls := "ClassGate", name := "u4", desc := "(I)I" } : Jvm.MethodName)) ∈ lw_tbl := lw_at lw_m1 213 rfl
theorem q313 : (Jvm.Cond.instanceMethod ({ cls := "ClassGate", name := "u4", desc := "(I)I" } : Jvm.MethodName)) ∈ lw_all := lw_g (lw_at lw_m1 214 rfl) rfl
theorem q314 : (Jvm.Cond.code ({ cls := "ClassGate", name := "u4", desc := "(I)I" } : Jvm.MethodName) prog_1_method_20_code (2 : Nat) (Option.some Jvm.ClassFile.FieldType.int)) ∈ lw_all := lw_g (lw_at lw_m1 215 rfl) rfl
theorem q315 : (Jvm.Cond.methodLink "ClassGate" (131 : Nat) ({ cls := "ClassGate", name := "u2", desc := "(I)I" } : Jvm.MethodName)) ∈ lw_all := lw_g (lw_at lw_m1 216 rfl) rfl
theorem q316 : (Jvm.Cond.privateMethod ({ cls := "ClassGate", name := "u2", desc := "(I)I" } : Jvm.MethodName)) ∈ lw_tbl := lw_at lw_m1 217 rfl
theorem q317 : (Jvm.Cond.instanceMethod ({ cls := "ClassGate", name := "u2", desc := "(I)I" } : Jvm.MethodName)) ∈ lw_all := lw_g (lw_at lw_m1 218 rfl) rfl
theorem q318 : (Jvm.Cond.code ({ cls := "ClassGate", name := "u2", desc := "(I)I" } : Jvm.MethodName) prog_1_method_19_code (2 : Nat) (Option.some Jvm.ClassFile.FieldType.int)) ∈ lw_all := lw_g (lw_at lw_m1 219 rfl) rfl
theorem q319 : (Jvm.Cond.constantLong "ClassGate" (145 : Nat) (4294967295 : Int64)) ∈ lw_all := lw_g (lw_at lw_m1 220 rfl) rfl
theorem q320 : (Jvm.Cond.constantLong "ClassGate" (154 : Nat) (3405691582 : Int64)) ∈ lw_all := lw_g (lw_at lw_m1 221 rfl) rfl
theorem q321 : (Jvm.Cond.methodLink "ClassGate" (156 : Nat) ({ cls := "ClassGate", name := "next2", desc := "()I" } : Jvm.MethodName)) ∈ lw_all := lw_g (lw_at lw_m1 222 rfl) rfl
theorem q322 : (Jvm.Cond.privateMethod ({ cls := "ClassGate", name := "next2", desc := "()I" } : Jvm.MethodName)) ∈ lw_tbl := lw_at lw_m1 223 rfl
theorem q323 : (Jvm.Cond.instanceMethod ({ cls := "ClassGate", name := "next2", desc := "()I" } : Jvm.MethodName)) ∈ lw_all := lw_g (lw_at lw_m1 224 rfl) rfl
theorem q324 : (Jvm.Cond.code ({ cls := "ClassGate", name := "next2", desc := "()I" } : Jvm.MethodName) prog_1_method_21_code (1 : Nat) (Option.some Jvm.ClassFile.FieldType.int)) ∈ lw_all := lw_g (lw_at lw_m1 225 rfl) rfl
theorem q325 : (Jvm.Cond.constantLong "ClassGate" (134 : Nat) (2 : Int64)) ∈ lw_all := lw_g (lw_at lw_m1 226 rfl) rfl
theorem q326 : (Jvm.Cond.methodLink "ClassGate" (168 : Nat) ({ cls := "ClassGate", name := "readPool", desc := "(LClassGate$Cls;)Z" } : Jvm.MethodName)) ∈ lw_all := lw_g (lw_at lw_m1 227 rfl) rfl
theorem q327 : (Jvm.Cond.privateMethod ({ cls := "ClassGate", name := "readPool", desc := "(LClassGate$Cls;)Z" } : Jvm.MethodName)) ∈ lw_tbl := lw_at lw_m1 228 rfl
theorem q328 : (Jvm.Cond.instanceMethod ({ cls := "ClassGate", name := "readPool", desc := "(LClassGate$Cls;)Z" } : Jvm.MethodName)) ∈ lw_all := lw_g (lw_at lw_m1 229 rfl) rfl
theorem q329 : (Jvm.Cond.code ({ cls := "ClassGate", name := "readPool", desc := "(LClassGate$Cls;)Z" } : Jvm.MethodName) prog_1_method_25_code (12 : Nat) (Option.some Jvm.ClassFile.FieldType.boolean)) ∈ lw_all := lw_g (lw_at lw_m1 230 rfl) rfl
theorem q330 : (Jvm.Cond.methodLink "ClassGate" (180 : Nat) ({ cls := "java/lang/Math", name := "min", desc := "(II)I" } : Jvm.MethodName)) ∈ lw_all := lw_g (lw_at lw_m1 231 rfl) rfl
theorem q333 : (Jvm.Cond.classLink "ClassGate" (69 : Nat) "java/lang/String") ∈ lw_all := lw_g (lw_at lw_m1 234 rfl) rfl
theorem q335 : (Jvm.Cond.methodLink "ClassGate" (207 : Nat) ({ cls := "ClassGate", name := "u1", desc := "(I)I" } : Jvm.MethodName)) ∈ lw_all := lw_g (lw_at lw_m1 236 rfl) rfl
theorem q336 : (Jvm.Cond.privateMethod ({ cls := "ClassGate", name := "u1", desc := "(I)I" } : Jvm.MethodName)) ∈ lw_tbl := lw_at lw_m1 237 rfl
theorem q337 : (Jvm.Cond.instanceMethod ({ cls := "ClassGate", name := "u1", desc := "(I)I" } : Jvm.MethodName)) ∈ lw_all := lw_g (lw_at lw_m1 238 rfl) rfl
theorem q338 : (Jvm.Cond.code ({ cls := "ClassGate", name := "u1", desc := "(I)I" } : Jvm.MethodName) prog_1_method_18_code (2 : Nat) (Option.some Jvm.ClassFile.FieldType.int)) ∈ lw_all := lw_g (lw_at lw_m1 239 rfl) rfl
theorem q339 : (Jvm.Cond.methodLink "ClassGate" (210 : Nat) ({ cls := "ClassGate", name := "readText", desc := "(LClassGate$Cls;I)Z" } : Jvm.MethodName)) ∈ lw_all := lw_g (lw_at lw_m2 0 rfl) rfl
theorem q340 : (Jvm.Cond.privateMethod ({ cls := "ClassGate", name := "readText", desc := "(LClassGate$Cls;I)Z" } : Jvm.MethodName)) ∈ lw_tbl := lw_at lw_m2 1 rfl
theorem q341 : (Jvm.Cond.instanceMethod ({ cls := "ClassGate", name := "readText", desc := "(LClassGate$Cls;I)Z" } : Jvm.MethodName)) ∈ lw_all := lw_g (lw_at lw_m2 2 rfl) rfl
theorem q342 : (Jvm.Cond.code ({ cls := "ClassGate", name := "readText", desc := "(LClassGate$Cls;I)Z" } : Jvm.MethodName) prog_1_method_26_code (11 : Nat) (Option.some Jvm.ClassFile.FieldType.boolean)) ∈ lw_all := lw_g (lw_at lw_m2 3 rfl) rfl
theorem q343 : (Jvm.Cond.methodLink "ClassGate" (214 : Nat) ({ cls := "java/lang/StringBuilder", name := "setLength", desc := "(I)V" } : Jvm.MethodName)) ∈ lw_all := lw_g (lw_at lw_m2 4 rfl) rfl
theorem q638 : (Jvm.Cond.methodLink "ClassGate" (217 : Nat) ({ cls := "java/lang/StringBuilder", name := "append", desc := "(C)Ljava/lang/StringBuilder;" } : Jvm.MethodName)) ∈ lw_all := lw_g (lw_at lw_m3 59 rfl) rfl
theorem q660 : (Jvm.Cond.methodLink "ClassGate" (221 : Nat) ({ cls := "java/lang/StringBuilder", name := "toString", desc := "()Ljava/lang/String;" } : Jvm.MethodName)) ∈ lw_all := lw_g (lw_at lw_m3 81 rfl) rfl
theorem q661 : (Jvm.Cond.methodLink "ClassGate" (177 : Nat) ({ cls := "ClassGate", name := "passAttributes", desc := "()V" } : Jvm.MethodName)) ∈ lw_all := lw_g (lw_at lw_m3 82 rfl) rfl
theorem q662 : (Jvm.Cond.privateMethod ({ cls := "ClassGate", name := "passAttributes", desc := "()V" } : Jvm.MethodName)) ∈ lw_tbl := lw_at lw_m3 83 rfl
theorem q663 : (Jvm.Cond.instanceMethod ({ cls := "ClassGate", name := "passAttributes", desc := "()V" } : Jvm.MethodName)) ∈ lw_all := lw_g (lw_at lw_m3 84 rfl) rfl
theorem q664 : (Jvm.Cond.code ({ cls := "ClassGate", name := "passAttributes", desc := "()V" } : Jvm.MethodName) prog_1_method_24_code (5 : Nat) (Option.none : Option Jvm.ClassFile.FieldType)) ∈ lw_all := lw_g (lw_at lw_m3 85 rfl) rfl
theorem q665 : (Jvm.Cond.methodLink "ClassGate" (48 : Nat) ({ cls := "ClassGate", name := "checkPool", desc := "(LClassGate$Cls;)Z" } : Jvm.MethodName)) ∈ lw_all := lw_g (lw_at lw_m3 86 rfl) rfl
theorem q666 : (Jvm.Cond.privateMethod ({ cls := "ClassGate", name := "checkPool", desc := "(LClassGate$Cls;)Z" } : Jvm.MethodName)) ∈ lw_tbl := lw_at lw_m3 87 rfl
theorem q667 : (Jvm.Cond.instanceMethod ({ cls := "ClassGate", name := "checkPool", desc := "(LClassGate$Cls;)Z" } : Jvm.MethodName)) ∈ lw_all := lw_g (lw_at lw_m3 88 rfl) rfl
theorem q668 : (Jvm.Cond.code ({ cls := "ClassGate", name := "checkPool", desc := "(LClassGate$Cls;)Z" } : Jvm.MethodName) prog_1_method_34_code (4 : Nat) (Option.some Jvm.ClassFile.FieldType.boolean)) ∈ lw_all := lw_g (lw_at lw_m3 89 rfl) rfl
theorem q669 : (Jvm.Cond.methodLink "ClassGate" (233 : Nat) ({ cls := "ClassGate", name := "ruleOfEntry", desc := "(LClassGate$Cls;I)I" } : Jvm.MethodName)) ∈ lw_all := lw_g (lw_at lw_m3 90 rfl) rfl
theorem q670 : (Jvm.Cond.static ({ cls := "ClassGate", name := "ruleOfEntry", desc := "(LClassGate$Cls;I)I" } : Jvm.MethodName)) ∈ lw_all := lw_g (lw_at lw_m3 91 rfl) rfl
theorem q671 : (Jvm.Cond.code ({ cls := "ClassGate", name := "ruleOfEntry", desc := "(LClassGate$Cls;I)I" } : Jvm.MethodName) prog_1_method_35_code (8 : Nat) (Option.some Jvm.ClassFile.FieldType.int)) ∈ lw_all := lw_g (lw_at lw_m3 92 rfl) rfl
theorem q672 : (Jvm.Cond.methodLink "ClassGate" (237 : Nat) ({ cls := "ClassGate", name := "textAt", desc := "(LClassGate$Cls;I)Ljava/lang/String;" } : Jvm.MethodName)) ∈ lw_all := lw_g (lw_at lw_m3 93 rfl) rfl
theorem q673 : (Jvm.Cond.static ({ cls := "ClassGate", name := "textAt", desc := "(LClassGate$Cls;I)Ljava/lang/String;" } : Jvm.MethodName)) ∈ lw_all := lw_g (lw_at lw_m3 94 rfl) rfl
theorem q674 : (Jvm.Cond.code ({ cls := "ClassGate", name := "textAt", desc := "(LClassGate$Cls;I)Ljava/lang/String;" } : Jvm.MethodName) prog_1_method_29_code (2 : Nat) (Option.some (Jvm.ClassFile.FieldType.object "java/lang/String"))) ∈ lw_all := lw_g (lw_at lw_m3 95 rfl) rfl
theorem q675 : (Jvm.Cond.methodLink "ClassGate" (225 : Nat) ({ cls := "ClassGate", name := "isTag", desc := "(LClassGate$Cls;II)Z" } : Jvm.MethodName)) ∈ lw_all := lw_g (lw_at lw_m3 96 rfl) rfl
theorem q676 : (Jvm.Cond.static ({ cls := "ClassGate", name := "isTag", desc := "(LClassGate$Cls;II)Z" } : Jvm.MethodName)) ∈ lw_all := lw_g (lw_at lw_m3 97 rfl) rfl
theorem q677 : (Jvm.Cond.code ({ cls := "ClassGate", name := "isTag", desc := "(LClassGate$Cls;II)Z" } : Jvm.MethodName) prog_1_method_27_code (3 : Nat) (Option.some Jvm.ClassFile.FieldType.boolean)) ∈ lw_all := lw_g (lw_at lw_m3 98 rfl) rfl
theorem q678 : (Jvm.Cond.methodLink "ClassGate" (78 : Nat) ({ cls := "java/lang/String", name := "length", desc := "()I" } : Jvm.MethodName)) ∈ lw_all := lw_g (lw_at lw_m3 99 rfl) rfl
theorem q679 : (Jvm.Cond.methodLink "ClassGate" (68 : Nat) ({ cls := "java/lang/String", name := "charAt", desc := "(I)C" } : Jvm.MethodName)) ∈ lw_all := lw_g (lw_at lw_m3 100 rfl) rfl
theorem q694 : (Jvm.Cond.methodLink "ClassGate" (240 : Nat) ({ cls := "ClassGate", name := "isFieldType", desc := "(Ljava/lang/String;)Z" } : Jvm.MethodName)) ∈ lw_all := lw_g (lw_at lw_m3 115 rfl) rfl
theorem q695 : (Jvm.Cond.static ({ cls := "ClassGate", name := "isFieldType", desc := "(Ljava/lang/String;)Z" } : Jvm.MethodName)) ∈ lw_all := lw_g (lw_at lw_m3 116 rfl) rfl
theorem q696 : (Jvm.Cond.code ({ cls := "ClassGate", name := "isFieldType", desc := "(Ljava/lang/String;)Z" } : Jvm.MethodName) prog_1_method_10_code (1 : Nat) (Option.some Jvm.ClassFile.FieldType.boolean)) ∈ lw_all := lw_g (lw_at lw_m3 117 rfl) rfl
theorem q697 : (Jvm.Cond.methodLink "ClassGate" (92 : Nat) ({ cls := "ClassGate", name := "endOfType", desc := "(Ljava/lang/String;I)I" } : Jvm.MethodName)) ∈ lw_all := lw_g (lw_at lw_m3 118 rfl) rfl
theorem q698 : (Jvm.Cond.static ({ cls := "ClassGate", name := "endOfType", desc := "(Ljava/lang/String;I)I" } : Jvm.MethodName)) ∈ lw_all := lw_g (lw_at lw_m3 119 rfl) rfl
theorem q699 : (Jvm.Cond.code ({ cls := "ClassGate", name := "endOfType", desc := "(Ljava/lang/String;I)I" } : Jvm.MethodName) prog_1_method_9_code (5 : Nat) (Option.some Jvm.ClassFile.FieldType.int)) ∈ lw_all := lw_g (lw_at lw_m3 120 rfl) rfl
theorem q700 : (Jvm.Cond.stringRef "ClassGate" (82 : Nat) "ZCFDBSIJ") ∈ lw_tbl := lw_at lw_m3 121 rfl
theorem q701 : (Jvm.Cond.methodLink "ClassGate" (84 : Nat) ({ cls := "java/lang/String", name := "indexOf", desc := "(I)I" } : Jvm.MethodName)) ∈ lw_all := lw_g (lw_at lw_m3 122 rfl) rfl
theorem q747 : (Jvm.Cond.methodLink "ClassGate" (88 : Nat) ({ cls := "ClassGate", name := "isName", desc := "(Ljava/lang/String;II)Z" } : Jvm.MethodName)) ∈ lw_all := lw_g (lw_at lw_m3 168 rfl) rfl
theorem q748 : (Jvm.Cond.static ({ cls := "ClassGate", name := "isName", desc := "(Ljava/lang/String;II)Z" } : Jvm.MethodName)) ∈ lw_all := lw_g (lw_at lw_m3 169 rfl) rfl
theorem q749 : (Jvm.Cond.code ({ cls := "ClassGate", name := "isName", desc := "(Ljava/lang/String;II)Z" } : Jvm.MethodName) prog_1_method_8_code (5 : Nat) (Option.some Jvm.ClassFile.FieldType.boolean)) ∈ lw_all := lw_g (lw_at lw_m3 170 rfl) rfl
theorem q750 : (Jvm.Cond.methodLink "ClassGate" (74 : Nat) ({ cls := "ClassGate", name := "isPlainName", desc := "(Ljava/lang/String;IIZ)Z" } : Jvm.MethodName)) ∈ lw_all := lw_g (lw_at lw_m3 171 rfl) rfl
theorem q751 : (Jvm.Cond.static ({ cls := "ClassGate", name := "isPlainName", desc := "(Ljava/lang/String;IIZ)Z" } : Jvm.MethodName)) ∈ lw_all := lw_g (lw_at lw_m3 172 rfl) rfl
theorem q752 : (Jvm.Cond.code ({ cls := "ClassGate", name := "isPlainName", desc := "(Ljava/lang/String;IIZ)Z" } : Jvm.MethodName) prog_1_method_7_code (6 : Nat) (Option.some Jvm.ClassFile.FieldType.boolean)) ∈ lw_all := lw_g (lw_at lw_m3 173 rfl) rfl
theorem q753 : (Jvm.Cond.methodLink "ClassGate" (244 : Nat) ({ cls := "ClassGate", name := "isMethodType", desc := "(Ljava/lang/String;)Z" } : Jvm.MethodName)) ∈ lw_all := lw_g (lw_at lw_m3 174 rfl) rfl
theorem q754 : (Jvm.Cond.static ({ cls := "ClassGate", name := "isMethodType", desc := "(Ljava/lang/String;)Z" } : Jvm.MethodName)) ∈ lw_all := lw_g (lw_at lw_m3 175 rfl) rfl
theorem q755 : (Jvm.Cond.code ({ cls := "ClassGate", name := "isMethodType", desc := "(Ljava/lang/String;)Z" } : Jvm.MethodName) prog_1_method_12_code (1 : Nat) (Option.some Jvm.ClassFile.FieldType.boolean)) ∈ lw_all := lw_g (lw_at lw_m3 176 rfl) rfl
theorem q756 : (Jvm.Cond.methodLink "ClassGate" (96 : Nat) ({ cls := "ClassGate", name := "placesOf", desc := "(Ljava/lang/String;)I" } : Jvm.MethodName)) ∈ lw_all := lw_g (lw_at lw_m3 177 rfl) rfl
theorem q757 : (Jvm.Cond.static ({ cls := "ClassGate", name := "placesOf", desc := "(Ljava/lang/String;)I" } : Jvm.MethodName)) ∈ lw_all := lw_g (lw_at lw_m3 178 rfl) rfl
theorem q758 : (Jvm.Cond.code ({ cls := "ClassGate", name := "placesOf", desc := "(Ljava/lang/String;)I" } : Jvm.MethodName) prog_1_method_11_code (4 : Nat) (Option.some Jvm.ClassFile.FieldType.int)) ∈ lw_all := lw_g (lw_at lw_m3 179 rfl) rfl
theorem q759 : (Jvm.Cond.methodLink "ClassGate" (247 : Nat) ({ cls := "ClassGate", name := "isClass", desc := "(LClassGate$Cls;I)Z" } : Jvm.MethodName)) ∈ lw_all := lw_g (lw_at lw_m3 180 rfl) rfl
theorem q760 : (Jvm.Cond.static ({ cls := "ClassGate", name := "isClass", desc := "(LClassGate$Cls;I)Z" } : Jvm.MethodName)) ∈ lw_all := lw_g (lw_at lw_m3 181 rfl) rfl
theorem q761 : (Jvm.Cond.code ({ cls := "ClassGate", name := "isClass", desc := "(LClassGate$Cls;I)Z" } : Jvm.MethodName) prog_1_method_38_code (2 : Nat) (Option.some Jvm.ClassFile.FieldType.boolean)) ∈ lw_all := lw_g (lw_at lw_m3 182 rfl) rfl
theorem q762 : (Jvm.Cond.methodLink "ClassGate" (250 : Nat) ({ cls := "ClassGate", name := "isPair", desc := "(LClassGate$Cls;I)Z" } : Jvm.MethodName)) ∈ lw_all := lw_g (lw_at lw_m3 183 rfl) rfl
theorem q763 : (Jvm.Cond.static ({ cls := "ClassGate", name := "isPair", desc := "(LClassGate$Cls;I)Z" } : Jvm.MethodName)) ∈ lw_all := lw_g (lw_at lw_m3 184 rfl) rfl
theorem q764 : (Jvm.Cond.code ({ cls := "ClassGate", name := "isPair", desc := "(LClassGate$Cls;I)Z" } : Jvm.MethodName) prog_1_method_36_code (2 : Nat) (Option.some Jvm.ClassFile.FieldType.boolean)) ∈ lw_all := lw_g (lw_at lw_m3 185 rfl) rfl
theorem q765 : (Jvm.Cond.methodLink "ClassGate" (253 : Nat) ({ cls := "ClassGate", name := "nameAt", desc := "(LClassGate$Cls;I)Ljava/lang/String;" } : Jvm.MethodName)) ∈ lw_all := lw_g (lw_at lw_m3 186 rfl) rfl
theorem q766 : (Jvm.Cond.static ({ cls := "ClassGate", name := "nameAt", desc := "(LClassGate$Cls;I)Ljava/lang/String;" } : Jvm.MethodName)) ∈ lw_all := lw_g (lw_at lw_m3 187 rfl) rfl
theorem q767 : (Jvm.Cond.code ({ cls := "ClassGate", name := "nameAt", desc := "(LClassGate$Cls;I)Ljava/lang/String;" } : Jvm.MethodName) prog_1_method_31_code (2 : Nat) (Option.some (Jvm.ClassFile.FieldType.object "java/lang/String"))) ∈ lw_all := lw_g (lw_at lw_m3 188 rfl) rfl
theorem q768 : (Jvm.Cond.methodLink "ClassGate" (256 : Nat) ({ cls := "ClassGate", name := "typeAt", desc := "(LClassGate$Cls;I)Ljava/lang/String;" } : Jvm.MethodName)) ∈ lw_all := lw_g (lw_at lw_m3 189 rfl) rfl
theorem q769 : (Jvm.Cond.static ({ cls := "ClassGate", name := "typeAt", desc := "(LClassGate$Cls;I)Ljava/lang/String;" } : Jvm.MethodName)) ∈ lw_all := lw_g (lw_at lw_m3 190 rfl) rfl
theorem q770 : (Jvm.Cond.code ({ cls := "ClassGate", name := "typeAt", desc := "(LClassGate$Cls;I)Ljava/lang/String;" } : Jvm.MethodName) prog_1_method_32_code (2 : Nat) (Option.some (Jvm.ClassFile.FieldType.object "java/lang/String"))) ∈ lw_all := lw_g (lw_at lw_m3 191 rfl) rfl
theorem q771 : (Jvm.Cond.stringRef "ClassGate" (259 : Nat) "<init>") ∈ lw_tbl := lw_at lw_m3 192 rfl
theorem q772 : (Jvm.Cond.methodLink "ClassGate" (260 : Nat) ({ cls := "java/lang/String", name := "equals", desc := "(Ljava/lang/Object;)Z" } : Jvm.MethodName)) ∈ lw_all := lw_g (lw_at lw_m3 193 rfl) rfl
theorem q780 : (Jvm.Cond.methodLink "ClassGate" (264 : Nat) ({ cls := "ClassGate", name := "hasAngles", desc := "(Ljava/lang/String;)Z" } : Jvm.MethodName)) ∈ lw_all := lw_g (lw_at lw_m3 201 rfl) rfl
theorem q781 : (Jvm.Cond.static ({ cls := "ClassGate", name := "hasAngles", desc := "(Ljava/lang/String;)Z" } : Jvm.MethodName)) ∈ lw_all := lw_g (lw_at lw_m3 202 rfl) rfl
theorem q782 : (Jvm.Cond.code ({ cls := "ClassGate", name := "hasAngles", desc := "(Ljava/lang/String;)Z" } : Jvm.MethodName) prog_1_method_39_code (1 : Nat) (Option.some Jvm.ClassFile.FieldType.boolean)) ∈ lw_all := lw_g (lw_at lw_m3 203 rfl) rfl
theorem q783 : (Jvm.Cond.methodLink "ClassGate" (267 : Nat) ({ cls := "ClassGate", name := "isWhole", desc := "(LClassGate$Cls;I)Z" } : Jvm.MethodName)) ∈ lw_all := lw_g (lw_at lw_m3 204 rfl) rfl
theorem q784 : (Jvm.Cond.static ({ cls := "ClassGate", name := "isWhole", desc := "(LClassGate$Cls;I)Z" } : Jvm.MethodName)) ∈ lw_all := lw_g (lw_at lw_m3 205 rfl) rfl
theorem q785 : (Jvm.Cond.code ({ cls := "ClassGate", name := "isWhole", desc := "(LClassGate$Cls;I)Z" } : Jvm.MethodName) prog_1_method_37_code (2 : Nat) (Option.some Jvm.ClassFile.FieldType.boolean)) ∈ lw_all := lw_g (lw_at lw_m3 206 rfl) rfl
theorem q786 : (Jvm.Cond.methodLink "ClassGate" (52 : Nat) ({ cls := "ClassGate", name := "checkHead", desc := "(LClassGate$Cls;)Z" } : Jvm.MethodName)) ∈ lw_all := lw_g (lw_at lw_m3 207 rfl) rfl
theorem q787 : (Jvm.Cond.privateMethod ({ cls := "ClassGate", name := "checkHead", desc := "(LClassGate$Cls;)Z" } : Jvm.MethodName)) ∈ lw_tbl := lw_at lw_m3 208 rfl
theorem q788 : (Jvm.Cond.instanceMethod ({ cls := "ClassGate", name := "checkHead", desc := "(LClassGate$Cls;)Z" } : Jvm.MethodName)) ∈ lw_all := lw_g (lw_at lw_m3 209 rfl) rfl
theorem q789 : (Jvm.Cond.code ({ cls := "ClassGate", name := "checkHead", desc := "(LClassGate$Cls;)Z" } : Jvm.MethodName) prog_1_method_40_code (11 : Nat) (Option.some Jvm.ClassFile.FieldType.boolean)) ∈ lw_all := lw_g (lw_at lw_m3 210 rfl) rfl
theorem q790 : (Jvm.Cond.constant "ClassGate" (270 : Nat) (32768 : Int32)) ∈ lw_all := lw_g (lw_at lw_m3 211 rfl) rfl
theorem q791 : (Jvm.Cond.methodLink "ClassGate" (274 : Nat) ({ cls := "ClassGate", name := "isArrayClass", desc := "(LClassGate$Cls;I)Z" } : Jvm.MethodName)) ∈ lw_all := lw_g (lw_at lw_m3 212 rfl) rfl
theorem q792 : (Jvm.Cond.static ({ cls := "ClassGate", name := "isArrayClass", desc := "(LClassGate$Cls;I)Z" } : Jvm.MethodName)) ∈ lw_all := lw_g (lw_at lw_m3 213 rfl) rfl
theorem q793 : (Jvm.Cond.code ({ cls := "ClassGate", name := "isArrayClass", desc := "(LClassGate$Cls;I)Z" } : Jvm.MethodName) prog_1_method_33_code (2 : Nat) (Option.some Jvm.ClassFile.FieldType.boolean)) ∈ lw_all := lw_g (lw_at lw_m3 214 rfl) rfl
theorem q794 : (Jvm.Cond.methodLink "ClassGate" (229 : Nat) ({ cls := "ClassGate", name := "classAt", desc := "(LClassGate$Cls;I)Ljava/lang/String;" } : Jvm.MethodName)) ∈ lw_all := lw_g (lw_at lw_m3 215 rfl) rfl
theorem q795 : (Jvm.Cond.static ({ cls := "ClassGate", name := "classAt", desc := "(LClassGate$Cls;I)Ljava/lang/String;" } : Jvm.MethodName)) ∈ lw_all := lw_g (lw_at lw_m3 216 rfl) rfl
theorem q796 : (Jvm.Cond.code ({ cls := "ClassGate", name := "classAt", desc := "(LClassGate$Cls;I)Ljava/lang/String;" } : Jvm.MethodName) prog_1_method_30_code (2 : Nat) (Option.some (Jvm.ClassFile.FieldType.object "java/lang/String"))) ∈ lw_all := lw_g (lw_at lw_m3 217 rfl) rfl
theorem q797 : (Jvm.Cond.stringRef "ClassGate" (280 : Nat) "java/lang/Object") ∈ lw_tbl := lw_at lw_m3 218 rfl
theorem q798 : (Jvm.Cond.methodLink "ClassGate" (55 : Nat) ({ cls := "ClassGate", name := "checkFields", desc := "(LClassGate$Cls;)Z" } : Jvm.MethodName)) ∈ lw_all := lw_g (lw_at lw_m3 219 rfl) rfl
theorem q799 : (Jvm.Cond.privateMethod ({ cls := "ClassGate", name := "checkFields", desc := "(LClassGate$Cls;)Z" } : Jvm.MethodName)) ∈ lw_tbl := lw_at lw_m3 220 rfl
theorem q800 : (Jvm.Cond.instanceMethod ({ cls := "ClassGate", name := "checkFields", desc := "(LClassGate$Cls;)Z" } : Jvm.MethodName)) ∈ lw_all := lw_g (lw_at lw_m3 221 rfl) rfl
theorem q801 : (Jvm.Cond.code ({ cls := "ClassGate", name := "checkFields", desc := "(LClassGate$Cls;)Z" } : Jvm.MethodName) prog_1_method_42_code (8 : Nat) (Option.some Jvm.ClassFile.FieldType.boolean)) ∈ lw_all := lw_g (lw_at lw_m3 222 rfl) rfl
theorem q802 : (Jvm.Cond.classLink "ClassGate" (287 : Nat) "ClassGate$Fld") ∈ lw_all := lw_g (lw_at lw_m3 223 rfl) rfl
theorem q804 : (Jvm.Cond.methodLinkNest "ClassGate" (293 : Nat) ({ cls := "ClassGate$Fld", name := "<init>", desc := "()V" } : Jvm.MethodName) "ClassGate") ∈ lw_tbl := lw_at lw_m3 225 rfl
theorem q808 : (Jvm.Cond.fieldLink "ClassGate" (307 : Nat) "ClassGate$Fld" "name" "Ljava/lang/String;") ∈ lw_all := lw_g (lw_at lw_m3 229 rfl) rfl
theorem q809 : (Jvm.Cond.fieldLink "ClassGate" (310 : Nat) "ClassGate$Fld" "desc" "Ljava/lang/String;") ∈ lw_all := lw_g (lw_at lw_m3 230 rfl) rfl
theorem q810 : (Jvm.Cond.fieldLink "ClassGate" (301 : Nat) "ClassGate$Fld" "nameEntry" "I") ∈ lw_all := lw_g (lw_at lw_m3 231 rfl) rfl
theorem q811 : (Jvm.Cond.fieldLink "ClassGate" (304 : Nat) "ClassGate$Fld" "descEntry" "I") ∈ lw_all := lw_g (lw_at lw_m3 232 rfl) rfl
theorem q812 : (Jvm.Cond.fieldLink "ClassGate" (294 : Nat) "ClassGate$Fld" "flags" "I") ∈ lw_all := lw_g (lw_at lw_m3 233 rfl) rfl
theorem q813 : (Jvm.Cond.fieldLink "ClassGate" (378 : Nat) "ClassGate$Fld" "constant" "I") ∈ lw_all := lw_g (lw_at lw_m3 234 rfl) rfl
theorem q814 : (Jvm.Cond.fieldLink "ClassGate" (311 : Nat) "ClassGate$Fld" "kind" "I") ∈ lw_all := lw_g (lw_at lw_m3 235 rfl) rfl
theorem q815 : (Jvm.Cond.fieldLink "ClassGate" (370 : Nat) "ClassGate$Fld" "known" "I") ∈ lw_all := lw_g (lw_at lw_m3 236 rfl) rfl
theorem q833 : (Jvm.Cond.methodLink "ClassGate" (295 : Nat) ({ cls := "ClassGate", name := "isMoreThanOne", desc := "(I)Z" } : Jvm.MethodName)) ∈ lw_all := lw_g (lw_at lw_m4 14 rfl) rfl
theorem q834 : (Jvm.Cond.static ({ cls := "ClassGate", name := "isMoreThanOne", desc := "(I)Z" } : Jvm.MethodName)) ∈ lw_all := lw_g (lw_at lw_m4 15 rfl) rfl
theorem q835 : (Jvm.Cond.code ({ cls := "ClassGate", name := "isMoreThanOne", desc := "(I)Z" } : Jvm.MethodName) prog_1_method_41_code (1 : Nat) (Option.some Jvm.ClassFile.FieldType.boolean)) ∈ lw_all := lw_g (lw_at lw_m4 16 rfl) rfl
theorem q836 : (Jvm.Cond.methodLink "ClassGate" (298 : Nat) ({ cls := "ClassGate$Cls", name := "isFace", desc := "()Z" } : Jvm.MethodName)) ∈ lw_all := lw_g (lw_at lw_m4 17 rfl) rfl
theorem q840 : (Jvm.Cond.methodLink "ClassGate" (113 : Nat) ({ cls := "ClassGate", name := "kindAt", desc := "(Ljava/lang/String;I)I" } : Jvm.MethodName)) ∈ lw_all := lw_g (lw_at lw_m4 21 rfl) rfl
theorem q841 : (Jvm.Cond.static ({ cls := "ClassGate", name := "kindAt", desc := "(Ljava/lang/String;I)I" } : Jvm.MethodName)) ∈ lw_all := lw_g (lw_at lw_m4 22 rfl) rfl
theorem q842 : (Jvm.Cond.code ({ cls := "ClassGate", name := "kindAt", desc := "(Ljava/lang/String;I)I" } : Jvm.MethodName) prog_1_method_13_code (4 : Nat) (Option.some Jvm.ClassFile.FieldType.int)) ∈ lw_all := lw_g (lw_at lw_m4 23 rfl) rfl
theorem q843 : (Jvm.Cond.methodLink "ClassGate" (314 : Nat) ({ cls := "ClassGate", name := "attributes", desc := "(LClassGate$Cls;ILClassGate$Fld;LClassGate$Mth;)Z" } : Jvm.MethodName)) ∈ lw_all := lw_g (lw_at lw_m4 24 rfl) rfl
theorem q844 : (Jvm.Cond.privateMethod ({ cls := "ClassGate", name := "attributes", desc := "(LClassGate$Cls;ILClassGate$Fld;LClassGate$Mth;)Z" } : Jvm.MethodName)) ∈ lw_tbl := lw_at lw_m4 25 rfl
theorem q845 : (Jvm.Cond.instanceMethod ({ cls := "ClassGate", name := "attributes", desc := "(LClassGate$Cls;ILClassGate$Fld;LClassGate$Mth;)Z" } : Jvm.MethodName)) ∈ lw_all := lw_g (lw_at lw_m4 26 rfl) rfl
theorem q846 : (Jvm.Cond.code ({ cls := "ClassGate", name := "attributes", desc := "(LClassGate$Cls;ILClassGate$Fld;LClassGate$Mth;)Z" } : Jvm.MethodName) prog_1_method_46_code (12 : Nat) (Option.some Jvm.ClassFile.FieldType.boolean)) ∈ lw_all := lw_g (lw_at lw_m4 27 rfl) rfl
theorem q847 : (Jvm.Cond.methodLink "ClassGate" (366 : Nat) ({ cls := "ClassGate", name := "known", desc := "(LClassGate$Cls;ILjava/lang/String;)I" } : Jvm.MethodName)) ∈ lw_all := lw_g (lw_at lw_m4 28 rfl) rfl
theorem q848 : (Jvm.Cond.static ({ cls := "ClassGate", name := "known", desc := "(LClassGate$Cls;ILjava/lang/String;)I" } : Jvm.MethodName)) ∈ lw_all := lw_g (lw_at lw_m4 29 rfl) rfl
theorem q849 : (Jvm.Cond.code ({ cls := "ClassGate", name := "known", desc := "(LClassGate$Cls;ILjava/lang/String;)I" } : Jvm.MethodName) prog_1_method_45_code (3 : Nat) (Option.some Jvm.ClassFile.FieldType.int)) ∈ lw_all := lw_g (lw_at lw_m4 30 rfl) rfl
theorem q850 : (Jvm.Cond.stringRef "ClassGate" (346 : Nat) "ConstantValue") ∈ lw_tbl := lw_at lw_m4 31 rfl
theorem q851 : (Jvm.Cond.stringRef "ClassGate" (348 : Nat) "Code") ∈ lw_tbl := lw_at lw_m4 32 rfl
theorem q852 : (Jvm.Cond.stringRef "ClassGate" (350 : Nat) "Exceptions") ∈ lw_tbl := lw_at lw_m4 33 rfl
theorem q853 : (Jvm.Cond.stringRef "ClassGate" (352 : Nat) "StackMapTable") ∈ lw_tbl := lw_at lw_m4 34 rfl
theorem q854 : (Jvm.Cond.stringRef "ClassGate" (354 : Nat) "InnerClasses") ∈ lw_tbl := lw_at lw_m4 35 rfl
theorem q855 : (Jvm.Cond.stringRef "ClassGate" (356 : Nat) "BootstrapMethods") ∈ lw_tbl := lw_at lw_m4 36 rfl
theorem q856 : (Jvm.Cond.stringRef "ClassGate" (358 : Nat) "NestHost") ∈ lw_tbl := lw_at lw_m4 37 rfl
theorem q857 : (Jvm.Cond.stringRef "ClassGate" (360 : Nat) "NestMembers") ∈ lw_tbl := lw_at lw_m4 38 rfl
theorem q858 : (Jvm.Cond.stringRef "ClassGate" (362 : Nat) "Record") ∈ lw_tbl := lw_at lw_m4 39 rfl
theorem q859 : (Jvm.Cond.stringRef "ClassGate" (364 : Nat) "PermittedSubclasses") ∈ lw_tbl := lw_at lw_m4 40 rfl
theorem q860 : (Jvm.Cond.methodLink "ClassGate" (374 : Nat) ({ cls := "ClassGate", name := "attribute", desc := "(LClassGate$Cls;IIIILClassGate$Fld;LClassGate$Mth;)Z" } : Jvm.MethodName)) ∈ lw_all := lw_g (lw_at lw_m4 41 rfl) rfl
theorem q861 : (Jvm.Cond.privateMethod ({ cls := "ClassGate", name := "attribute", desc := "(LClassGate$Cls;IIIILClassGate$Fld;LClassGate$Mth;)Z" } : Jvm.MethodName)) ∈ lw_tbl := lw_at lw_m4 42 rfl
theorem q862 : (Jvm.Cond.instanceMethod ({ cls := "ClassGate", name := "attribute", desc := "(LClassGate$Cls;IIIILClassGate$Fld;LClassGate$Mth;)Z" } : Jvm.MethodName)) ∈ lw_all := lw_g (lw_at lw_m4 43 rfl) rfl
theorem q863 : (Jvm.Cond.code ({ cls := "ClassGate", name := "attribute", desc := "(LClassGate$Cls;IIIILClassGate$Fld;LClassGate$Mth;)Z" } : Jvm.MethodName) prog_1_method_49_code (11 : Nat) (Option.some Jvm.ClassFile.FieldType.boolean)) ∈ lw_all := lw_g (lw_at lw_m4 44 rfl) rfl
theorem q864 : (Jvm.Cond.methodLink "ClassGate" (381 : Nat) ({ cls := "ClassGate", name := "isConstant", desc := "(LClassGate$Cls;LClassGate$Fld;)Z" } : Jvm.MethodName)) ∈ lw_all := lw_g (lw_at lw_m4 45 rfl) rfl
theorem q865 : (Jvm.Cond.static ({ cls := "ClassGate", name := "isConstant", desc := "(LClassGate$Cls;LClassGate$Fld;)Z" } : Jvm.MethodName)) ∈ lw_all := lw_g (lw_at lw_m4 46 rfl) rfl
theorem q866 : (Jvm.Cond.code ({ cls := "ClassGate", name := "isConstant", desc := "(LClassGate$Cls;LClassGate$Fld;)Z" } : Jvm.MethodName) prog_1_method_50_code (3 : Nat) (Option.some Jvm.ClassFile.FieldType.boolean)) ∈ lw_all := lw_g (lw_at lw_m4 47 rfl) rfl
theorem q867 : (Jvm.Cond.stringRef "ClassGate" (424 : Nat) "Ljava/lang/String;") ∈ lw_tbl := lw_at lw_m4 48 rfl
theorem q868 : (Jvm.Cond.methodLink "ClassGate" (385 : Nat) ({ cls := "ClassGate", name := "code", desc := "(LClassGate$Cls;LClassGate$Mth;III)Z" } : Jvm.MethodName)) ∈ lw_all := lw_g (lw_at lw_m4 49 rfl) rfl
theorem q869 : (Jvm.Cond.privateMethod ({ cls := "ClassGate", name := "code", desc := "(LClassGate$Cls;LClassGate$Mth;III)Z" } : Jvm.MethodName)) ∈ lw_tbl := lw_at lw_m4 50 rfl
theorem q870 : (Jvm.Cond.instanceMethod ({ cls := "ClassGate", name := "code", desc := "(LClassGate$Cls;LClassGate$Mth;III)Z" } : Jvm.MethodName)) ∈ lw_all := lw_g (lw_at lw_m4 51 rfl) rfl
theorem q871 : (Jvm.Cond.code ({ cls := "ClassGate", name := "code", desc := "(LClassGate$Cls;LClassGate$Mth;III)Z" } : Jvm.MethodName) prog_1_method_55_code (15 : Nat) (Option.some Jvm.ClassFile.FieldType.boolean)) ∈ lw_all := lw_g (lw_at lw_m4 52 rfl) rfl
theorem q872 : (Jvm.Cond.methodLink "ClassGate" (425 : Nat) ({ cls := "ClassGate", name := "endOfAttributes", desc := "(II)I" } : Jvm.MethodName)) ∈ lw_all := lw_g (lw_at lw_m4 53 rfl) rfl
theorem q873 : (Jvm.Cond.privateMethod ({ cls := "ClassGate", name := "endOfAttributes", desc := "(II)I" } : Jvm.MethodName)) ∈ lw_tbl := lw_at lw_m4 54 rfl
theorem q874 : (Jvm.Cond.instanceMethod ({ cls := "ClassGate", name := "endOfAttributes", desc := "(II)I" } : Jvm.MethodName)) ∈ lw_all := lw_g (lw_at lw_m4 55 rfl) rfl
theorem q875 : (Jvm.Cond.code ({ cls := "ClassGate", name := "endOfAttributes", desc := "(II)I" } : Jvm.MethodName) prog_1_method_51_code (8 : Nat) (Option.some Jvm.ClassFile.FieldType.int)) ∈ lw_all := lw_g (lw_at lw_m4 56 rfl) rfl
theorem q876 : (Jvm.Cond.constantLong "ClassGate" (438 : Nat) (65535 : Int64)) ∈ lw_all := lw_g (lw_at lw_m4 57 rfl) rfl
theorem q877 : (Jvm.Cond.methodLink "ClassGate" (389 : Nat) ({ cls := "ClassGate", name := "isTable", desc := "(III)Z" } : Jvm.MethodName)) ∈ lw_all := lw_g (lw_at lw_m4 58 rfl) rfl
theorem q878 : (Jvm.Cond.privateMethod ({ cls := "ClassGate", name := "isTable", desc := "(III)Z" } : Jvm.MethodName)) ∈ lw_tbl := lw_at lw_m4 59 rfl
theorem q879 : (Jvm.Cond.instanceMethod ({ cls := "ClassGate", name := "isTable", desc := "(III)Z" } : Jvm.MethodName)) ∈ lw_all := lw_g (lw_at lw_m4 60 rfl) rfl
theorem q880 : (Jvm.Cond.code ({ cls := "ClassGate", name := "isTable", desc := "(III)Z" } : Jvm.MethodName) prog_1_method_47_code (4 : Nat) (Option.some Jvm.ClassFile.FieldType.boolean)) ∈ lw_all := lw_g (lw_at lw_m4 61 rfl) rfl
theorem q881 : (Jvm.Cond.methodLink "ClassGate" (396 : Nat) ({ cls := "ClassGate", name := "areClasses", desc := "(LClassGate$Cls;I)Z" } : Jvm.MethodName)) ∈ lw_all := lw_g (lw_at lw_m4 62 rfl) rfl
theorem q882 : (Jvm.Cond.privateMethod ({ cls := "ClassGate", name := "areClasses", desc := "(LClassGate$Cls;I)Z" } : Jvm.MethodName)) ∈ lw_tbl := lw_at lw_m4 63 rfl
theorem q883 : (Jvm.Cond.instanceMethod ({ cls := "ClassGate", name := "areClasses", desc := "(LClassGate$Cls;I)Z" } : Jvm.MethodName)) ∈ lw_all := lw_g (lw_at lw_m4 64 rfl) rfl
theorem q884 : (Jvm.Cond.code ({ cls := "ClassGate", name := "areClasses", desc := "(LClassGate$Cls;I)Z" } : Jvm.MethodName) prog_1_method_48_code (5 : Nat) (Option.some Jvm.ClassFile.FieldType.boolean)) ∈ lw_all := lw_g (lw_at lw_m4 65 rfl) rfl
theorem q885 : (Jvm.Cond.methodLink "ClassGate" (402 : Nat) ({ cls := "ClassGate", name := "boots", desc := "(LClassGate$Cls;III)Z" } : Jvm.MethodName)) ∈ lw_all := lw_g (lw_at lw_m4 66 rfl) rfl
theorem q886 : (Jvm.Cond.privateMethod ({ cls := "ClassGate", name := "boots", desc := "(LClassGate$Cls;III)Z" } : Jvm.MethodName)) ∈ lw_tbl := lw_at lw_m4 67 rfl
theorem q887 : (Jvm.Cond.instanceMethod ({ cls := "ClassGate", name := "boots", desc := "(LClassGate$Cls;III)Z" } : Jvm.MethodName)) ∈ lw_all := lw_g (lw_at lw_m4 68 rfl) rfl
theorem q888 : (Jvm.Cond.code ({ cls := "ClassGate", name := "boots", desc := "(LClassGate$Cls;III)Z" } : Jvm.MethodName) prog_1_method_54_code (12 : Nat) (Option.some Jvm.ClassFile.FieldType.boolean)) ∈ lw_all := lw_g (lw_at lw_m4 69 rfl) rfl
theorem q889 : (Jvm.Cond.classLink "ClassGate" (431 : Nat) "[I") ∈ lw_all := lw_g (lw_at lw_m4 70 rfl) rfl
theorem q890 : (Jvm.Cond.methodLink "ClassGate" (435 : Nat) ({ cls := "ClassGate", name := "isLoadable", desc := "(LClassGate$Cls;I)Z" } : Jvm.MethodName)) ∈ lw_all := lw_g (lw_at lw_m4 71 rfl) rfl
theorem q891 : (Jvm.Cond.static ({ cls := "ClassGate", name := "isLoadable", desc := "(LClassGate$Cls;I)Z" } : Jvm.MethodName)) ∈ lw_all := lw_g (lw_at lw_m4 72 rfl) rfl
theorem q892 : (Jvm.Cond.code ({ cls := "ClassGate", name := "isLoadable", desc := "(LClassGate$Cls;I)Z" } : Jvm.MethodName) prog_1_method_53_code (3 : Nat) (Option.some Jvm.ClassFile.FieldType.boolean)) ∈ lw_all := lw_g (lw_at lw_m4 73 rfl) rfl
theorem q893 : (Jvm.Cond.methodLink "ClassGate" (415 : Nat) ({ cls := "ClassGate", name := "record", desc := "(LClassGate$Cls;III)Z" } : Jvm.MethodName)) ∈ lw_all := lw_g (lw_at lw_m4 74 rfl) rfl
theorem q894 : (Jvm.Cond.privateMethod ({ cls := "ClassGate", name := "record", desc := "(LClassGate$Cls;III)Z" } : Jvm.MethodName)) ∈ lw_tbl := lw_at lw_m4 75 rfl
theorem q895 : (Jvm.Cond.instanceMethod ({ cls := "ClassGate", name := "record", desc := "(LClassGate$Cls;III)Z" } : Jvm.MethodName)) ∈ lw_all := lw_g (lw_at lw_m4 76 rfl) rfl
theorem q896 : (Jvm.Cond.code ({ cls := "ClassGate", name := "record", desc := "(LClassGate$Cls;III)Z" } : Jvm.MethodName) prog_1_method_52_code (13 : Nat) (Option.some Jvm.ClassFile.FieldType.boolean)) ∈ lw_all := lw_g (lw_at lw_m4 77 rfl) rfl
theorem q897 : (Jvm.Cond.methodLink "ClassGate" (418 : Nat) ({ cls := "ClassGate$Cls", name := "isFinal", desc := "()Z" } : Jvm.MethodName)) ∈ lw_all := lw_g (lw_at lw_m4 78 rfl) rfl
theorem q901 : (Jvm.Cond.methodLink "ClassGate" (58 : Nat) ({ cls := "ClassGate", name := "checkMethods", desc := "(LClassGate$Cls;)Z" } : Jvm.MethodName)) ∈ lw_all := lw_g (lw_at lw_m4 82 rfl) rfl
theorem q902 : (Jvm.Cond.privateMethod ({ cls := "ClassGate", name := "checkMethods", desc := "(LClassGate$Cls;)Z" } : Jvm.MethodName)) ∈ lw_tbl := lw_at lw_m4 83 rfl
theorem q903 : (Jvm.Cond.instanceMethod ({ cls := "ClassGate", name := "checkMethods", desc := "(LClassGate$Cls;)Z" } : Jvm.MethodName)) ∈ lw_all := lw_g (lw_at lw_m4 84 rfl) rfl
theorem q904 : (Jvm.Cond.code ({ cls := "ClassGate", name := "checkMethods", desc := "(LClassGate$Cls;)Z" } : Jvm.MethodName) prog_1_method_44_code (10 : Nat) (Option.some Jvm.ClassFile.FieldType.boolean)) ∈ lw_all := lw_g (lw_at lw_m4 85 rfl) rfl
theorem q905 : (Jvm.Cond.classLink "ClassGate" (101 : Nat) "ClassGate$Mth") ∈ lw_all := lw_g (lw_at lw_m4 86 rfl) rfl
theorem q907 : (Jvm.Cond.methodLinkNest "ClassGate" (329 : Nat) ({ cls := "ClassGate$Mth", name := "<init>", desc := "()V" } : Jvm.MethodName) "ClassGate") ∈ lw_tbl := lw_at lw_m4 88 rfl
theorem q911 : (Jvm.Cond.fieldLink "ClassGate" (330 : Nat) "ClassGate$Mth" "owner" "LClassGate$Cls;") ∈ lw_all := lw_g (lw_at lw_m4 92 rfl) rfl
theorem q913 : (Jvm.Cond.fieldLink "ClassGate" (319 : Nat) "ClassGate$Mth" "name" "Ljava/lang/String;") ∈ lw_all := lw_g (lw_at lw_m4 94 rfl) rfl
theorem q914 : (Jvm.Cond.fieldLink "ClassGate" (109 : Nat) "ClassGate$Mth" "desc" "Ljava/lang/String;") ∈ lw_all := lw_g (lw_at lw_m4 95 rfl) rfl
theorem q915 : (Jvm.Cond.fieldLink "ClassGate" (333 : Nat) "ClassGate$Mth" "nameEntry" "I") ∈ lw_all := lw_g (lw_at lw_m4 96 rfl) rfl
theorem q916 : (Jvm.Cond.fieldLink "ClassGate" (334 : Nat) "ClassGate$Mth" "descEntry" "I") ∈ lw_all := lw_g (lw_at lw_m4 97 rfl) rfl
theorem q918 : (Jvm.Cond.fieldLink "ClassGate" (318 : Nat) "ClassGate$Mth" "flags" "I") ∈ lw_all := lw_g (lw_at lw_m4 99 rfl) rfl
theorem q919 : (Jvm.Cond.fieldLink "ClassGate" (372 : Nat) "ClassGate$Mth" "known" "I") ∈ lw_all := lw_g (lw_at lw_m4 100 rfl) rfl
theorem q920 : (Jvm.Cond.fieldLink "ClassGate" (393 : Nat) "ClassGate$Mth" "exceptions" "I") ∈ lw_all := lw_g (lw_at lw_m4 101 rfl) rfl
theorem q921 : (Jvm.Cond.fieldLink "ClassGate" (440 : Nat) "ClassGate$Mth" "maxStack" "I") ∈ lw_all := lw_g (lw_at lw_m4 102 rfl) rfl
theorem q922 : (Jvm.Cond.fieldLink "ClassGate" (443 : Nat) "ClassGate$Mth" "maxLocals" "I") ∈ lw_all := lw_g (lw_at lw_m4 103 rfl) rfl
theorem q923 : (Jvm.Cond.fieldLink "ClassGate" (343 : Nat) "ClassGate$Mth" "hasCode" "Z") ∈ lw_all := lw_g (lw_at lw_m4 104 rfl) rfl
theorem q924 : (Jvm.Cond.fieldLink "ClassGate" (446 : Nat) "ClassGate$Mth" "code" "[B") ∈ lw_all := lw_g (lw_at lw_m4 105 rfl) rfl
theorem q926 : (Jvm.Cond.fieldLink "ClassGate" (448 : Nat) "ClassGate$Mth" "rows" "[I") ∈ lw_all := lw_g (lw_at lw_m4 107 rfl) rfl
theorem q927 : (Jvm.Cond.fieldLink "ClassGate" (106 : Nat) "ClassGate$Mth" "places" "I") ∈ lw_all := lw_g (lw_at lw_m4 108 rfl) rfl
theorem q928 : (Jvm.Cond.fieldLink "ClassGate" (532 : Nat) "ClassGate$Mth" "state" "I") ∈ lw_all := lw_g (lw_at lw_m4 109 rfl) rfl
theorem q929 : (Jvm.Cond.fieldLink "ClassGate" (474 : Nat) "ClassGate$Mth" "count" "I") ∈ lw_all := lw_g (lw_at lw_m4 110 rfl) rfl
theorem q930 : (Jvm.Cond.fieldLink "ClassGate" (477 : Nat) "ClassGate$Mth" "at" "[I") ∈ lw_all := lw_g (lw_at lw_m4 111 rfl) rfl
theorem q931 : (Jvm.Cond.fieldLink "ClassGate" (458 : Nat) "ClassGate$Mth" "op" "[I") ∈ lw_all := lw_g (lw_at lw_m4 112 rfl) rfl
theorem q932 : (Jvm.Cond.fieldLink "ClassGate" (461 : Nat) "ClassGate$Mth" "a" "[I") ∈ lw_all := lw_g (lw_at lw_m4 113 rfl) rfl
theorem q933 : (Jvm.Cond.fieldLink "ClassGate" (464 : Nat) "ClassGate$Mth" "b" "[I") ∈ lw_all := lw_g (lw_at lw_m4 114 rfl) rfl
theorem q934 : (Jvm.Cond.fieldLink "ClassGate" (455 : Nat) "ClassGate$Mth" "indexAt" "[I") ∈ lw_all := lw_g (lw_at lw_m4 115 rfl) rfl
theorem q935 : (Jvm.Cond.fieldLink "ClassGate" (479 : Nat) "ClassGate$Mth" "jumps" "[[I") ∈ lw_all := lw_g (lw_at lw_m4 116 rfl) rfl
theorem q981 : (Jvm.Cond.methodLink "ClassGate" (322 : Nat) ({ cls := "ClassGate$Mth", name := "isInit", desc := "()Z" } : Jvm.MethodName)) ∈ lw_all := lw_g (lw_at lw_m4 162 rfl) rfl
theorem q987 : (Jvm.Cond.stringRef "ClassGate" (320 : Nat) "<clinit>") ∈ lw_tbl := lw_at lw_m4 168 rfl
theorem q988 : (Jvm.Cond.methodLink "ClassGate" (335 : Nat) ({ cls := "ClassGate", name := "areMethodFlags", desc := "(LClassGate$Cls;LClassGate$Mth;)Z" } : Jvm.MethodName)) ∈ lw_all := lw_g (lw_at lw_m4 169 rfl) rfl
theorem q989 : (Jvm.Cond.static ({ cls := "ClassGate", name := "areMethodFlags", desc := "(LClassGate$Cls;LClassGate$Mth;)Z" } : Jvm.MethodName)) ∈ lw_all := lw_g (lw_at lw_m4 170 rfl) rfl
theorem q990 : (Jvm.Cond.code ({ cls := "ClassGate", name := "areMethodFlags", desc := "(LClassGate$Cls;LClassGate$Mth;)Z" } : Jvm.MethodName) prog_1_method_43_code (5 : Nat) (Option.some Jvm.ClassFile.FieldType.boolean)) ∈ lw_all := lw_g (lw_at lw_m4 171 rfl) rfl
theorem q991 : (Jvm.Cond.methodLink "ClassGate" (100 : Nat) ({ cls := "ClassGate$Mth", name := "isStatic", desc := "()Z" } : Jvm.MethodName)) ∈ lw_all := lw_g (lw_at lw_m4 172 rfl) rfl
theorem q995 : (Jvm.Cond.methodLink "ClassGate" (339 : Nat) ({ cls := "ClassGate", name := "describe", desc := "(LClassGate$Mth;)V" } : Jvm.MethodName)) ∈ lw_all := lw_g (lw_at lw_m4 176 rfl) rfl
theorem q996 : (Jvm.Cond.static ({ cls := "ClassGate", name := "describe", desc := "(LClassGate$Mth;)V" } : Jvm.MethodName)) ∈ lw_all := lw_g (lw_at lw_m4 177 rfl) rfl
theorem q997 : (Jvm.Cond.code ({ cls := "ClassGate", name := "describe", desc := "(LClassGate$Mth;)V" } : Jvm.MethodName) prog_1_method_15_code (2 : Nat) (Option.none : Option Jvm.ClassFile.FieldType)) ∈ lw_all := lw_g (lw_at lw_m4 178 rfl) rfl
theorem q998 : (Jvm.Cond.methodLink "ClassGate" (116 : Nat) ({ cls := "ClassGate", name := "isTwo", desc := "(I)Z" } : Jvm.MethodName)) ∈ lw_all := lw_g (lw_at lw_m4 179 rfl) rfl
theorem q999 : (Jvm.Cond.static ({ cls := "ClassGate", name := "isTwo", desc := "(I)Z" } : Jvm.MethodName)) ∈ lw_all := lw_g (lw_at lw_m4 180 rfl) rfl
theorem q1000 : (Jvm.Cond.code ({ cls := "ClassGate", name := "isTwo", desc := "(I)Z" } : Jvm.MethodName) prog_1_method_14_code (1 : Nat) (Option.some Jvm.ClassFile.FieldType.boolean)) ∈ lw_all := lw_g (lw_at lw_m4 181 rfl) rfl
theorem q1001 : (Jvm.Cond.methodLink "ClassGate" (61 : Nat) ({ cls := "ClassGate", name := "checkRest", desc := "(LClassGate$Cls;)Z" } : Jvm.MethodName)) ∈ lw_all := lw_g (lw_at lw_m4 182 rfl) rfl
theorem q1002 : (Jvm.Cond.privateMethod ({ cls := "ClassGate", name := "checkRest", desc := "(LClassGate$Cls;)Z" } : Jvm.MethodName)) ∈ lw_tbl := lw_at lw_m4 183 rfl
theorem q1003 : (Jvm.Cond.instanceMethod ({ cls := "ClassGate", name := "checkRest", desc := "(LClassGate$Cls;)Z" } : Jvm.MethodName)) ∈ lw_all := lw_g (lw_at lw_m4 184 rfl) rfl
theorem q1004 : (Jvm.Cond.code ({ cls := "ClassGate", name := "checkRest", desc := "(LClassGate$Cls;)Z" } : Jvm.MethodName) prog_1_method_56_code (3 : Nat) (Option.some Jvm.ClassFile.FieldType.boolean)) ∈ lw_all := lw_g (lw_at lw_m4 185 rfl) rfl
theorem q1006 : (Jvm.Cond.instanceMethod ({ cls := "ClassGate", name := "place", desc := "()I" } : Jvm.MethodName)) ∈ lw_all := lw_g (lw_at lw_m4 187 rfl) rfl
theorem q1007 : (Jvm.Cond.selects "ClassGate" ({ cls := "ClassGate", name := "place", desc := "()I" } : Jvm.MethodName) ({ cls := "ClassGate", name := "place", desc := "()I" } : Jvm.MethodName)) ∈ lw_all := lw_g (lw_at lw_m4 188 rfl) rfl
theorem q1008 : (Jvm.Cond.code ({ cls := "ClassGate", name := "place", desc := "()I" } : Jvm.MethodName) prog_1_method_6_code (1 : Nat) (Option.some Jvm.ClassFile.FieldType.int)) ∈ lw_all := lw_g (lw_at lw_m4 189 rfl) rfl
theorem q1010 : (Jvm.Cond.instanceMethod ({ cls := "ClassGate", name := "bits", desc := "(I)J" } : Jvm.MethodName)) ∈ lw_all := lw_g (lw_at lw_m4 191 rfl) rfl
theorem q1011 : (Jvm.Cond.selects "ClassGate" ({ cls := "ClassGate", name := "bits", desc := "(I)J" } : Jvm.MethodName) ({ cls := "ClassGate", name := "bits", desc := "(I)J" } : Jvm.MethodName)) ∈ lw_all := lw_g (lw_at lw_m4 192 rfl) rfl
theorem q1012 : (Jvm.Cond.code ({ cls := "ClassGate", name := "bits", desc := "(I)J" } : Jvm.MethodName) prog_1_method_75_code (2 : Nat) (Option.some Jvm.ClassFile.FieldType.long)) ∈ lw_all := lw_g (lw_at lw_m4 193 rfl) rfl
theorem q1013 : (Jvm.Cond.methodLink "ClassGate" (521 : Nat) ({ cls := "ClassGate", name := "isEntry", desc := "(I)Z" } : Jvm.MethodName)) ∈ lw_all := lw_g (lw_at lw_m4 194 rfl) rfl
theorem q1014 : (Jvm.Cond.privateMethod ({ cls := "ClassGate", name := "isEntry", desc := "(I)Z" } : Jvm.MethodName)) ∈ lw_tbl := lw_at lw_m4 195 rfl
theorem q1015 : (Jvm.Cond.instanceMethod ({ cls := "ClassGate", name := "isEntry", desc := "(I)Z" } : Jvm.MethodName)) ∈ lw_all := lw_g (lw_at lw_m4 196 rfl) rfl
theorem q1016 : (Jvm.Cond.code ({ cls := "ClassGate", name := "isEntry", desc := "(I)Z" } : Jvm.MethodName) prog_1_method_73_code (2 : Nat) (Option.some Jvm.ClassFile.FieldType.boolean)) ∈ lw_all := lw_g (lw_at lw_m4 197 rfl) rfl
theorem q1018 : (Jvm.Cond.instanceMethod ({ cls := "ClassGate", name := "character", desc := "(II)I" } : Jvm.MethodName)) ∈ lw_all := lw_g (lw_at lw_m4 199 rfl) rfl
theorem q1019 : (Jvm.Cond.selects "ClassGate" ({ cls := "ClassGate", name := "character", desc := "(II)I" } : Jvm.MethodName) ({ cls := "ClassGate", name := "character", desc := "(II)I" } : Jvm.MethodName)) ∈ lw_all := lw_g (lw_at lw_m4 200 rfl) rfl
theorem q1020 : (Jvm.Cond.code ({ cls := "ClassGate", name := "character", desc := "(II)I" } : Jvm.MethodName) prog_1_method_77_code (4 : Nat) (Option.some Jvm.ClassFile.FieldType.int)) ∈ lw_all := lw_g (lw_at lw_m4 201 rfl) rfl
theorem q1021 : (Jvm.Cond.methodLink "ClassGate" (524 : Nat) ({ cls := "ClassGate", name := "textOf", desc := "(I)Ljava/lang/String;" } : Jvm.MethodName)) ∈ lw_all := lw_g (lw_at lw_m4 202 rfl) rfl
theorem q1022 : (Jvm.Cond.privateMethod ({ cls := "ClassGate", name := "textOf", desc := "(I)Ljava/lang/String;" } : Jvm.MethodName)) ∈ lw_tbl := lw_at lw_m4 203 rfl
theorem q1023 : (Jvm.Cond.instanceMethod ({ cls := "ClassGate", name := "textOf", desc := "(I)Ljava/lang/String;" } : Jvm.MethodName)) ∈ lw_all := lw_g (lw_at lw_m4 204 rfl) rfl
theorem q1024 : (Jvm.Cond.code ({ cls := "ClassGate", name := "textOf", desc := "(I)Ljava/lang/String;" } : Jvm.MethodName) prog_1_method_76_code (2 : Nat) (Option.some (Jvm.ClassFile.FieldType.object "java/lang/String"))) ∈ lw_all := lw_g (lw_at lw_m4 205 rfl) rfl
theorem q1026 : (Jvm.Cond.instanceMethod ({ cls := "ClassGate", name := "places", desc := "(I)I" } : Jvm.MethodName)) ∈ lw_all := lw_g (lw_at lw_m4 207 rfl) rfl
theorem q1027 : (Jvm.Cond.selects "ClassGate" ({ cls := "ClassGate", name := "places", desc := "(I)I" } : Jvm.MethodName) ({ cls := "ClassGate", name := "places", desc := "(I)I" } : Jvm.MethodName)) ∈ lw_all := lw_g (lw_at lw_m4 208 rfl) rfl
theorem q1028 : (Jvm.Cond.code ({ cls := "ClassGate", name := "places", desc := "(I)I" } : Jvm.MethodName) prog_1_method_78_code (6 : Nat) (Option.some Jvm.ClassFile.FieldType.int)) ∈ lw_all := lw_g (lw_at lw_m4 209 rfl) rfl
theorem q1030 : (Jvm.Cond.instanceMethod ({ cls := "ClassGate", name := "find", desc := "(ZII)I" } : Jvm.MethodName)) ∈ lw_all := lw_g (lw_at lw_m4 211 rfl) rfl
theorem q1031 : (Jvm.Cond.selects "ClassGate" ({ cls := "ClassGate", name := "find", desc := "(ZII)I" } : Jvm.MethodName) ({ cls := "ClassGate", name := "find", desc := "(ZII)I" } : Jvm.MethodName)) ∈ lw_all := lw_g (lw_at lw_m4 212 rfl) rfl
theorem q1032 : (Jvm.Cond.code ({ cls := "ClassGate", name := "find", desc := "(ZII)I" } : Jvm.MethodName) prog_1_method_80_code (10 : Nat) (Option.some Jvm.ClassFile.FieldType.int)) ∈ lw_all := lw_g (lw_at lw_m4 213 rfl) rfl
theorem q1034 : (Jvm.Cond.instanceMethod ({ cls := "ClassGate", name := "bootstrap", desc := "(II)I" } : Jvm.MethodName)) ∈ lw_all := lw_g (lw_at lw_m4 215 rfl) rfl
theorem q1035 : (Jvm.Cond.selects "ClassGate" ({ cls := "ClassGate", name := "bootstrap", desc := "(II)I" } : Jvm.MethodName) ({ cls := "ClassGate", name := "bootstrap", desc := "(II)I" } : Jvm.MethodName)) ∈ lw_all := lw_g (lw_at lw_m4 216 rfl) rfl
theorem q1036 : (Jvm.Cond.code ({ cls := "ClassGate", name := "bootstrap", desc := "(II)I" } : Jvm.MethodName) prog_1_method_83_code (3 : Nat) (Option.some Jvm.ClassFile.FieldType.int)) ∈ lw_all := lw_g (lw_at lw_m4 217 rfl) rfl
theorem q1038 : (Jvm.Cond.instanceMethod ({ cls := "ClassGate", name := "cut", desc := "(I)I" } : Jvm.MethodName)) ∈ lw_all := lw_g (lw_at lw_m4 219 rfl) rfl
theorem q1039 : (Jvm.Cond.selects "ClassGate" ({ cls := "ClassGate", name := "cut", desc := "(I)I" } : Jvm.MethodName) ({ cls := "ClassGate", name := "cut", desc := "(I)I" } : Jvm.MethodName)) ∈ lw_all := lw_g (lw_at lw_m4 220 rfl) rfl
theorem q1040 : (Jvm.Cond.code ({ cls := "ClassGate", name := "cut", desc := "(I)I" } : Jvm.MethodName) prog_1_method_84_code (4 : Nat) (Option.some Jvm.ClassFile.FieldType.int)) ∈ lw_all := lw_g (lw_at lw_m4 221 rfl) rfl
theorem q1041 : (Jvm.Cond.methodLink "ClassGate" (528 : Nat) ({ cls := "ClassGate", name := "methodAt", desc := "(I)LClassGate$Mth;" } : Jvm.MethodName)) ∈ lw_all := lw_g (lw_at lw_m4 222 rfl) rfl
theorem q1042 : (Jvm.Cond.privateMethod ({ cls := "ClassGate", name := "methodAt", desc := "(I)LClassGate$Mth;" } : Jvm.MethodName)) ∈ lw_tbl := lw_at lw_m4 223 rfl
theorem q1043 : (Jvm.Cond.instanceMethod ({ cls := "ClassGate", name := "methodAt", desc := "(I)LClassGate$Mth;" } : Jvm.MethodName)) ∈ lw_all := lw_g (lw_at lw_m4 224 rfl) rfl
theorem q1044 : (Jvm.Cond.code ({ cls := "ClassGate", name := "methodAt", desc := "(I)LClassGate$Mth;" } : Jvm.MethodName) prog_1_method_81_code (2 : Nat) (Option.some (Jvm.ClassFile.FieldType.object "ClassGate$Mth"))) ∈ lw_all := lw_g (lw_at lw_m4 225 rfl) rfl
theorem q1045 : (Jvm.Cond.methodLink "ClassGate" (535 : Nat) ({ cls := "ClassGate", name := "cut", desc := "(LClassGate$Cls;LClassGate$Mth;)I" } : Jvm.MethodName)) ∈ lw_all := lw_g (lw_at lw_m4 226 rfl) rfl
theorem q1046 : (Jvm.Cond.privateMethod ({ cls := "ClassGate", name := "cut", desc := "(LClassGate$Cls;LClassGate$Mth;)I" } : Jvm.MethodName)) ∈ lw_tbl := lw_at lw_m4 227 rfl
theorem q1047 : (Jvm.Cond.instanceMethod ({ cls := "ClassGate", name := "cut", desc := "(LClassGate$Cls;LClassGate$Mth;)I" } : Jvm.MethodName)) ∈ lw_all := lw_g (lw_at lw_m4 228 rfl) rfl
theorem q1048 : (Jvm.Cond.code ({ cls := "ClassGate", name := "cut", desc := "(LClassGate$Cls;LClassGate$Mth;)I" } : Jvm.MethodName) prog_1_method_63_code (13 : Nat) (Option.some Jvm.ClassFile.FieldType.int)) ∈ lw_all := lw_g (lw_at lw_m4 229 rfl) rfl
theorem q1049 : (Jvm.Cond.methodLink "ClassGate" (467 : Nat) ({ cls := "ClassGate", name := "cutOne", desc := "(LClassGate$Cls;LClassGate$Mth;II[[I)Z" } : Jvm.MethodName)) ∈ lw_all := lw_g (lw_at lw_m4 230 rfl) rfl
theorem q1050 : (Jvm.Cond.privateMethod ({ cls := "ClassGate", name := "cutOne", desc := "(LClassGate$Cls;LClassGate$Mth;II[[I)Z" } : Jvm.MethodName)) ∈ lw_tbl := lw_at lw_m4 231 rfl
theorem q1051 : (Jvm.Cond.instanceMethod ({ cls := "ClassGate", name := "cutOne", desc := "(LClassGate$Cls;LClassGate$Mth;II[[I)Z" } : Jvm.MethodName)) ∈ lw_all := lw_g (lw_at lw_m4 232 rfl) rfl
theorem q1052 : (Jvm.Cond.code ({ cls := "ClassGate", name := "cutOne", desc := "(LClassGate$Cls;LClassGate$Mth;II[[I)Z" } : Jvm.MethodName) prog_1_method_65_code (10 : Nat) (Option.some Jvm.ClassFile.FieldType.boolean)) ∈ lw_all := lw_g (lw_at lw_m4 233 rfl) rfl
theorem q1053 : (Jvm.Cond.methodLink "ClassGate" (487 : Nat) ({ cls := "ClassGate", name := "codeU1", desc := "(LClassGate$Mth;I)I" } : Jvm.MethodName)) ∈ lw_all := lw_g (lw_at lw_m4 234 rfl) rfl
theorem q1054 : (Jvm.Cond.static ({ cls := "ClassGate", name := "codeU1", desc := "(LClassGate$Mth;I)I" } : Jvm.MethodName)) ∈ lw_all := lw_g (lw_at lw_m4 235 rfl) rfl
theorem q1055 : (Jvm.Cond.code ({ cls := "ClassGate", name := "codeU1", desc := "(LClassGate$Mth;I)I" } : Jvm.MethodName) prog_1_method_57_code (2 : Nat) (Option.some Jvm.ClassFile.FieldType.int)) ∈ lw_all := lw_g (lw_at lw_m4 236 rfl) rfl
theorem q1056 : (Jvm.Cond.methodLink "ClassGate" (490 : Nat) ({ cls := "ClassGate", name := "operands", desc := "(I)I" } : Jvm.MethodName)) ∈ lw_all := lw_g (lw_at lw_m4 237 rfl) rfl
theorem q1057 : (Jvm.Cond.static ({ cls := "ClassGate", name := "operands", desc := "(I)I" } : Jvm.MethodName)) ∈ lw_all := lw_g (lw_at lw_m4 238 rfl) rfl
theorem q1058 : (Jvm.Cond.code ({ cls := "ClassGate", name := "operands", desc := "(I)I" } : Jvm.MethodName) prog_1_method_61_code (1 : Nat) (Option.some Jvm.ClassFile.FieldType.int)) ∈ lw_all := lw_g (lw_at lw_m4 239 rfl) rfl
theorem q1059 : (Jvm.Cond.methodLink "ClassGate" (493 : Nat) ({ cls := "ClassGate", name := "cutWide", desc := "(LClassGate$Mth;II)Z" } : Jvm.MethodName)) ∈ lw_all := lw_g (lw_at lw_m5 0 rfl) rfl
theorem q1060 : (Jvm.Cond.privateMethod ({ cls := "ClassGate", name := "cutWide", desc := "(LClassGate$Mth;II)Z" } : Jvm.MethodName)) ∈ lw_tbl := lw_at lw_m5 1 rfl
theorem q1061 : (Jvm.Cond.instanceMethod ({ cls := "ClassGate", name := "cutWide", desc := "(LClassGate$Mth;II)Z" } : Jvm.MethodName)) ∈ lw_all := lw_g (lw_at lw_m5 2 rfl) rfl
theorem q1062 : (Jvm.Cond.code ({ cls := "ClassGate", name := "cutWide", desc := "(LClassGate$Mth;II)Z" } : Jvm.MethodName) prog_1_method_68_code (5 : Nat) (Option.some Jvm.ClassFile.FieldType.boolean)) ∈ lw_all := lw_g (lw_at lw_m5 3 rfl) rfl
theorem q1063 : (Jvm.Cond.methodLink "ClassGate" (507 : Nat) ({ cls := "ClassGate", name := "isLocalOp", desc := "(I)Z" } : Jvm.MethodName)) ∈ lw_all := lw_g (lw_at lw_m5 4 rfl) rfl
theorem q1064 : (Jvm.Cond.static ({ cls := "ClassGate", name := "isLocalOp", desc := "(I)Z" } : Jvm.MethodName)) ∈ lw_all := lw_g (lw_at lw_m5 5 rfl) rfl
theorem q1065 : (Jvm.Cond.code ({ cls := "ClassGate", name := "isLocalOp", desc := "(I)Z" } : Jvm.MethodName) prog_1_method_66_code (1 : Nat) (Option.some Jvm.ClassFile.FieldType.boolean)) ∈ lw_all := lw_g (lw_at lw_m5 6 rfl) rfl
theorem q1066 : (Jvm.Cond.methodLink "ClassGate" (451 : Nat) ({ cls := "ClassGate", name := "codeU2", desc := "(LClassGate$Mth;I)I" } : Jvm.MethodName)) ∈ lw_all := lw_g (lw_at lw_m5 7 rfl) rfl
theorem q1067 : (Jvm.Cond.static ({ cls := "ClassGate", name := "codeU2", desc := "(LClassGate$Mth;I)I" } : Jvm.MethodName)) ∈ lw_all := lw_g (lw_at lw_m5 8 rfl) rfl
theorem q1068 : (Jvm.Cond.code ({ cls := "ClassGate", name := "codeU2", desc := "(LClassGate$Mth;I)I" } : Jvm.MethodName) prog_1_method_58_code (2 : Nat) (Option.some Jvm.ClassFile.FieldType.int)) ∈ lw_all := lw_g (lw_at lw_m5 9 rfl) rfl
theorem q1069 : (Jvm.Cond.methodLink "ClassGate" (501 : Nat) ({ cls := "ClassGate", name := "codeS2", desc := "(LClassGate$Mth;I)I" } : Jvm.MethodName)) ∈ lw_all := lw_g (lw_at lw_m5 10 rfl) rfl
theorem q1070 : (Jvm.Cond.static ({ cls := "ClassGate", name := "codeS2", desc := "(LClassGate$Mth;I)I" } : Jvm.MethodName)) ∈ lw_all := lw_g (lw_at lw_m5 11 rfl) rfl
theorem q1071 : (Jvm.Cond.code ({ cls := "ClassGate", name := "codeS2", desc := "(LClassGate$Mth;I)I" } : Jvm.MethodName) prog_1_method_59_code (2 : Nat) (Option.some Jvm.ClassFile.FieldType.int)) ∈ lw_all := lw_g (lw_at lw_m5 12 rfl) rfl
theorem q1072 : (Jvm.Cond.methodLink "ClassGate" (510 : Nat) ({ cls := "ClassGate", name := "isTwoLocal", desc := "(I)Z" } : Jvm.MethodName)) ∈ lw_all := lw_g (lw_at lw_m5 13 rfl) rfl
theorem q1073 : (Jvm.Cond.static ({ cls := "ClassGate", name := "isTwoLocal", desc := "(I)Z" } : Jvm.MethodName)) ∈ lw_all := lw_g (lw_at lw_m5 14 rfl) rfl
theorem q1074 : (Jvm.Cond.code ({ cls := "ClassGate", name := "isTwoLocal", desc := "(I)Z" } : Jvm.MethodName) prog_1_method_67_code (1 : Nat) (Option.some Jvm.ClassFile.FieldType.boolean)) ∈ lw_all := lw_g (lw_at lw_m5 15 rfl) rfl
theorem q1075 : (Jvm.Cond.methodLink "ClassGate" (497 : Nat) ({ cls := "ClassGate", name := "cutSwitch", desc := "(LClassGate$Mth;II[[I)Z" } : Jvm.MethodName)) ∈ lw_all := lw_g (lw_at lw_m5 16 rfl) rfl
theorem q1076 : (Jvm.Cond.privateMethod ({ cls := "ClassGate", name := "cutSwitch", desc := "(LClassGate$Mth;II[[I)Z" } : Jvm.MethodName)) ∈ lw_tbl := lw_at lw_m5 17 rfl
theorem q1077 : (Jvm.Cond.instanceMethod ({ cls := "ClassGate", name := "cutSwitch", desc := "(LClassGate$Mth;II[[I)Z" } : Jvm.MethodName)) ∈ lw_all := lw_g (lw_at lw_m5 18 rfl) rfl
theorem q1078 : (Jvm.Cond.code ({ cls := "ClassGate", name := "cutSwitch", desc := "(LClassGate$Mth;II[[I)Z" } : Jvm.MethodName) prog_1_method_69_code (15 : Nat) (Option.some Jvm.ClassFile.FieldType.boolean)) ∈ lw_all := lw_g (lw_at lw_m5 19 rfl) rfl
theorem q1079 : (Jvm.Cond.methodLink "ClassGate" (504 : Nat) ({ cls := "ClassGate", name := "codeS4", desc := "(LClassGate$Mth;I)I" } : Jvm.MethodName)) ∈ lw_all := lw_g (lw_at lw_m5 20 rfl) rfl
theorem q1080 : (Jvm.Cond.static ({ cls := "ClassGate", name := "codeS4", desc := "(LClassGate$Mth;I)I" } : Jvm.MethodName)) ∈ lw_all := lw_g (lw_at lw_m5 21 rfl) rfl
theorem q1081 : (Jvm.Cond.code ({ cls := "ClassGate", name := "codeS4", desc := "(LClassGate$Mth;I)I" } : Jvm.MethodName) prog_1_method_60_code (2 : Nat) (Option.some Jvm.ClassFile.FieldType.int)) ∈ lw_all := lw_g (lw_at lw_m5 22 rfl) rfl
theorem q1082 : (Jvm.Cond.constantLong "ClassGate" (516 : Nat) (8 : Int64)) ∈ lw_all := lw_g (lw_at lw_m5 23 rfl) rfl
theorem q1083 : (Jvm.Cond.methodLink "ClassGate" (482 : Nat) ({ cls := "ClassGate", name := "isJump", desc := "(I)Z" } : Jvm.MethodName)) ∈ lw_all := lw_g (lw_at lw_m5 24 rfl) rfl
theorem q1084 : (Jvm.Cond.static ({ cls := "ClassGate", name := "isJump", desc := "(I)Z" } : Jvm.MethodName)) ∈ lw_all := lw_g (lw_at lw_m5 25 rfl) rfl
theorem q1085 : (Jvm.Cond.code ({ cls := "ClassGate", name := "isJump", desc := "(I)Z" } : Jvm.MethodName) prog_1_method_62_code (1 : Nat) (Option.some Jvm.ClassFile.FieldType.boolean)) ∈ lw_all := lw_g (lw_at lw_m5 26 rfl) rfl
theorem q1086 : (Jvm.Cond.methodLink "ClassGate" (513 : Nat) ({ cls := "ClassGate", name := "isGoodEntry", desc := "(LClassGate$Cls;LClassGate$Mth;III)Z" } : Jvm.MethodName)) ∈ lw_all := lw_g (lw_at lw_m5 27 rfl) rfl
theorem q1087 : (Jvm.Cond.static ({ cls := "ClassGate", name := "isGoodEntry", desc := "(LClassGate$Cls;LClassGate$Mth;III)Z" } : Jvm.MethodName)) ∈ lw_all := lw_g (lw_at lw_m5 28 rfl) rfl
theorem q1088 : (Jvm.Cond.code ({ cls := "ClassGate", name := "isGoodEntry", desc := "(LClassGate$Cls;LClassGate$Mth;III)Z" } : Jvm.MethodName) prog_1_method_71_code (7 : Nat) (Option.some Jvm.ClassFile.FieldType.boolean)) ∈ lw_all := lw_g (lw_at lw_m5 29 rfl) rfl
theorem q1089 : (Jvm.Cond.methodLink "ClassGate" (518 : Nat) ({ cls := "ClassGate", name := "dimensions", desc := "(Ljava/lang/String;)I" } : Jvm.MethodName)) ∈ lw_all := lw_g (lw_at lw_m5 30 rfl) rfl
theorem q1090 : (Jvm.Cond.static ({ cls := "ClassGate", name := "dimensions", desc := "(Ljava/lang/String;)I" } : Jvm.MethodName)) ∈ lw_all := lw_g (lw_at lw_m5 31 rfl) rfl
theorem q1091 : (Jvm.Cond.code ({ cls := "ClassGate", name := "dimensions", desc := "(Ljava/lang/String;)I" } : Jvm.MethodName) prog_1_method_70_code (2 : Nat) (Option.some Jvm.ClassFile.FieldType.int)) ∈ lw_all := lw_g (lw_at lw_m5 32 rfl) rfl
theorem q1092 : (Jvm.Cond.methodLink "ClassGate" (485 : Nat) ({ cls := "ClassGate", name := "indexOf", desc := "(LClassGate$Mth;I)I" } : Jvm.MethodName)) ∈ lw_all := lw_g (lw_at lw_m5 33 rfl) rfl
theorem q1093 : (Jvm.Cond.static ({ cls := "ClassGate", name := "indexOf", desc := "(LClassGate$Mth;I)I" } : Jvm.MethodName)) ∈ lw_all := lw_g (lw_at lw_m5 34 rfl) rfl
theorem q1094 : (Jvm.Cond.code ({ cls := "ClassGate", name := "indexOf", desc := "(LClassGate$Mth;I)I" } : Jvm.MethodName) prog_1_method_64_code (2 : Nat) (Option.some Jvm.ClassFile.FieldType.int)) ∈ lw_all := lw_g (lw_at lw_m5 35 rfl) rfl
theorem q1096 : (Jvm.Cond.instanceMethod ({ cls := "ClassGate", name := "jump", desc := "(IIIZ)I" } : Jvm.MethodName)) ∈ lw_all := lw_g (lw_at lw_m5 37 rfl) rfl
theorem q1097 : (Jvm.Cond.selects "ClassGate" ({ cls := "ClassGate", name := "jump", desc := "(IIIZ)I" } : Jvm.MethodName) ({ cls := "ClassGate", name := "jump", desc := "(IIIZ)I" } : Jvm.MethodName)) ∈ lw_all := lw_g (lw_at lw_m5 38 rfl) rfl
theorem q1098 : (Jvm.Cond.code ({ cls := "ClassGate", name := "jump", desc := "(IIIZ)I" } : Jvm.MethodName) prog_1_method_87_code (8 : Nat) (Option.some Jvm.ClassFile.FieldType.int)) ∈ lw_all := lw_g (lw_at lw_m5 39 rfl) rfl
theorem q1099 : (Jvm.Cond.methodLink "ClassGate" (541 : Nat) ({ cls := "ClassGate", name := "cutAt", desc := "(II)LClassGate$Mth;" } : Jvm.MethodName)) ∈ lw_all := lw_g (lw_at lw_m5 40 rfl) rfl
theorem q1100 : (Jvm.Cond.privateMethod ({ cls := "ClassGate", name := "cutAt", desc := "(II)LClassGate$Mth;" } : Jvm.MethodName)) ∈ lw_tbl := lw_at lw_m5 41 rfl
theorem q1101 : (Jvm.Cond.instanceMethod ({ cls := "ClassGate", name := "cutAt", desc := "(II)LClassGate$Mth;" } : Jvm.MethodName)) ∈ lw_all := lw_g (lw_at lw_m5 42 rfl) rfl
theorem q1102 : (Jvm.Cond.code ({ cls := "ClassGate", name := "cutAt", desc := "(II)LClassGate$Mth;" } : Jvm.MethodName) prog_1_method_85_code (3 : Nat) (Option.some (Jvm.ClassFile.FieldType.object "ClassGate$Mth"))) ∈ lw_all := lw_g (lw_at lw_m5 43 rfl) rfl
theorem q1103 : (Jvm.Cond.methodLink "ClassGate" (539 : Nat) ({ cls := "ClassGate", name := "cut", desc := "(I)I" } : Jvm.MethodName)) ∈ lw_all := lw_g (lw_at lw_m5 44 rfl) rfl
theorem q1109 : (Jvm.Cond.instanceMethod ({ cls := "ClassGate", name := "feed", desc := "(IIIII)I" } : Jvm.MethodName)) ∈ lw_all := lw_g (lw_at lw_m5 50 rfl) rfl
theorem q1110 : (Jvm.Cond.selects "ClassGate" ({ cls := "ClassGate", name := "feed", desc := "(IIIII)I" } : Jvm.MethodName) ({ cls := "ClassGate", name := "feed", desc := "(IIIII)I" } : Jvm.MethodName)) ∈ lw_all := lw_g (lw_at lw_m5 51 rfl) rfl
theorem q1111 : (Jvm.Cond.code ({ cls := "ClassGate", name := "feed", desc := "(IIIII)I" } : Jvm.MethodName) prog_1_method_2_code (6 : Nat) (Option.some Jvm.ClassFile.FieldType.int)) ∈ lw_all := lw_g (lw_at lw_m5 52 rfl) rfl
theorem q1112 : (Jvm.Cond.classLink "ClassGate" (31 : Nat) "java/lang/IllegalStateException") ∈ lw_all := lw_g (lw_at lw_m5 53 rfl) rfl
theorem q1121 : (Jvm.Cond.methodLink "ClassGate" (33 : Nat) ({ cls := "java/lang/IllegalStateException", name := "<init>", desc := "()V" } : Jvm.MethodName)) ∈ lw_all := lw_g (lw_at lw_m5 62 rfl) rfl
theorem q1133 : (Jvm.Cond.methodLink "ClassGate" (34 : Nat) ({ cls := "ClassGate", name := "four", desc := "(I)V" } : Jvm.MethodName)) ∈ lw_all := lw_g (lw_at lw_m5 74 rfl) rfl
theorem q1134 : (Jvm.Cond.privateMethod ({ cls := "ClassGate", name := "four", desc := "(I)V" } : Jvm.MethodName)) ∈ lw_tbl := lw_at lw_m5 75 rfl
theorem q1135 : (Jvm.Cond.instanceMethod ({ cls := "ClassGate", name := "four", desc := "(I)V" } : Jvm.MethodName)) ∈ lw_all := lw_g (lw_at lw_m5 76 rfl) rfl
theorem q1136 : (Jvm.Cond.code ({ cls := "ClassGate", name := "four", desc := "(I)V" } : Jvm.MethodName) prog_1_method_3_code (3 : Nat) (Option.none : Option Jvm.ClassFile.FieldType)) ∈ lw_all := lw_g (lw_at lw_m5 77 rfl) rfl
theorem q1142 : (Jvm.Cond.instanceMethod ({ cls := "ClassGate", name := "end", desc := "(I)I" } : Jvm.MethodName)) ∈ lw_all := lw_g (lw_at lw_m5 83 rfl) rfl
theorem q1143 : (Jvm.Cond.selects "ClassGate" ({ cls := "ClassGate", name := "end", desc := "(I)I" } : Jvm.MethodName) ({ cls := "ClassGate", name := "end", desc := "(I)I" } : Jvm.MethodName)) ∈ lw_all := lw_g (lw_at lw_m5 84 rfl) rfl
theorem q1144 : (Jvm.Cond.code ({ cls := "ClassGate", name := "end", desc := "(I)I" } : Jvm.MethodName) prog_1_method_4_code (3 : Nat) (Option.some Jvm.ClassFile.FieldType.int)) ∈ lw_all := lw_g (lw_at lw_m5 85 rfl) rfl
theorem q1145 : (Jvm.Cond.classLink "ClassGate" (38 : Nat) "java/lang/IllegalArgumentException") ∈ lw_all := lw_g (lw_at lw_m5 86 rfl) rfl
theorem q1146 : (Jvm.Cond.methodLink "ClassGate" (40 : Nat) ({ cls := "java/lang/IllegalArgumentException", name := "<init>", desc := "()V" } : Jvm.MethodName)) ∈ lw_all := lw_g (lw_at lw_m5 87 rfl) rfl
theorem q1154 : (Jvm.Cond.instanceMethod ({ cls := "ClassGate", name := "count", desc := "(I)I" } : Jvm.MethodName)) ∈ lw_all := lw_g (lw_at lw_m5 95 rfl) rfl
theorem q1155 : (Jvm.Cond.selects "ClassGate" ({ cls := "ClassGate", name := "count", desc := "(I)I" } : Jvm.MethodName) ({ cls := "ClassGate", name := "count", desc := "(I)I" } : Jvm.MethodName)) ∈ lw_all := lw_g (lw_at lw_m5 96 rfl) rfl
theorem q1156 : (Jvm.Cond.code ({ cls := "ClassGate", name := "count", desc := "(I)I" } : Jvm.MethodName) prog_1_method_72_code (5 : Nat) (Option.some Jvm.ClassFile.FieldType.int)) ∈ lw_all := lw_g (lw_at lw_m5 97 rfl) rfl
theorem q1161 : (Jvm.Cond.instanceMethod ({ cls := "ClassGate", name := "entry", desc := "(II)I" } : Jvm.MethodName)) ∈ lw_all := lw_g (lw_at lw_m5 102 rfl) rfl
theorem q1162 : (Jvm.Cond.selects "ClassGate" ({ cls := "ClassGate", name := "entry", desc := "(II)I" } : Jvm.MethodName) ({ cls := "ClassGate", name := "entry", desc := "(II)I" } : Jvm.MethodName)) ∈ lw_all := lw_g (lw_at lw_m5 103 rfl) rfl
theorem q1163 : (Jvm.Cond.code ({ cls := "ClassGate", name := "entry", desc := "(II)I" } : Jvm.MethodName) prog_1_method_74_code (6 : Nat) (Option.some Jvm.ClassFile.FieldType.int)) ∈ lw_all := lw_g (lw_at lw_m5 104 rfl) rfl
theorem q1168 : (Jvm.Cond.instanceMethod ({ cls := "ClassGate", name := "member", desc := "(ZII)I" } : Jvm.MethodName)) ∈ lw_all := lw_g (lw_at lw_m5 109 rfl) rfl
theorem q1169 : (Jvm.Cond.selects "ClassGate" ({ cls := "ClassGate", name := "member", desc := "(ZII)I" } : Jvm.MethodName) ({ cls := "ClassGate", name := "member", desc := "(ZII)I" } : Jvm.MethodName)) ∈ lw_all := lw_g (lw_at lw_m5 110 rfl) rfl
theorem q1170 : (Jvm.Cond.code ({ cls := "ClassGate", name := "member", desc := "(ZII)I" } : Jvm.MethodName) prog_1_method_79_code (5 : Nat) (Option.some Jvm.ClassFile.FieldType.int)) ∈ lw_all := lw_g (lw_at lw_m5 111 rfl) rfl
theorem q1175 : (Jvm.Cond.instanceMethod ({ cls := "ClassGate", name := "row", desc := "(III)I" } : Jvm.MethodName)) ∈ lw_all := lw_g (lw_at lw_m5 116 rfl) rfl
theorem q1176 : (Jvm.Cond.selects "ClassGate" ({ cls := "ClassGate", name := "row", desc := "(III)I" } : Jvm.MethodName) ({ cls := "ClassGate", name := "row", desc := "(III)I" } : Jvm.MethodName)) ∈ lw_all := lw_g (lw_at lw_m5 117 rfl) rfl
theorem q1177 : (Jvm.Cond.code ({ cls := "ClassGate", name := "row", desc := "(III)I" } : Jvm.MethodName) prog_1_method_82_code (5 : Nat) (Option.some Jvm.ClassFile.FieldType.int)) ∈ lw_all := lw_g (lw_at lw_m5 118 rfl) rfl
theorem q1182 : (Jvm.Cond.instanceMethod ({ cls := "ClassGate", name := "instruction", desc := "(III)I" } : Jvm.MethodName)) ∈ lw_all := lw_g (lw_at lw_m5 123 rfl) rfl
theorem q1183 : (Jvm.Cond.selects "ClassGate" ({ cls := "ClassGate", name := "instruction", desc := "(III)I" } : Jvm.MethodName) ({ cls := "ClassGate", name := "instruction", desc := "(III)I" } : Jvm.MethodName)) ∈ lw_all := lw_g (lw_at lw_m5 124 rfl) rfl
theorem q1184 : (Jvm.Cond.code ({ cls := "ClassGate", name := "instruction", desc := "(III)I" } : Jvm.MethodName) prog_1_method_86_code (8 : Nat) (Option.some Jvm.ClassFile.FieldType.int)) ∈ lw_all := lw_g (lw_at lw_m5 125 rfl) rfl
theorem in_X1 : ∀ w ∈ wsX10, w ∈ lw_all := lw_in wsX10 [177, 179, 181, 183, 185, 187, 189, 191, 193, 195, 197, 199, 201] (by decide +kernel) (by decide +kernel)

/-! ClassGate$Cls -/
set_option maxRecDepth 100000
def RX3 : String := "ClassGate$Cls"
def TX3 : u_T := fun k => match k with
  | 0 => ("ClassGate$Cls", "flags", "I", false)
  | 1 => ("ClassGate$Cls", "major", "I", false)
  | 2 => ("ClassGate$Cls", "minor", "I", false)
  | 3 => ("ClassGate$Cls", "self", "I", false)
  | 4 => ("ClassGate$Cls", "above", "I", false)
  | 5 => ("ClassGate$Cls", "faces", "[I", false)
  | 6 => ("ClassGate$Cls", "poolCount", "I", false)
  | 7 => ("ClassGate$Cls", "tag", "[B", false)
  | 8 => ("ClassGate$Cls", "pa", "[I", false)
  | 9 => ("ClassGate$Cls", "pb", "[I", false)
  | 10 => ("ClassGate$Cls", "pv", "[J", false)
  | 11 => ("ClassGate$Cls", "text", "[Ljava/lang/String;", false)
  | 12 => ("ClassGate$Cls", "fields", "[LClassGate$Fld;", false)
  | 13 => ("ClassGate$Cls", "methods", "[LClassGate$Mth;", false)
  | 14 => ("ClassGate$Cls", "hasHost", "Z", false)
  | 15 => ("ClassGate$Cls", "hasMembers", "Z", false)
  | 16 => ("ClassGate$Cls", "members", "I", false)
  | 17 => ("ClassGate$Cls", "permitted", "I", false)
  | 18 => ("ClassGate$Cls", "inner", "I", false)
  | 19 => ("ClassGate$Cls", "parts", "I", false)
  | 20 => ("ClassGate$Cls", "known", "I", false)
  | _ => ("ClassGate$Cls", "boots", "[[I", false)
def tyX3 : Nat → FieldType := fun k => match k with
  | 0 => .int
  | 1 => .int
  | 2 => .int
  | 3 => .int
  | 4 => .int
  | 5 => .array .int
  | 6 => .int
  | 7 => .array .byte
  | 8 => .array .int
  | 9 => .array .int
  | 10 => .array .long
  | 11 => .array (.object "java/lang/String")
  | 12 => .array (.object "ClassGate$Fld")
  | 13 => .array (.object "ClassGate$Mth")
  | 14 => .boolean
  | 15 => .boolean
  | 16 => .int
  | 17 => .int
  | 18 => .int
  | 19 => .int
  | 20 => .int
  | _ => .array (.array .int)
abbrev wsX30 : List Cond := u_ws RX3 TX3 22
set_option maxRecDepth 100000 in
theorem nmX3 : ∀ a, a < 22 → ∀ b, b < 22 → a ≠ b → (TX3 a).2.1 ≠ (TX3 b).2.1 := by decide +kernel
set_option maxRecDepth 100000 in
theorem tyX3_ok : ∀ k, k < 22 → parseFieldDescriptor (TX3 k).2.2.1 = some (tyX3 k) := by decide +kernel
abbrev cX3_init : ByteArray := prog_2_method_1_code
def yX3_init : MethodName := ⟨RX3, "<init>", "()V"⟩
abbrev cX3_isFace : ByteArray := prog_2_method_2_code
def yX3_isFace : MethodName := ⟨RX3, "isFace", "()Z"⟩
abbrev cX3_isFinal : ByteArray := prog_2_method_3_code
def yX3_isFinal : MethodName := ⟨RX3, "isFinal", "()Z"⟩
theorem q113 : (Jvm.Cond.initialized "ClassGate$Cls") ∈ lw_all := lw_g (lw_at lw_m1 14 rfl) rfl
theorem q213 : (Jvm.Cond.instantiable "ClassGate$Cls" (22 : Nat)) ∈ lw_all := lw_g (lw_at lw_m1 114 rfl) rfl
theorem q215 : (Jvm.Cond.instanceMethod ({ cls := "ClassGate$Cls", name := "<init>", desc := "()V" } : Jvm.MethodName)) ∈ lw_all := lw_g (lw_at lw_m1 116 rfl) rfl
theorem q216 : (Jvm.Cond.code ({ cls := "ClassGate$Cls", name := "<init>", desc := "()V" } : Jvm.MethodName) prog_2_method_1_code (1 : Nat) (Option.none : Option Jvm.ClassFile.FieldType)) ∈ lw_all := lw_g (lw_at lw_m1 117 rfl) rfl
theorem q217 : (Jvm.Cond.methodLink "ClassGate$Cls" (1 : Nat) ({ cls := "java/lang/Object", name := "<init>", desc := "()V" } : Jvm.MethodName)) ∈ lw_all := lw_g (lw_at lw_m1 118 rfl) rfl
theorem q218 : (Jvm.Cond.classLink "ClassGate$Cls" (13 : Nat) "ClassGate$Fld") ∈ lw_all := lw_g (lw_at lw_m1 119 rfl) rfl
theorem q220 : (Jvm.Cond.classLink "ClassGate$Cls" (19 : Nat) "ClassGate$Mth") ∈ lw_all := lw_g (lw_at lw_m1 121 rfl) rfl
theorem q222 : (Jvm.Cond.classLink "ClassGate$Cls" (29 : Nat) "[I") ∈ lw_all := lw_g (lw_at lw_m1 123 rfl) rfl
theorem q224 : (Jvm.Cond.fieldLink "ClassGate$Cls" (34 : Nat) "ClassGate$Cls" "flags" "I") ∈ lw_all := lw_g (lw_at lw_m1 125 rfl) rfl
theorem q230 : (Jvm.Cond.fieldLink "ClassGate$Cls" (7 : Nat) "ClassGate$Cls" "faces" "[I") ∈ lw_all := lw_g (lw_at lw_m1 131 rfl) rfl
theorem q238 : (Jvm.Cond.fieldLink "ClassGate$Cls" (15 : Nat) "ClassGate$Cls" "fields" "[LClassGate$Fld;") ∈ lw_all := lw_g (lw_at lw_m1 139 rfl) rfl
theorem q240 : (Jvm.Cond.fieldLink "ClassGate$Cls" (21 : Nat) "ClassGate$Cls" "methods" "[LClassGate$Mth;") ∈ lw_all := lw_g (lw_at lw_m1 141 rfl) rfl
theorem q247 : (Jvm.Cond.fieldLink "ClassGate$Cls" (25 : Nat) "ClassGate$Cls" "parts" "I") ∈ lw_all := lw_g (lw_at lw_m1 148 rfl) rfl
theorem q250 : (Jvm.Cond.fieldLink "ClassGate$Cls" (30 : Nat) "ClassGate$Cls" "boots" "[[I") ∈ lw_all := lw_g (lw_at lw_m1 151 rfl) rfl
theorem q252 : (Jvm.Cond.lays "ClassGate$Cls" "ClassGate$Cls" "flags" "I") ∈ lw_all := lw_g (lw_at lw_m1 153 rfl) rfl
theorem q253 : (Jvm.Cond.soleField "ClassGate$Cls" "flags") ∈ lw_all := lw_g (lw_at lw_m1 154 rfl) rfl
theorem q254 : (Jvm.Cond.lays "ClassGate$Cls" "ClassGate$Cls" "major" "I") ∈ lw_all := lw_g (lw_at lw_m1 155 rfl) rfl
theorem q255 : (Jvm.Cond.soleField "ClassGate$Cls" "major") ∈ lw_all := lw_g (lw_at lw_m1 156 rfl) rfl
theorem q256 : (Jvm.Cond.lays "ClassGate$Cls" "ClassGate$Cls" "minor" "I") ∈ lw_all := lw_g (lw_at lw_m1 157 rfl) rfl
theorem q257 : (Jvm.Cond.soleField "ClassGate$Cls" "minor") ∈ lw_all := lw_g (lw_at lw_m1 158 rfl) rfl
theorem q258 : (Jvm.Cond.lays "ClassGate$Cls" "ClassGate$Cls" "self" "I") ∈ lw_all := lw_g (lw_at lw_m1 159 rfl) rfl
theorem q259 : (Jvm.Cond.soleField "ClassGate$Cls" "self") ∈ lw_all := lw_g (lw_at lw_m1 160 rfl) rfl
theorem q260 : (Jvm.Cond.lays "ClassGate$Cls" "ClassGate$Cls" "above" "I") ∈ lw_all := lw_g (lw_at lw_m1 161 rfl) rfl
theorem q261 : (Jvm.Cond.soleField "ClassGate$Cls" "above") ∈ lw_all := lw_g (lw_at lw_m1 162 rfl) rfl
theorem q262 : (Jvm.Cond.lays "ClassGate$Cls" "ClassGate$Cls" "faces" "[I") ∈ lw_all := lw_g (lw_at lw_m1 163 rfl) rfl
theorem q263 : (Jvm.Cond.soleField "ClassGate$Cls" "faces") ∈ lw_all := lw_g (lw_at lw_m1 164 rfl) rfl
theorem q264 : (Jvm.Cond.lays "ClassGate$Cls" "ClassGate$Cls" "poolCount" "I") ∈ lw_all := lw_g (lw_at lw_m1 165 rfl) rfl
theorem q265 : (Jvm.Cond.soleField "ClassGate$Cls" "poolCount") ∈ lw_all := lw_g (lw_at lw_m1 166 rfl) rfl
theorem q266 : (Jvm.Cond.lays "ClassGate$Cls" "ClassGate$Cls" "tag" "[B") ∈ lw_all := lw_g (lw_at lw_m1 167 rfl) rfl
theorem q267 : (Jvm.Cond.soleField "ClassGate$Cls" "tag") ∈ lw_all := lw_g (lw_at lw_m1 168 rfl) rfl
theorem q268 : (Jvm.Cond.lays "ClassGate$Cls" "ClassGate$Cls" "pa" "[I") ∈ lw_all := lw_g (lw_at lw_m1 169 rfl) rfl
theorem q269 : (Jvm.Cond.soleField "ClassGate$Cls" "pa") ∈ lw_all := lw_g (lw_at lw_m1 170 rfl) rfl
theorem q270 : (Jvm.Cond.lays "ClassGate$Cls" "ClassGate$Cls" "pb" "[I") ∈ lw_all := lw_g (lw_at lw_m1 171 rfl) rfl
theorem q271 : (Jvm.Cond.soleField "ClassGate$Cls" "pb") ∈ lw_all := lw_g (lw_at lw_m1 172 rfl) rfl
theorem q272 : (Jvm.Cond.lays "ClassGate$Cls" "ClassGate$Cls" "pv" "[J") ∈ lw_all := lw_g (lw_at lw_m1 173 rfl) rfl
theorem q273 : (Jvm.Cond.soleField "ClassGate$Cls" "pv") ∈ lw_all := lw_g (lw_at lw_m1 174 rfl) rfl
theorem q274 : (Jvm.Cond.lays "ClassGate$Cls" "ClassGate$Cls" "text" "[Ljava/lang/String;") ∈ lw_all := lw_g (lw_at lw_m1 175 rfl) rfl
theorem q275 : (Jvm.Cond.soleField "ClassGate$Cls" "text") ∈ lw_all := lw_g (lw_at lw_m1 176 rfl) rfl
theorem q276 : (Jvm.Cond.lays "ClassGate$Cls" "ClassGate$Cls" "fields" "[LClassGate$Fld;") ∈ lw_all := lw_g (lw_at lw_m1 177 rfl) rfl
theorem q277 : (Jvm.Cond.soleField "ClassGate$Cls" "fields") ∈ lw_all := lw_g (lw_at lw_m1 178 rfl) rfl
theorem q278 : (Jvm.Cond.lays "ClassGate$Cls" "ClassGate$Cls" "methods" "[LClassGate$Mth;") ∈ lw_all := lw_g (lw_at lw_m1 179 rfl) rfl
theorem q279 : (Jvm.Cond.soleField "ClassGate$Cls" "methods") ∈ lw_all := lw_g (lw_at lw_m1 180 rfl) rfl
theorem q280 : (Jvm.Cond.lays "ClassGate$Cls" "ClassGate$Cls" "hasHost" "Z") ∈ lw_all := lw_g (lw_at lw_m1 181 rfl) rfl
theorem q281 : (Jvm.Cond.soleField "ClassGate$Cls" "hasHost") ∈ lw_all := lw_g (lw_at lw_m1 182 rfl) rfl
theorem q282 : (Jvm.Cond.lays "ClassGate$Cls" "ClassGate$Cls" "hasMembers" "Z") ∈ lw_all := lw_g (lw_at lw_m1 183 rfl) rfl
theorem q283 : (Jvm.Cond.soleField "ClassGate$Cls" "hasMembers") ∈ lw_all := lw_g (lw_at lw_m1 184 rfl) rfl
theorem q284 : (Jvm.Cond.lays "ClassGate$Cls" "ClassGate$Cls" "members" "I") ∈ lw_all := lw_g (lw_at lw_m1 185 rfl) rfl
theorem q285 : (Jvm.Cond.soleField "ClassGate$Cls" "members") ∈ lw_all := lw_g (lw_at lw_m1 186 rfl) rfl
theorem q286 : (Jvm.Cond.lays "ClassGate$Cls" "ClassGate$Cls" "permitted" "I") ∈ lw_all := lw_g (lw_at lw_m1 187 rfl) rfl
theorem q287 : (Jvm.Cond.soleField "ClassGate$Cls" "permitted") ∈ lw_all := lw_g (lw_at lw_m1 188 rfl) rfl
theorem q288 : (Jvm.Cond.lays "ClassGate$Cls" "ClassGate$Cls" "inner" "I") ∈ lw_all := lw_g (lw_at lw_m1 189 rfl) rfl
theorem q289 : (Jvm.Cond.soleField "ClassGate$Cls" "inner") ∈ lw_all := lw_g (lw_at lw_m1 190 rfl) rfl
theorem q290 : (Jvm.Cond.lays "ClassGate$Cls" "ClassGate$Cls" "parts" "I") ∈ lw_all := lw_g (lw_at lw_m1 191 rfl) rfl
theorem q291 : (Jvm.Cond.soleField "ClassGate$Cls" "parts") ∈ lw_all := lw_g (lw_at lw_m1 192 rfl) rfl
theorem q292 : (Jvm.Cond.lays "ClassGate$Cls" "ClassGate$Cls" "known" "I") ∈ lw_all := lw_g (lw_at lw_m1 193 rfl) rfl
theorem q293 : (Jvm.Cond.soleField "ClassGate$Cls" "known") ∈ lw_all := lw_g (lw_at lw_m1 194 rfl) rfl
theorem q294 : (Jvm.Cond.lays "ClassGate$Cls" "ClassGate$Cls" "boots" "[[I") ∈ lw_all := lw_g (lw_at lw_m1 195 rfl) rfl
theorem q295 : (Jvm.Cond.soleField "ClassGate$Cls" "boots") ∈ lw_all := lw_g (lw_at lw_m1 196 rfl) rfl
theorem q296 : (Jvm.Cond.superclass "ClassGate$Cls" "java/lang/Object") ∈ lw_all := lw_g (lw_at lw_m1 197 rfl) rfl
theorem q837 : (Jvm.Cond.instanceMethod ({ cls := "ClassGate$Cls", name := "isFace", desc := "()Z" } : Jvm.MethodName)) ∈ lw_all := lw_g (lw_at lw_m4 18 rfl) rfl
theorem q838 : (Jvm.Cond.selects "ClassGate$Cls" ({ cls := "ClassGate$Cls", name := "isFace", desc := "()Z" } : Jvm.MethodName) ({ cls := "ClassGate$Cls", name := "isFace", desc := "()Z" } : Jvm.MethodName)) ∈ lw_all := lw_g (lw_at lw_m4 19 rfl) rfl
theorem q839 : (Jvm.Cond.code ({ cls := "ClassGate$Cls", name := "isFace", desc := "()Z" } : Jvm.MethodName) prog_2_method_2_code (1 : Nat) (Option.some Jvm.ClassFile.FieldType.boolean)) ∈ lw_all := lw_g (lw_at lw_m4 20 rfl) rfl
theorem q898 : (Jvm.Cond.instanceMethod ({ cls := "ClassGate$Cls", name := "isFinal", desc := "()Z" } : Jvm.MethodName)) ∈ lw_all := lw_g (lw_at lw_m4 79 rfl) rfl
theorem q899 : (Jvm.Cond.selects "ClassGate$Cls" ({ cls := "ClassGate$Cls", name := "isFinal", desc := "()Z" } : Jvm.MethodName) ({ cls := "ClassGate$Cls", name := "isFinal", desc := "()Z" } : Jvm.MethodName)) ∈ lw_all := lw_g (lw_at lw_m4 80 rfl) rfl
theorem q900 : (Jvm.Cond.code ({ cls := "ClassGate$Cls", name := "isFinal", desc := "()Z" } : Jvm.MethodName) prog_2_method_3_code (1 : Nat) (Option.some Jvm.ClassFile.FieldType.boolean)) ∈ lw_all := lw_g (lw_at lw_m4 81 rfl) rfl
theorem in_X3 : ∀ w ∈ wsX30, w ∈ lw_all := lw_in wsX30 [252, 254, 256, 258, 260, 262, 264, 266, 268, 270, 272, 274, 276, 278, 280, 282, 284, 286, 288, 290, 292, 294] (by decide +kernel) (by decide +kernel)

/-! ClassGate$Fld -/
set_option maxRecDepth 100000
def RX4 : String := "ClassGate$Fld"
def TX4 : u_T := fun k => match k with
  | 0 => ("ClassGate$Fld", "name", "Ljava/lang/String;", false)
  | 1 => ("ClassGate$Fld", "desc", "Ljava/lang/String;", false)
  | 2 => ("ClassGate$Fld", "nameEntry", "I", false)
  | 3 => ("ClassGate$Fld", "descEntry", "I", false)
  | 4 => ("ClassGate$Fld", "flags", "I", false)
  | 5 => ("ClassGate$Fld", "constant", "I", false)
  | 6 => ("ClassGate$Fld", "kind", "I", false)
  | _ => ("ClassGate$Fld", "known", "I", false)
def tyX4 : Nat → FieldType := fun k => match k with
  | 0 => .object "java/lang/String"
  | 1 => .object "java/lang/String"
  | 2 => .int
  | 3 => .int
  | 4 => .int
  | 5 => .int
  | 6 => .int
  | _ => .int
abbrev wsX40 : List Cond := u_ws RX4 TX4 8
theorem nmX4 : ∀ a, a < 8 → ∀ b, b < 8 → a ≠ b → (TX4 a).2.1 ≠ (TX4 b).2.1 := by decide +kernel
theorem tyX4_ok : ∀ k, k < 8 → parseFieldDescriptor (TX4 k).2.2.1 = some (tyX4 k) := by decide +kernel
abbrev cX4_init : ByteArray := prog_3_method_1_code
def yX4_init : MethodName := ⟨RX4, "<init>", "()V"⟩
theorem q120 : (Jvm.Cond.initialized "ClassGate$Fld") ∈ lw_all := lw_g (lw_at lw_m1 21 rfl) rfl
theorem q803 : (Jvm.Cond.instantiable "ClassGate$Fld" (8 : Nat)) ∈ lw_all := lw_g (lw_at lw_m3 224 rfl) rfl
theorem q805 : (Jvm.Cond.instanceMethod ({ cls := "ClassGate$Fld", name := "<init>", desc := "()V" } : Jvm.MethodName)) ∈ lw_all := lw_g (lw_at lw_m3 226 rfl) rfl
theorem q806 : (Jvm.Cond.code ({ cls := "ClassGate$Fld", name := "<init>", desc := "()V" } : Jvm.MethodName) prog_3_method_1_code (1 : Nat) (Option.none : Option Jvm.ClassFile.FieldType)) ∈ lw_all := lw_g (lw_at lw_m3 227 rfl) rfl
theorem q807 : (Jvm.Cond.methodLink "ClassGate$Fld" (1 : Nat) ({ cls := "java/lang/Object", name := "<init>", desc := "()V" } : Jvm.MethodName)) ∈ lw_all := lw_g (lw_at lw_m3 228 rfl) rfl
theorem q816 : (Jvm.Cond.lays "ClassGate$Fld" "ClassGate$Fld" "name" "Ljava/lang/String;") ∈ lw_all := lw_g (lw_at lw_m3 237 rfl) rfl
theorem q817 : (Jvm.Cond.soleField "ClassGate$Fld" "name") ∈ lw_all := lw_g (lw_at lw_m3 238 rfl) rfl
theorem q818 : (Jvm.Cond.lays "ClassGate$Fld" "ClassGate$Fld" "desc" "Ljava/lang/String;") ∈ lw_all := lw_g (lw_at lw_m3 239 rfl) rfl
theorem q819 : (Jvm.Cond.soleField "ClassGate$Fld" "desc") ∈ lw_all := lw_g (lw_at lw_m4 0 rfl) rfl
theorem q820 : (Jvm.Cond.lays "ClassGate$Fld" "ClassGate$Fld" "nameEntry" "I") ∈ lw_all := lw_g (lw_at lw_m4 1 rfl) rfl
theorem q821 : (Jvm.Cond.soleField "ClassGate$Fld" "nameEntry") ∈ lw_all := lw_g (lw_at lw_m4 2 rfl) rfl
theorem q822 : (Jvm.Cond.lays "ClassGate$Fld" "ClassGate$Fld" "descEntry" "I") ∈ lw_all := lw_g (lw_at lw_m4 3 rfl) rfl
theorem q823 : (Jvm.Cond.soleField "ClassGate$Fld" "descEntry") ∈ lw_all := lw_g (lw_at lw_m4 4 rfl) rfl
theorem q824 : (Jvm.Cond.lays "ClassGate$Fld" "ClassGate$Fld" "flags" "I") ∈ lw_all := lw_g (lw_at lw_m4 5 rfl) rfl
theorem q825 : (Jvm.Cond.soleField "ClassGate$Fld" "flags") ∈ lw_all := lw_g (lw_at lw_m4 6 rfl) rfl
theorem q826 : (Jvm.Cond.lays "ClassGate$Fld" "ClassGate$Fld" "constant" "I") ∈ lw_all := lw_g (lw_at lw_m4 7 rfl) rfl
theorem q827 : (Jvm.Cond.soleField "ClassGate$Fld" "constant") ∈ lw_all := lw_g (lw_at lw_m4 8 rfl) rfl
theorem q828 : (Jvm.Cond.lays "ClassGate$Fld" "ClassGate$Fld" "kind" "I") ∈ lw_all := lw_g (lw_at lw_m4 9 rfl) rfl
theorem q829 : (Jvm.Cond.soleField "ClassGate$Fld" "kind") ∈ lw_all := lw_g (lw_at lw_m4 10 rfl) rfl
theorem q830 : (Jvm.Cond.lays "ClassGate$Fld" "ClassGate$Fld" "known" "I") ∈ lw_all := lw_g (lw_at lw_m4 11 rfl) rfl
theorem q831 : (Jvm.Cond.soleField "ClassGate$Fld" "known") ∈ lw_all := lw_g (lw_at lw_m4 12 rfl) rfl
theorem q832 : (Jvm.Cond.superclass "ClassGate$Fld" "java/lang/Object") ∈ lw_all := lw_g (lw_at lw_m4 13 rfl) rfl
theorem in_X4 : ∀ w ∈ wsX40, w ∈ lw_all := lw_in wsX40 [816, 818, 820, 822, 824, 826, 828, 830] (by decide +kernel) (by decide +kernel)

/-! ClassGate$Mth -/
set_option maxRecDepth 100000
def RX5 : String := "ClassGate$Mth"
def TX5 : u_T := fun k => match k with
  | 0 => ("ClassGate$Mth", "owner", "LClassGate$Cls;", false)
  | 1 => ("ClassGate$Mth", "name", "Ljava/lang/String;", false)
  | 2 => ("ClassGate$Mth", "desc", "Ljava/lang/String;", false)
  | 3 => ("ClassGate$Mth", "nameEntry", "I", false)
  | 4 => ("ClassGate$Mth", "descEntry", "I", false)
  | 5 => ("ClassGate$Mth", "flags", "I", false)
  | 6 => ("ClassGate$Mth", "known", "I", false)
  | 7 => ("ClassGate$Mth", "exceptions", "I", false)
  | 8 => ("ClassGate$Mth", "maxStack", "I", false)
  | 9 => ("ClassGate$Mth", "maxLocals", "I", false)
  | 10 => ("ClassGate$Mth", "hasCode", "Z", false)
  | 11 => ("ClassGate$Mth", "code", "[B", false)
  | 12 => ("ClassGate$Mth", "rows", "[I", false)
  | 13 => ("ClassGate$Mth", "places", "I", false)
  | 14 => ("ClassGate$Mth", "state", "I", false)
  | 15 => ("ClassGate$Mth", "count", "I", false)
  | 16 => ("ClassGate$Mth", "at", "[I", false)
  | 17 => ("ClassGate$Mth", "op", "[I", false)
  | 18 => ("ClassGate$Mth", "a", "[I", false)
  | 19 => ("ClassGate$Mth", "b", "[I", false)
  | 20 => ("ClassGate$Mth", "indexAt", "[I", false)
  | _ => ("ClassGate$Mth", "jumps", "[[I", false)
def tyX5 : Nat → FieldType := fun k => match k with
  | 0 => .object "ClassGate$Cls"
  | 1 => .object "java/lang/String"
  | 2 => .object "java/lang/String"
  | 3 => .int
  | 4 => .int
  | 5 => .int
  | 6 => .int
  | 7 => .int
  | 8 => .int
  | 9 => .int
  | 10 => .boolean
  | 11 => .array .byte
  | 12 => .array .int
  | 13 => .int
  | 14 => .int
  | 15 => .int
  | 16 => .array .int
  | 17 => .array .int
  | 18 => .array .int
  | 19 => .array .int
  | 20 => .array .int
  | _ => .array (.array .int)
abbrev wsX50 : List Cond := u_ws RX5 TX5 22
set_option maxRecDepth 100000 in
theorem nmX5 : ∀ a, a < 22 → ∀ b, b < 22 → a ≠ b → (TX5 a).2.1 ≠ (TX5 b).2.1 := by decide +kernel
set_option maxRecDepth 100000 in
theorem tyX5_ok : ∀ k, k < 22 → parseFieldDescriptor (TX5 k).2.2.1 = some (tyX5 k) := by decide +kernel
abbrev cX5_init : ByteArray := prog_4_method_1_code
def yX5_init : MethodName := ⟨RX5, "<init>", "()V"⟩
abbrev cX5_isInit : ByteArray := prog_4_method_3_code
def yX5_isInit : MethodName := ⟨RX5, "isInit", "()Z"⟩
abbrev cX5_isStatic : ByteArray := prog_4_method_2_code
def yX5_isStatic : MethodName := ⟨RX5, "isStatic", "()Z"⟩
theorem q121 : (Jvm.Cond.initialized "ClassGate$Mth") ∈ lw_all := lw_g (lw_at lw_m1 22 rfl) rfl
theorem q906 : (Jvm.Cond.instantiable "ClassGate$Mth" (22 : Nat)) ∈ lw_all := lw_g (lw_at lw_m4 87 rfl) rfl
theorem q908 : (Jvm.Cond.instanceMethod ({ cls := "ClassGate$Mth", name := "<init>", desc := "()V" } : Jvm.MethodName)) ∈ lw_all := lw_g (lw_at lw_m4 89 rfl) rfl
theorem q909 : (Jvm.Cond.code ({ cls := "ClassGate$Mth", name := "<init>", desc := "()V" } : Jvm.MethodName) prog_4_method_1_code (1 : Nat) (Option.none : Option Jvm.ClassFile.FieldType)) ∈ lw_all := lw_g (lw_at lw_m4 90 rfl) rfl
theorem q910 : (Jvm.Cond.methodLink "ClassGate$Mth" (1 : Nat) ({ cls := "java/lang/Object", name := "<init>", desc := "()V" } : Jvm.MethodName)) ∈ lw_all := lw_g (lw_at lw_m4 91 rfl) rfl
theorem q912 : (Jvm.Cond.fieldLink "ClassGate$Mth" (17 : Nat) "ClassGate$Mth" "name" "Ljava/lang/String;") ∈ lw_all := lw_g (lw_at lw_m4 93 rfl) rfl
theorem q917 : (Jvm.Cond.fieldLink "ClassGate$Mth" (13 : Nat) "ClassGate$Mth" "flags" "I") ∈ lw_all := lw_g (lw_at lw_m4 98 rfl) rfl
theorem q925 : (Jvm.Cond.fieldLink "ClassGate$Mth" (7 : Nat) "ClassGate$Mth" "rows" "[I") ∈ lw_all := lw_g (lw_at lw_m4 106 rfl) rfl
theorem q936 : (Jvm.Cond.lays "ClassGate$Mth" "ClassGate$Mth" "owner" "LClassGate$Cls;") ∈ lw_all := lw_g (lw_at lw_m4 117 rfl) rfl
theorem q937 : (Jvm.Cond.soleField "ClassGate$Mth" "owner") ∈ lw_all := lw_g (lw_at lw_m4 118 rfl) rfl
theorem q938 : (Jvm.Cond.lays "ClassGate$Mth" "ClassGate$Mth" "name" "Ljava/lang/String;") ∈ lw_all := lw_g (lw_at lw_m4 119 rfl) rfl
theorem q939 : (Jvm.Cond.soleField "ClassGate$Mth" "name") ∈ lw_all := lw_g (lw_at lw_m4 120 rfl) rfl
theorem q940 : (Jvm.Cond.lays "ClassGate$Mth" "ClassGate$Mth" "desc" "Ljava/lang/String;") ∈ lw_all := lw_g (lw_at lw_m4 121 rfl) rfl
theorem q941 : (Jvm.Cond.soleField "ClassGate$Mth" "desc") ∈ lw_all := lw_g (lw_at lw_m4 122 rfl) rfl
theorem q942 : (Jvm.Cond.lays "ClassGate$Mth" "ClassGate$Mth" "nameEntry" "I") ∈ lw_all := lw_g (lw_at lw_m4 123 rfl) rfl
theorem q943 : (Jvm.Cond.soleField "ClassGate$Mth" "nameEntry") ∈ lw_all := lw_g (lw_at lw_m4 124 rfl) rfl
theorem q944 : (Jvm.Cond.lays "ClassGate$Mth" "ClassGate$Mth" "descEntry" "I") ∈ lw_all := lw_g (lw_at lw_m4 125 rfl) rfl
theorem q945 : (Jvm.Cond.soleField "ClassGate$Mth" "descEntry") ∈ lw_all := lw_g (lw_at lw_m4 126 rfl) rfl
theorem q946 : (Jvm.Cond.lays "ClassGate$Mth" "ClassGate$Mth" "flags" "I") ∈ lw_all := lw_g (lw_at lw_m4 127 rfl) rfl
theorem q947 : (Jvm.Cond.soleField "ClassGate$Mth" "flags") ∈ lw_all := lw_g (lw_at lw_m4 128 rfl) rfl
theorem q948 : (Jvm.Cond.lays "ClassGate$Mth" "ClassGate$Mth" "known" "I") ∈ lw_all := lw_g (lw_at lw_m4 129 rfl) rfl
theorem q949 : (Jvm.Cond.soleField "ClassGate$Mth" "known") ∈ lw_all := lw_g (lw_at lw_m4 130 rfl) rfl
theorem q950 : (Jvm.Cond.lays "ClassGate$Mth" "ClassGate$Mth" "exceptions" "I") ∈ lw_all := lw_g (lw_at lw_m4 131 rfl) rfl
theorem q951 : (Jvm.Cond.soleField "ClassGate$Mth" "exceptions") ∈ lw_all := lw_g (lw_at lw_m4 132 rfl) rfl
theorem q952 : (Jvm.Cond.lays "ClassGate$Mth" "ClassGate$Mth" "maxStack" "I") ∈ lw_all := lw_g (lw_at lw_m4 133 rfl) rfl
theorem q953 : (Jvm.Cond.soleField "ClassGate$Mth" "maxStack") ∈ lw_all := lw_g (lw_at lw_m4 134 rfl) rfl
theorem q954 : (Jvm.Cond.lays "ClassGate$Mth" "ClassGate$Mth" "maxLocals" "I") ∈ lw_all := lw_g (lw_at lw_m4 135 rfl) rfl
theorem q955 : (Jvm.Cond.soleField "ClassGate$Mth" "maxLocals") ∈ lw_all := lw_g (lw_at lw_m4 136 rfl) rfl
theorem q956 : (Jvm.Cond.lays "ClassGate$Mth" "ClassGate$Mth" "hasCode" "Z") ∈ lw_all := lw_g (lw_at lw_m4 137 rfl) rfl
theorem q957 : (Jvm.Cond.soleField "ClassGate$Mth" "hasCode") ∈ lw_all := lw_g (lw_at lw_m4 138 rfl) rfl
theorem q958 : (Jvm.Cond.lays "ClassGate$Mth" "ClassGate$Mth" "code" "[B") ∈ lw_all := lw_g (lw_at lw_m4 139 rfl) rfl
theorem q959 : (Jvm.Cond.soleField "ClassGate$Mth" "code") ∈ lw_all := lw_g (lw_at lw_m4 140 rfl) rfl
theorem q960 : (Jvm.Cond.lays "ClassGate$Mth" "ClassGate$Mth" "rows" "[I") ∈ lw_all := lw_g (lw_at lw_m4 141 rfl) rfl
theorem q961 : (Jvm.Cond.soleField "ClassGate$Mth" "rows") ∈ lw_all := lw_g (lw_at lw_m4 142 rfl) rfl
theorem q962 : (Jvm.Cond.lays "ClassGate$Mth" "ClassGate$Mth" "places" "I") ∈ lw_all := lw_g (lw_at lw_m4 143 rfl) rfl
theorem q963 : (Jvm.Cond.soleField "ClassGate$Mth" "places") ∈ lw_all := lw_g (lw_at lw_m4 144 rfl) rfl
theorem q964 : (Jvm.Cond.lays "ClassGate$Mth" "ClassGate$Mth" "state" "I") ∈ lw_all := lw_g (lw_at lw_m4 145 rfl) rfl
theorem q965 : (Jvm.Cond.soleField "ClassGate$Mth" "state") ∈ lw_all := lw_g (lw_at lw_m4 146 rfl) rfl
theorem q966 : (Jvm.Cond.lays "ClassGate$Mth" "ClassGate$Mth" "count" "I") ∈ lw_all := lw_g (lw_at lw_m4 147 rfl) rfl
theorem q967 : (Jvm.Cond.soleField "ClassGate$Mth" "count") ∈ lw_all := lw_g (lw_at lw_m4 148 rfl) rfl
theorem q968 : (Jvm.Cond.lays "ClassGate$Mth" "ClassGate$Mth" "at" "[I") ∈ lw_all := lw_g (lw_at lw_m4 149 rfl) rfl
theorem q969 : (Jvm.Cond.soleField "ClassGate$Mth" "at") ∈ lw_all := lw_g (lw_at lw_m4 150 rfl) rfl
theorem q970 : (Jvm.Cond.lays "ClassGate$Mth" "ClassGate$Mth" "op" "[I") ∈ lw_all := lw_g (lw_at lw_m4 151 rfl) rfl
theorem q971 : (Jvm.Cond.soleField "ClassGate$Mth" "op") ∈ lw_all := lw_g (lw_at lw_m4 152 rfl) rfl
theorem q972 : (Jvm.Cond.lays "ClassGate$Mth" "ClassGate$Mth" "a" "[I") ∈ lw_all := lw_g (lw_at lw_m4 153 rfl) rfl
theorem q973 : (Jvm.Cond.soleField "ClassGate$Mth" "a") ∈ lw_all := lw_g (lw_at lw_m4 154 rfl) rfl
theorem q974 : (Jvm.Cond.lays "ClassGate$Mth" "ClassGate$Mth" "b" "[I") ∈ lw_all := lw_g (lw_at lw_m4 155 rfl) rfl
theorem q975 : (Jvm.Cond.soleField "ClassGate$Mth" "b") ∈ lw_all := lw_g (lw_at lw_m4 156 rfl) rfl
theorem q976 : (Jvm.Cond.lays "ClassGate$Mth" "ClassGate$Mth" "indexAt" "[I") ∈ lw_all := lw_g (lw_at lw_m4 157 rfl) rfl
theorem q977 : (Jvm.Cond.soleField "ClassGate$Mth" "indexAt") ∈ lw_all := lw_g (lw_at lw_m4 158 rfl) rfl
theorem q978 : (Jvm.Cond.lays "ClassGate$Mth" "ClassGate$Mth" "jumps" "[[I") ∈ lw_all := lw_g (lw_at lw_m4 159 rfl) rfl
theorem q979 : (Jvm.Cond.soleField "ClassGate$Mth" "jumps") ∈ lw_all := lw_g (lw_at lw_m4 160 rfl) rfl
theorem q980 : (Jvm.Cond.superclass "ClassGate$Mth" "java/lang/Object") ∈ lw_all := lw_g (lw_at lw_m4 161 rfl) rfl
theorem q982 : (Jvm.Cond.instanceMethod ({ cls := "ClassGate$Mth", name := "isInit", desc := "()Z" } : Jvm.MethodName)) ∈ lw_all := lw_g (lw_at lw_m4 163 rfl) rfl
theorem q983 : (Jvm.Cond.selects "ClassGate$Mth" ({ cls := "ClassGate$Mth", name := "isInit", desc := "()Z" } : Jvm.MethodName) ({ cls := "ClassGate$Mth", name := "isInit", desc := "()Z" } : Jvm.MethodName)) ∈ lw_all := lw_g (lw_at lw_m4 164 rfl) rfl
theorem q984 : (Jvm.Cond.code ({ cls := "ClassGate$Mth", name := "isInit", desc := "()Z" } : Jvm.MethodName) prog_4_method_3_code (1 : Nat) (Option.some Jvm.ClassFile.FieldType.boolean)) ∈ lw_all := lw_g (lw_at lw_m4 165 rfl) rfl
theorem q985 : (Jvm.Cond.stringRef "ClassGate$Mth" (21 : Nat) "<init>") ∈ lw_tbl := lw_at lw_m4 166 rfl
theorem q986 : (Jvm.Cond.methodLink "ClassGate$Mth" (22 : Nat) ({ cls := "java/lang/String", name := "equals", desc := "(Ljava/lang/Object;)Z" } : Jvm.MethodName)) ∈ lw_all := lw_g (lw_at lw_m4 167 rfl) rfl
theorem q992 : (Jvm.Cond.instanceMethod ({ cls := "ClassGate$Mth", name := "isStatic", desc := "()Z" } : Jvm.MethodName)) ∈ lw_all := lw_g (lw_at lw_m4 173 rfl) rfl
theorem q993 : (Jvm.Cond.selects "ClassGate$Mth" ({ cls := "ClassGate$Mth", name := "isStatic", desc := "()Z" } : Jvm.MethodName) ({ cls := "ClassGate$Mth", name := "isStatic", desc := "()Z" } : Jvm.MethodName)) ∈ lw_all := lw_g (lw_at lw_m4 174 rfl) rfl
theorem q994 : (Jvm.Cond.code ({ cls := "ClassGate$Mth", name := "isStatic", desc := "()Z" } : Jvm.MethodName) prog_4_method_2_code (1 : Nat) (Option.some Jvm.ClassFile.FieldType.boolean)) ∈ lw_all := lw_g (lw_at lw_m4 175 rfl) rfl
theorem in_X5 : ∀ w ∈ wsX50, w ∈ lw_all := lw_in wsX50 [936, 938, 940, 942, 944, 946, 948, 950, 952, 954, 956, 958, 960, 962, 964, 966, 968, 970, 972, 974, 976, 978] (by decide +kernel) (by decide +kernel)

