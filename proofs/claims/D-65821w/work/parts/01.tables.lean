-- ===== PART A: goes FIRST, ahead of the names: the tables' words, and 'selects' of the private methods out of them =====
/-- a private method of a class that the tables say can be made, by its rows of tables_1 -/
def lw_okq (q : MethodName × Nat) : Prop := (q.1.cls ≠ "java/lang/invoke/MethodHandle" ∧ q.1.cls ≠ "java/lang/invoke/VarHandle") ∧ Cond.instantiable q.1.cls q.2 ∈ tables_1 ∧ Cond.privateMethod q.1 ∈ tables_1 ∧ Cond.instanceMethod q.1 ∈ tables_1
set_option maxRecDepth 100000
theorem lw_t1 {w : Cond} (h : w ∈ tables_1_1) : w ∈ tables_1 := List.mem_append_left _ h
theorem lw_t2 {w : Cond} (h : w ∈ tables_1_2) : w ∈ tables_1 := List.mem_append_right _ (List.mem_append_left _ h)
theorem lw_t3 {w : Cond} (h : w ∈ tables_1_3) : w ∈ tables_1 := List.mem_append_right _ (List.mem_append_right _ (List.mem_append_left _ h))
theorem lw_t4 {w : Cond} (h : w ∈ tables_1_4) : w ∈ tables_1 := List.mem_append_right _ (List.mem_append_right _ (List.mem_append_right _ (List.mem_append_left _ h)))
theorem lw_t5 {w : Cond} (h : w ∈ tables_1_5) : w ∈ tables_1 := List.mem_append_right _ (List.mem_append_right _ (List.mem_append_right _ (List.mem_append_right _ (List.mem_append_left _ h))))
theorem lw_t6 {w : Cond} (h : w ∈ tables_1_6) : w ∈ tables_1 := List.mem_append_right _ (List.mem_append_right _ (List.mem_append_right _ (List.mem_append_right _ (List.mem_append_right _ (List.mem_append_left _ h)))))
theorem lw_t7 {w : Cond} (h : w ∈ tables_1_7) : w ∈ tables_1 := List.mem_append_right _ (List.mem_append_right _ (List.mem_append_right _ (List.mem_append_right _ (List.mem_append_right _ (List.mem_append_right _ (List.mem_append_left _ h))))))
theorem lw_t8 {w : Cond} (h : w ∈ tables_1_8) : w ∈ tables_1 := List.mem_append_right _ (List.mem_append_right _ (List.mem_append_right _ (List.mem_append_right _ (List.mem_append_right _ (List.mem_append_right _ (List.mem_append_right _ h))))))
theorem lw_p0 : lw_okq (⟨"ClassGate", "structure", "()LClassGate$Cls;"⟩, 13) := ⟨⟨by decide +kernel, by decide +kernel⟩, lw_t1 (List.mem_of_getElem? (i := 24) rfl), lw_t1 (List.mem_of_getElem? (i := 110) rfl), lw_t1 (List.mem_of_getElem? (i := 111) rfl)⟩
theorem lw_p1 : lw_okq (⟨"ClassGate", "next4", "()J"⟩, 13) := ⟨⟨by decide +kernel, by decide +kernel⟩, lw_t1 (List.mem_of_getElem? (i := 24) rfl), lw_t1 (List.mem_of_getElem? (i := 200) rfl), lw_t1 (List.mem_of_getElem? (i := 201) rfl)⟩
theorem lw_p2 : lw_okq (⟨"ClassGate", "has", "(J)Z"⟩, 13) := ⟨⟨by decide +kernel, by decide +kernel⟩, lw_t1 (List.mem_of_getElem? (i := 24) rfl), lw_t1 (List.mem_of_getElem? (i := 205) rfl), lw_t1 (List.mem_of_getElem? (i := 206) rfl)⟩
theorem lw_p3 : lw_okq (⟨"ClassGate", "wrong", "(II)Z"⟩, 13) := ⟨⟨by decide +kernel, by decide +kernel⟩, lw_t1 (List.mem_of_getElem? (i := 24) rfl), lw_t1 (List.mem_of_getElem? (i := 209) rfl), lw_t1 (List.mem_of_getElem? (i := 210) rfl)⟩
theorem lw_p4 : lw_okq (⟨"ClassGate", "u4", "(I)I"⟩, 13) := ⟨⟨by decide +kernel, by decide +kernel⟩, lw_t1 (List.mem_of_getElem? (i := 24) rfl), lw_t1 (List.mem_of_getElem? (i := 213) rfl), lw_t1 (List.mem_of_getElem? (i := 214) rfl)⟩
theorem lw_p5 : lw_okq (⟨"ClassGate", "u2", "(I)I"⟩, 13) := ⟨⟨by decide +kernel, by decide +kernel⟩, lw_t1 (List.mem_of_getElem? (i := 24) rfl), lw_t1 (List.mem_of_getElem? (i := 217) rfl), lw_t1 (List.mem_of_getElem? (i := 218) rfl)⟩
theorem lw_p6 : lw_okq (⟨"ClassGate", "next2", "()I"⟩, 13) := ⟨⟨by decide +kernel, by decide +kernel⟩, lw_t1 (List.mem_of_getElem? (i := 24) rfl), lw_t1 (List.mem_of_getElem? (i := 223) rfl), lw_t1 (List.mem_of_getElem? (i := 224) rfl)⟩
theorem lw_p7 : lw_okq (⟨"ClassGate", "readPool", "(LClassGate$Cls;)Z"⟩, 13) := ⟨⟨by decide +kernel, by decide +kernel⟩, lw_t1 (List.mem_of_getElem? (i := 24) rfl), lw_t1 (List.mem_of_getElem? (i := 228) rfl), lw_t1 (List.mem_of_getElem? (i := 229) rfl)⟩
theorem lw_p8 : lw_okq (⟨"ClassGate", "u1", "(I)I"⟩, 13) := ⟨⟨by decide +kernel, by decide +kernel⟩, lw_t1 (List.mem_of_getElem? (i := 24) rfl), lw_t1 (List.mem_of_getElem? (i := 237) rfl), lw_t1 (List.mem_of_getElem? (i := 238) rfl)⟩
theorem lw_p9 : lw_okq (⟨"ClassGate", "readText", "(LClassGate$Cls;I)Z"⟩, 13) := ⟨⟨by decide +kernel, by decide +kernel⟩, lw_t1 (List.mem_of_getElem? (i := 24) rfl), lw_t2 (List.mem_of_getElem? (i := 1) rfl), lw_t2 (List.mem_of_getElem? (i := 2) rfl)⟩
theorem lw_p10 : lw_okq (⟨"java/lang/Throwable", "fillInStackTrace", "(I)Ljava/lang/Throwable;"⟩, 6) := ⟨⟨by decide +kernel, by decide +kernel⟩, lw_t2 (List.mem_of_getElem? (i := 96) rfl), lw_t2 (List.mem_of_getElem? (i := 94) rfl), lw_t2 (List.mem_of_getElem? (i := 95) rfl)⟩
theorem lw_p11 : lw_okq (⟨"ClassGate", "passAttributes", "()V"⟩, 13) := ⟨⟨by decide +kernel, by decide +kernel⟩, lw_t1 (List.mem_of_getElem? (i := 24) rfl), lw_t3 (List.mem_of_getElem? (i := 83) rfl), lw_t3 (List.mem_of_getElem? (i := 84) rfl)⟩
theorem lw_p12 : lw_okq (⟨"ClassGate", "checkPool", "(LClassGate$Cls;)Z"⟩, 13) := ⟨⟨by decide +kernel, by decide +kernel⟩, lw_t1 (List.mem_of_getElem? (i := 24) rfl), lw_t3 (List.mem_of_getElem? (i := 87) rfl), lw_t3 (List.mem_of_getElem? (i := 88) rfl)⟩
theorem lw_p13 : lw_okq (⟨"ClassGate", "checkHead", "(LClassGate$Cls;)Z"⟩, 13) := ⟨⟨by decide +kernel, by decide +kernel⟩, lw_t1 (List.mem_of_getElem? (i := 24) rfl), lw_t3 (List.mem_of_getElem? (i := 208) rfl), lw_t3 (List.mem_of_getElem? (i := 209) rfl)⟩
theorem lw_p14 : lw_okq (⟨"ClassGate", "checkFields", "(LClassGate$Cls;)Z"⟩, 13) := ⟨⟨by decide +kernel, by decide +kernel⟩, lw_t1 (List.mem_of_getElem? (i := 24) rfl), lw_t3 (List.mem_of_getElem? (i := 220) rfl), lw_t3 (List.mem_of_getElem? (i := 221) rfl)⟩
theorem lw_p15 : lw_okq (⟨"ClassGate", "attributes", "(LClassGate$Cls;ILClassGate$Fld;LClassGate$Mth;)Z"⟩, 13) := ⟨⟨by decide +kernel, by decide +kernel⟩, lw_t1 (List.mem_of_getElem? (i := 24) rfl), lw_t4 (List.mem_of_getElem? (i := 25) rfl), lw_t4 (List.mem_of_getElem? (i := 26) rfl)⟩
def lw_privs_1 : List (MethodName × Nat) := [(⟨"ClassGate", "structure", "()LClassGate$Cls;"⟩, 13), (⟨"ClassGate", "next4", "()J"⟩, 13), (⟨"ClassGate", "has", "(J)Z"⟩, 13), (⟨"ClassGate", "wrong", "(II)Z"⟩, 13), (⟨"ClassGate", "u4", "(I)I"⟩, 13), (⟨"ClassGate", "u2", "(I)I"⟩, 13), (⟨"ClassGate", "next2", "()I"⟩, 13), (⟨"ClassGate", "readPool", "(LClassGate$Cls;)Z"⟩, 13), (⟨"ClassGate", "u1", "(I)I"⟩, 13), (⟨"ClassGate", "readText", "(LClassGate$Cls;I)Z"⟩, 13), (⟨"java/lang/Throwable", "fillInStackTrace", "(I)Ljava/lang/Throwable;"⟩, 6), (⟨"ClassGate", "passAttributes", "()V"⟩, 13), (⟨"ClassGate", "checkPool", "(LClassGate$Cls;)Z"⟩, 13), (⟨"ClassGate", "checkHead", "(LClassGate$Cls;)Z"⟩, 13), (⟨"ClassGate", "checkFields", "(LClassGate$Cls;)Z"⟩, 13), (⟨"ClassGate", "attributes", "(LClassGate$Cls;ILClassGate$Fld;LClassGate$Mth;)Z"⟩, 13)]
theorem lw_r1 : ∀ q ∈ lw_privs_1, lw_okq q := List.forall_mem_cons.mpr ⟨lw_p0, List.forall_mem_cons.mpr ⟨lw_p1, List.forall_mem_cons.mpr ⟨lw_p2, List.forall_mem_cons.mpr ⟨lw_p3, List.forall_mem_cons.mpr ⟨lw_p4, List.forall_mem_cons.mpr ⟨lw_p5, List.forall_mem_cons.mpr ⟨lw_p6, List.forall_mem_cons.mpr ⟨lw_p7, List.forall_mem_cons.mpr ⟨lw_p8, List.forall_mem_cons.mpr ⟨lw_p9, List.forall_mem_cons.mpr ⟨lw_p10, List.forall_mem_cons.mpr ⟨lw_p11, List.forall_mem_cons.mpr ⟨lw_p12, List.forall_mem_cons.mpr ⟨lw_p13, List.forall_mem_cons.mpr ⟨lw_p14, List.forall_mem_cons.mpr ⟨lw_p15, fun _ h => absurd h List.not_mem_nil⟩⟩⟩⟩⟩⟩⟩⟩⟩⟩⟩⟩⟩⟩⟩⟩
theorem lw_p16 : lw_okq (⟨"ClassGate", "attribute", "(LClassGate$Cls;IIIILClassGate$Fld;LClassGate$Mth;)Z"⟩, 13) := ⟨⟨by decide +kernel, by decide +kernel⟩, lw_t1 (List.mem_of_getElem? (i := 24) rfl), lw_t4 (List.mem_of_getElem? (i := 42) rfl), lw_t4 (List.mem_of_getElem? (i := 43) rfl)⟩
theorem lw_p17 : lw_okq (⟨"ClassGate", "code", "(LClassGate$Cls;LClassGate$Mth;III)Z"⟩, 13) := ⟨⟨by decide +kernel, by decide +kernel⟩, lw_t1 (List.mem_of_getElem? (i := 24) rfl), lw_t4 (List.mem_of_getElem? (i := 50) rfl), lw_t4 (List.mem_of_getElem? (i := 51) rfl)⟩
theorem lw_p18 : lw_okq (⟨"ClassGate", "endOfAttributes", "(II)I"⟩, 13) := ⟨⟨by decide +kernel, by decide +kernel⟩, lw_t1 (List.mem_of_getElem? (i := 24) rfl), lw_t4 (List.mem_of_getElem? (i := 54) rfl), lw_t4 (List.mem_of_getElem? (i := 55) rfl)⟩
theorem lw_p19 : lw_okq (⟨"ClassGate", "isTable", "(III)Z"⟩, 13) := ⟨⟨by decide +kernel, by decide +kernel⟩, lw_t1 (List.mem_of_getElem? (i := 24) rfl), lw_t4 (List.mem_of_getElem? (i := 59) rfl), lw_t4 (List.mem_of_getElem? (i := 60) rfl)⟩
theorem lw_p20 : lw_okq (⟨"ClassGate", "areClasses", "(LClassGate$Cls;I)Z"⟩, 13) := ⟨⟨by decide +kernel, by decide +kernel⟩, lw_t1 (List.mem_of_getElem? (i := 24) rfl), lw_t4 (List.mem_of_getElem? (i := 63) rfl), lw_t4 (List.mem_of_getElem? (i := 64) rfl)⟩
theorem lw_p21 : lw_okq (⟨"ClassGate", "boots", "(LClassGate$Cls;III)Z"⟩, 13) := ⟨⟨by decide +kernel, by decide +kernel⟩, lw_t1 (List.mem_of_getElem? (i := 24) rfl), lw_t4 (List.mem_of_getElem? (i := 67) rfl), lw_t4 (List.mem_of_getElem? (i := 68) rfl)⟩
theorem lw_p22 : lw_okq (⟨"ClassGate", "record", "(LClassGate$Cls;III)Z"⟩, 13) := ⟨⟨by decide +kernel, by decide +kernel⟩, lw_t1 (List.mem_of_getElem? (i := 24) rfl), lw_t4 (List.mem_of_getElem? (i := 75) rfl), lw_t4 (List.mem_of_getElem? (i := 76) rfl)⟩
theorem lw_p23 : lw_okq (⟨"ClassGate", "checkMethods", "(LClassGate$Cls;)Z"⟩, 13) := ⟨⟨by decide +kernel, by decide +kernel⟩, lw_t1 (List.mem_of_getElem? (i := 24) rfl), lw_t4 (List.mem_of_getElem? (i := 83) rfl), lw_t4 (List.mem_of_getElem? (i := 84) rfl)⟩
theorem lw_p24 : lw_okq (⟨"ClassGate", "checkRest", "(LClassGate$Cls;)Z"⟩, 13) := ⟨⟨by decide +kernel, by decide +kernel⟩, lw_t1 (List.mem_of_getElem? (i := 24) rfl), lw_t4 (List.mem_of_getElem? (i := 183) rfl), lw_t4 (List.mem_of_getElem? (i := 184) rfl)⟩
theorem lw_p25 : lw_okq (⟨"ClassGate", "isEntry", "(I)Z"⟩, 13) := ⟨⟨by decide +kernel, by decide +kernel⟩, lw_t1 (List.mem_of_getElem? (i := 24) rfl), lw_t4 (List.mem_of_getElem? (i := 195) rfl), lw_t4 (List.mem_of_getElem? (i := 196) rfl)⟩
theorem lw_p26 : lw_okq (⟨"ClassGate", "textOf", "(I)Ljava/lang/String;"⟩, 13) := ⟨⟨by decide +kernel, by decide +kernel⟩, lw_t1 (List.mem_of_getElem? (i := 24) rfl), lw_t4 (List.mem_of_getElem? (i := 203) rfl), lw_t4 (List.mem_of_getElem? (i := 204) rfl)⟩
theorem lw_p27 : lw_okq (⟨"ClassGate", "methodAt", "(I)LClassGate$Mth;"⟩, 13) := ⟨⟨by decide +kernel, by decide +kernel⟩, lw_t1 (List.mem_of_getElem? (i := 24) rfl), lw_t4 (List.mem_of_getElem? (i := 223) rfl), lw_t4 (List.mem_of_getElem? (i := 224) rfl)⟩
theorem lw_p28 : lw_okq (⟨"ClassGate", "cut", "(LClassGate$Cls;LClassGate$Mth;)I"⟩, 13) := ⟨⟨by decide +kernel, by decide +kernel⟩, lw_t1 (List.mem_of_getElem? (i := 24) rfl), lw_t4 (List.mem_of_getElem? (i := 227) rfl), lw_t4 (List.mem_of_getElem? (i := 228) rfl)⟩
theorem lw_p29 : lw_okq (⟨"ClassGate", "cutOne", "(LClassGate$Cls;LClassGate$Mth;II[[I)Z"⟩, 13) := ⟨⟨by decide +kernel, by decide +kernel⟩, lw_t1 (List.mem_of_getElem? (i := 24) rfl), lw_t4 (List.mem_of_getElem? (i := 231) rfl), lw_t4 (List.mem_of_getElem? (i := 232) rfl)⟩
theorem lw_p30 : lw_okq (⟨"ClassGate", "cutWide", "(LClassGate$Mth;II)Z"⟩, 13) := ⟨⟨by decide +kernel, by decide +kernel⟩, lw_t1 (List.mem_of_getElem? (i := 24) rfl), lw_t5 (List.mem_of_getElem? (i := 1) rfl), lw_t5 (List.mem_of_getElem? (i := 2) rfl)⟩
theorem lw_p31 : lw_okq (⟨"ClassGate", "cutSwitch", "(LClassGate$Mth;II[[I)Z"⟩, 13) := ⟨⟨by decide +kernel, by decide +kernel⟩, lw_t1 (List.mem_of_getElem? (i := 24) rfl), lw_t5 (List.mem_of_getElem? (i := 17) rfl), lw_t5 (List.mem_of_getElem? (i := 18) rfl)⟩
def lw_privs_2 : List (MethodName × Nat) := [(⟨"ClassGate", "attribute", "(LClassGate$Cls;IIIILClassGate$Fld;LClassGate$Mth;)Z"⟩, 13), (⟨"ClassGate", "code", "(LClassGate$Cls;LClassGate$Mth;III)Z"⟩, 13), (⟨"ClassGate", "endOfAttributes", "(II)I"⟩, 13), (⟨"ClassGate", "isTable", "(III)Z"⟩, 13), (⟨"ClassGate", "areClasses", "(LClassGate$Cls;I)Z"⟩, 13), (⟨"ClassGate", "boots", "(LClassGate$Cls;III)Z"⟩, 13), (⟨"ClassGate", "record", "(LClassGate$Cls;III)Z"⟩, 13), (⟨"ClassGate", "checkMethods", "(LClassGate$Cls;)Z"⟩, 13), (⟨"ClassGate", "checkRest", "(LClassGate$Cls;)Z"⟩, 13), (⟨"ClassGate", "isEntry", "(I)Z"⟩, 13), (⟨"ClassGate", "textOf", "(I)Ljava/lang/String;"⟩, 13), (⟨"ClassGate", "methodAt", "(I)LClassGate$Mth;"⟩, 13), (⟨"ClassGate", "cut", "(LClassGate$Cls;LClassGate$Mth;)I"⟩, 13), (⟨"ClassGate", "cutOne", "(LClassGate$Cls;LClassGate$Mth;II[[I)Z"⟩, 13), (⟨"ClassGate", "cutWide", "(LClassGate$Mth;II)Z"⟩, 13), (⟨"ClassGate", "cutSwitch", "(LClassGate$Mth;II[[I)Z"⟩, 13)]
theorem lw_r2 : ∀ q ∈ lw_privs_2, lw_okq q := List.forall_mem_cons.mpr ⟨lw_p16, List.forall_mem_cons.mpr ⟨lw_p17, List.forall_mem_cons.mpr ⟨lw_p18, List.forall_mem_cons.mpr ⟨lw_p19, List.forall_mem_cons.mpr ⟨lw_p20, List.forall_mem_cons.mpr ⟨lw_p21, List.forall_mem_cons.mpr ⟨lw_p22, List.forall_mem_cons.mpr ⟨lw_p23, List.forall_mem_cons.mpr ⟨lw_p24, List.forall_mem_cons.mpr ⟨lw_p25, List.forall_mem_cons.mpr ⟨lw_p26, List.forall_mem_cons.mpr ⟨lw_p27, List.forall_mem_cons.mpr ⟨lw_p28, List.forall_mem_cons.mpr ⟨lw_p29, List.forall_mem_cons.mpr ⟨lw_p30, List.forall_mem_cons.mpr ⟨lw_p31, fun _ h => absurd h List.not_mem_nil⟩⟩⟩⟩⟩⟩⟩⟩⟩⟩⟩⟩⟩⟩⟩⟩
theorem lw_p32 : lw_okq (⟨"ClassGate", "cutAt", "(II)LClassGate$Mth;"⟩, 13) := ⟨⟨by decide +kernel, by decide +kernel⟩, lw_t1 (List.mem_of_getElem? (i := 24) rfl), lw_t5 (List.mem_of_getElem? (i := 41) rfl), lw_t5 (List.mem_of_getElem? (i := 42) rfl)⟩
theorem lw_p33 : lw_okq (⟨"ClassGate", "four", "(I)V"⟩, 13) := ⟨⟨by decide +kernel, by decide +kernel⟩, lw_t1 (List.mem_of_getElem? (i := 24) rfl), lw_t5 (List.mem_of_getElem? (i := 75) rfl), lw_t5 (List.mem_of_getElem? (i := 76) rfl)⟩
theorem lw_p34 : lw_okq (⟨"ClassGateModel", "clear", "()V"⟩, 82) := ⟨⟨by decide +kernel, by decide +kernel⟩, lw_t5 (List.mem_of_getElem? (i := 131) rfl), lw_t5 (List.mem_of_getElem? (i := 152) rfl), lw_t5 (List.mem_of_getElem? (i := 153) rfl)⟩
theorem lw_p35 : lw_okq (⟨"ClassGateModel", "symbol", "(Ljava/lang/String;)I"⟩, 82) := ⟨⟨by decide +kernel, by decide +kernel⟩, lw_t5 (List.mem_of_getElem? (i := 131) rfl), lw_t5 (List.mem_of_getElem? (i := 157) rfl), lw_t5 (List.mem_of_getElem? (i := 158) rfl)⟩
theorem lw_p36 : lw_okq (⟨"ClassGateModel", "symbol", "(I)I"⟩, 82) := ⟨⟨by decide +kernel, by decide +kernel⟩, lw_t5 (List.mem_of_getElem? (i := 131) rfl), lw_t5 (List.mem_of_getElem? (i := 163) rfl), lw_t5 (List.mem_of_getElem? (i := 164) rfl)⟩
theorem lw_p37 : lw_okq (⟨"ClassGateModel", "four", "(I)V"⟩, 82) := ⟨⟨by decide +kernel, by decide +kernel⟩, lw_t5 (List.mem_of_getElem? (i := 131) rfl), lw_t6 (List.mem_of_getElem? (i := 181) rfl), lw_t6 (List.mem_of_getElem? (i := 182) rfl)⟩
theorem lw_p38 : lw_okq (⟨"ClassGateModel", "bad", "()I"⟩, 82) := ⟨⟨by decide +kernel, by decide +kernel⟩, lw_t5 (List.mem_of_getElem? (i := 131) rfl), lw_t6 (List.mem_of_getElem? (i := 189) rfl), lw_t6 (List.mem_of_getElem? (i := 190) rfl)⟩
theorem lw_p39 : lw_okq (⟨"ClassGateModel", "parse", "([BI)Z"⟩, 82) := ⟨⟨by decide +kernel, by decide +kernel⟩, lw_t5 (List.mem_of_getElem? (i := 131) rfl), lw_t6 (List.mem_of_getElem? (i := 197) rfl), lw_t6 (List.mem_of_getElem? (i := 198) rfl)⟩
theorem lw_p40 : lw_okq (⟨"ClassGateModel", "checkFile", "()Z"⟩, 82) := ⟨⟨by decide +kernel, by decide +kernel⟩, lw_t5 (List.mem_of_getElem? (i := 131) rfl), lw_t6 (List.mem_of_getElem? (i := 201) rfl), lw_t6 (List.mem_of_getElem? (i := 202) rfl)⟩
theorem lw_p41 : lw_okq (⟨"ClassGateModel", "readFile", "()Z"⟩, 82) := ⟨⟨by decide +kernel, by decide +kernel⟩, lw_t5 (List.mem_of_getElem? (i := 131) rfl), lw_t6 (List.mem_of_getElem? (i := 205) rfl), lw_t6 (List.mem_of_getElem? (i := 206) rfl)⟩
theorem lw_p42 : lw_okq (⟨"ClassGateModel", "item", "(J)Z"⟩, 82) := ⟨⟨by decide +kernel, by decide +kernel⟩, lw_t5 (List.mem_of_getElem? (i := 131) rfl), lw_t6 (List.mem_of_getElem? (i := 210) rfl), lw_t6 (List.mem_of_getElem? (i := 211) rfl)⟩
theorem lw_p43 : lw_okq (⟨"ClassGateModel", "wrong", "(II)Z"⟩, 82) := ⟨⟨by decide +kernel, by decide +kernel⟩, lw_t5 (List.mem_of_getElem? (i := 131) rfl), lw_t6 (List.mem_of_getElem? (i := 214) rfl), lw_t6 (List.mem_of_getElem? (i := 215) rfl)⟩
theorem lw_p44 : lw_okq (⟨"ClassGateModel", "u4", "(I)J"⟩, 82) := ⟨⟨by decide +kernel, by decide +kernel⟩, lw_t5 (List.mem_of_getElem? (i := 131) rfl), lw_t6 (List.mem_of_getElem? (i := 218) rfl), lw_t6 (List.mem_of_getElem? (i := 219) rfl)⟩
theorem lw_p45 : lw_okq (⟨"ClassGateModel", "u2", "(I)I"⟩, 82) := ⟨⟨by decide +kernel, by decide +kernel⟩, lw_t5 (List.mem_of_getElem? (i := 131) rfl), lw_t6 (List.mem_of_getElem? (i := 222) rfl), lw_t6 (List.mem_of_getElem? (i := 223) rfl)⟩
theorem lw_p46 : lw_okq (⟨"ClassGateModel", "u1", "(I)I"⟩, 82) := ⟨⟨by decide +kernel, by decide +kernel⟩, lw_t5 (List.mem_of_getElem? (i := 131) rfl), lw_t6 (List.mem_of_getElem? (i := 226) rfl), lw_t6 (List.mem_of_getElem? (i := 227) rfl)⟩
theorem lw_p47 : lw_okq (⟨"ClassGateModel", "readPool", "()Z"⟩, 82) := ⟨⟨by decide +kernel, by decide +kernel⟩, lw_t5 (List.mem_of_getElem? (i := 131) rfl), lw_t6 (List.mem_of_getElem? (i := 232) rfl), lw_t6 (List.mem_of_getElem? (i := 233) rfl)⟩
def lw_privs_3 : List (MethodName × Nat) := [(⟨"ClassGate", "cutAt", "(II)LClassGate$Mth;"⟩, 13), (⟨"ClassGate", "four", "(I)V"⟩, 13), (⟨"ClassGateModel", "clear", "()V"⟩, 82), (⟨"ClassGateModel", "symbol", "(Ljava/lang/String;)I"⟩, 82), (⟨"ClassGateModel", "symbol", "(I)I"⟩, 82), (⟨"ClassGateModel", "four", "(I)V"⟩, 82), (⟨"ClassGateModel", "bad", "()I"⟩, 82), (⟨"ClassGateModel", "parse", "([BI)Z"⟩, 82), (⟨"ClassGateModel", "checkFile", "()Z"⟩, 82), (⟨"ClassGateModel", "readFile", "()Z"⟩, 82), (⟨"ClassGateModel", "item", "(J)Z"⟩, 82), (⟨"ClassGateModel", "wrong", "(II)Z"⟩, 82), (⟨"ClassGateModel", "u4", "(I)J"⟩, 82), (⟨"ClassGateModel", "u2", "(I)I"⟩, 82), (⟨"ClassGateModel", "u1", "(I)I"⟩, 82), (⟨"ClassGateModel", "readPool", "()Z"⟩, 82)]
theorem lw_r3 : ∀ q ∈ lw_privs_3, lw_okq q := List.forall_mem_cons.mpr ⟨lw_p32, List.forall_mem_cons.mpr ⟨lw_p33, List.forall_mem_cons.mpr ⟨lw_p34, List.forall_mem_cons.mpr ⟨lw_p35, List.forall_mem_cons.mpr ⟨lw_p36, List.forall_mem_cons.mpr ⟨lw_p37, List.forall_mem_cons.mpr ⟨lw_p38, List.forall_mem_cons.mpr ⟨lw_p39, List.forall_mem_cons.mpr ⟨lw_p40, List.forall_mem_cons.mpr ⟨lw_p41, List.forall_mem_cons.mpr ⟨lw_p42, List.forall_mem_cons.mpr ⟨lw_p43, List.forall_mem_cons.mpr ⟨lw_p44, List.forall_mem_cons.mpr ⟨lw_p45, List.forall_mem_cons.mpr ⟨lw_p46, List.forall_mem_cons.mpr ⟨lw_p47, fun _ h => absurd h List.not_mem_nil⟩⟩⟩⟩⟩⟩⟩⟩⟩⟩⟩⟩⟩⟩⟩⟩
theorem lw_p48 : lw_okq (⟨"ClassGateModel", "utf8", "(III)Z"⟩, 82) := ⟨⟨by decide +kernel, by decide +kernel⟩, lw_t5 (List.mem_of_getElem? (i := 131) rfl), lw_t6 (List.mem_of_getElem? (i := 236) rfl), lw_t6 (List.mem_of_getElem? (i := 237) rfl)⟩
theorem lw_p49 : lw_okq (⟨"ClassGateModel", "members", "()Z"⟩, 82) := ⟨⟨by decide +kernel, by decide +kernel⟩, lw_t5 (List.mem_of_getElem? (i := 131) rfl), lw_t7 (List.mem_of_getElem? (i := 0) rfl), lw_t7 (List.mem_of_getElem? (i := 1) rfl)⟩
theorem lw_p50 : lw_okq (⟨"ClassGateModel", "attributes", "()Z"⟩, 82) := ⟨⟨by decide +kernel, by decide +kernel⟩, lw_t5 (List.mem_of_getElem? (i := 131) rfl), lw_t7 (List.mem_of_getElem? (i := 4) rfl), lw_t7 (List.mem_of_getElem? (i := 5) rfl)⟩
theorem lw_p51 : lw_okq (⟨"ClassGateModel", "checkPool", "()Z"⟩, 82) := ⟨⟨by decide +kernel, by decide +kernel⟩, lw_t5 (List.mem_of_getElem? (i := 131) rfl), lw_t7 (List.mem_of_getElem? (i := 8) rfl), lw_t7 (List.mem_of_getElem? (i := 9) rfl)⟩
theorem lw_p52 : lw_okq (⟨"ClassGateModel", "indexes", "(IIZ)Z"⟩, 82) := ⟨⟨by decide +kernel, by decide +kernel⟩, lw_t5 (List.mem_of_getElem? (i := 131) rfl), lw_t7 (List.mem_of_getElem? (i := 12) rfl), lw_t7 (List.mem_of_getElem? (i := 13) rfl)⟩
theorem lw_p53 : lw_okq (⟨"ClassGateModel", "index", "(II)I"⟩, 82) := ⟨⟨by decide +kernel, by decide +kernel⟩, lw_t5 (List.mem_of_getElem? (i := 131) rfl), lw_t7 (List.mem_of_getElem? (i := 16) rfl), lw_t7 (List.mem_of_getElem? (i := 17) rfl)⟩
theorem lw_p54 : lw_okq (⟨"ClassGateModel", "tag", "(I)I"⟩, 82) := ⟨⟨by decide +kernel, by decide +kernel⟩, lw_t5 (List.mem_of_getElem? (i := 131) rfl), lw_t7 (List.mem_of_getElem? (i := 20) rfl), lw_t7 (List.mem_of_getElem? (i := 21) rfl)⟩
theorem lw_p55 : lw_okq (⟨"ClassGateModel", "symOf", "(I)I"⟩, 82) := ⟨⟨by decide +kernel, by decide +kernel⟩, lw_t5 (List.mem_of_getElem? (i := 131) rfl), lw_t7 (List.mem_of_getElem? (i := 24) rfl), lw_t7 (List.mem_of_getElem? (i := 25) rfl)⟩
theorem lw_p56 : lw_okq (⟨"ClassGateModel", "classText", "(I)Z"⟩, 82) := ⟨⟨by decide +kernel, by decide +kernel⟩, lw_t5 (List.mem_of_getElem? (i := 131) rfl), lw_t7 (List.mem_of_getElem? (i := 28) rfl), lw_t7 (List.mem_of_getElem? (i := 29) rfl)⟩
theorem lw_p57 : lw_okq (⟨"ClassGateModel", "length", "(I)I"⟩, 82) := ⟨⟨by decide +kernel, by decide +kernel⟩, lw_t5 (List.mem_of_getElem? (i := 131) rfl), lw_t7 (List.mem_of_getElem? (i := 32) rfl), lw_t7 (List.mem_of_getElem? (i := 33) rfl)⟩
theorem lw_p58 : lw_okq (⟨"ClassGateModel", "at", "(II)C"⟩, 82) := ⟨⟨by decide +kernel, by decide +kernel⟩, lw_t5 (List.mem_of_getElem? (i := 131) rfl), lw_t7 (List.mem_of_getElem? (i := 36) rfl), lw_t7 (List.mem_of_getElem? (i := 37) rfl)⟩
theorem lw_p59 : lw_okq (⟨"ClassGateModel", "fieldText", "(II)I"⟩, 82) := ⟨⟨by decide +kernel, by decide +kernel⟩, lw_t5 (List.mem_of_getElem? (i := 131) rfl), lw_t7 (List.mem_of_getElem? (i := 40) rfl), lw_t7 (List.mem_of_getElem? (i := 41) rfl)⟩
theorem lw_p60 : lw_okq (⟨"ClassGateModel", "nameText", "(III)Z"⟩, 82) := ⟨⟨by decide +kernel, by decide +kernel⟩, lw_t5 (List.mem_of_getElem? (i := 131) rfl), lw_t7 (List.mem_of_getElem? (i := 44) rfl), lw_t7 (List.mem_of_getElem? (i := 45) rfl)⟩
theorem lw_p61 : lw_okq (⟨"ClassGateModel", "unqualified", "(IZ)Z"⟩, 82) := ⟨⟨by decide +kernel, by decide +kernel⟩, lw_t5 (List.mem_of_getElem? (i := 131) rfl), lw_t7 (List.mem_of_getElem? (i := 48) rfl), lw_t7 (List.mem_of_getElem? (i := 49) rfl)⟩
theorem lw_p62 : lw_okq (⟨"ClassGateModel", "isField", "(I)Z"⟩, 82) := ⟨⟨by decide +kernel, by decide +kernel⟩, lw_t5 (List.mem_of_getElem? (i := 131) rfl), lw_t7 (List.mem_of_getElem? (i := 52) rfl), lw_t7 (List.mem_of_getElem? (i := 53) rfl)⟩
theorem lw_p63 : lw_okq (⟨"ClassGateModel", "isMethod", "(I)Z"⟩, 82) := ⟨⟨by decide +kernel, by decide +kernel⟩, lw_t5 (List.mem_of_getElem? (i := 131) rfl), lw_t7 (List.mem_of_getElem? (i := 56) rfl), lw_t7 (List.mem_of_getElem? (i := 57) rfl)⟩
def lw_privs_4 : List (MethodName × Nat) := [(⟨"ClassGateModel", "utf8", "(III)Z"⟩, 82), (⟨"ClassGateModel", "members", "()Z"⟩, 82), (⟨"ClassGateModel", "attributes", "()Z"⟩, 82), (⟨"ClassGateModel", "checkPool", "()Z"⟩, 82), (⟨"ClassGateModel", "indexes", "(IIZ)Z"⟩, 82), (⟨"ClassGateModel", "index", "(II)I"⟩, 82), (⟨"ClassGateModel", "tag", "(I)I"⟩, 82), (⟨"ClassGateModel", "symOf", "(I)I"⟩, 82), (⟨"ClassGateModel", "classText", "(I)Z"⟩, 82), (⟨"ClassGateModel", "length", "(I)I"⟩, 82), (⟨"ClassGateModel", "at", "(II)C"⟩, 82), (⟨"ClassGateModel", "fieldText", "(II)I"⟩, 82), (⟨"ClassGateModel", "nameText", "(III)Z"⟩, 82), (⟨"ClassGateModel", "unqualified", "(IZ)Z"⟩, 82), (⟨"ClassGateModel", "isField", "(I)Z"⟩, 82), (⟨"ClassGateModel", "isMethod", "(I)Z"⟩, 82)]
theorem lw_r4 : ∀ q ∈ lw_privs_4, lw_okq q := List.forall_mem_cons.mpr ⟨lw_p48, List.forall_mem_cons.mpr ⟨lw_p49, List.forall_mem_cons.mpr ⟨lw_p50, List.forall_mem_cons.mpr ⟨lw_p51, List.forall_mem_cons.mpr ⟨lw_p52, List.forall_mem_cons.mpr ⟨lw_p53, List.forall_mem_cons.mpr ⟨lw_p54, List.forall_mem_cons.mpr ⟨lw_p55, List.forall_mem_cons.mpr ⟨lw_p56, List.forall_mem_cons.mpr ⟨lw_p57, List.forall_mem_cons.mpr ⟨lw_p58, List.forall_mem_cons.mpr ⟨lw_p59, List.forall_mem_cons.mpr ⟨lw_p60, List.forall_mem_cons.mpr ⟨lw_p61, List.forall_mem_cons.mpr ⟨lw_p62, List.forall_mem_cons.mpr ⟨lw_p63, fun _ h => absurd h List.not_mem_nil⟩⟩⟩⟩⟩⟩⟩⟩⟩⟩⟩⟩⟩⟩⟩⟩
theorem lw_p64 : lw_okq (⟨"ClassGateModel", "places0", "(I)I"⟩, 82) := ⟨⟨by decide +kernel, by decide +kernel⟩, lw_t5 (List.mem_of_getElem? (i := 131) rfl), lw_t7 (List.mem_of_getElem? (i := 60) rfl), lw_t7 (List.mem_of_getElem? (i := 61) rfl)⟩
theorem lw_p65 : lw_okq (⟨"ClassGateModel", "angles", "(I)Z"⟩, 82) := ⟨⟨by decide +kernel, by decide +kernel⟩, lw_t5 (List.mem_of_getElem? (i := 131) rfl), lw_t7 (List.mem_of_getElem? (i := 64) rfl), lw_t7 (List.mem_of_getElem? (i := 65) rfl)⟩
theorem lw_p66 : lw_okq (⟨"ClassGateModel", "endsV", "(I)Z"⟩, 82) := ⟨⟨by decide +kernel, by decide +kernel⟩, lw_t5 (List.mem_of_getElem? (i := 131) rfl), lw_t7 (List.mem_of_getElem? (i := 68) rfl), lw_t7 (List.mem_of_getElem? (i := 69) rfl)⟩
theorem lw_p67 : lw_okq (⟨"ClassGateModel", "handleEntry", "(I)Z"⟩, 82) := ⟨⟨by decide +kernel, by decide +kernel⟩, lw_t5 (List.mem_of_getElem? (i := 131) rfl), lw_t7 (List.mem_of_getElem? (i := 72) rfl), lw_t7 (List.mem_of_getElem? (i := 73) rfl)⟩
theorem lw_p68 : lw_okq (⟨"ClassGateModel", "checkClass", "()Z"⟩, 82) := ⟨⟨by decide +kernel, by decide +kernel⟩, lw_t5 (List.mem_of_getElem? (i := 131) rfl), lw_t7 (List.mem_of_getElem? (i := 76) rfl), lw_t7 (List.mem_of_getElem? (i := 77) rfl)⟩
theorem lw_p69 : lw_okq (⟨"ClassGateModel", "plainClass", "(I)Z"⟩, 82) := ⟨⟨by decide +kernel, by decide +kernel⟩, lw_t5 (List.mem_of_getElem? (i := 131) rfl), lw_t7 (List.mem_of_getElem? (i := 81) rfl), lw_t7 (List.mem_of_getElem? (i := 82) rfl)⟩
theorem lw_p70 : lw_okq (⟨"ClassGateModel", "className", "(I)I"⟩, 82) := ⟨⟨by decide +kernel, by decide +kernel⟩, lw_t5 (List.mem_of_getElem? (i := 131) rfl), lw_t7 (List.mem_of_getElem? (i := 85) rfl), lw_t7 (List.mem_of_getElem? (i := 86) rfl)⟩
theorem lw_p71 : lw_okq (⟨"ClassGateModel", "checkFields", "()Z"⟩, 82) := ⟨⟨by decide +kernel, by decide +kernel⟩, lw_t5 (List.mem_of_getElem? (i := 131) rfl), lw_t7 (List.mem_of_getElem? (i := 89) rfl), lw_t7 (List.mem_of_getElem? (i := 90) rfl)⟩
theorem lw_p72 : lw_okq (⟨"ClassGateModel", "checkAttributes", "(III)I"⟩, 82) := ⟨⟨by decide +kernel, by decide +kernel⟩, lw_t5 (List.mem_of_getElem? (i := 131) rfl), lw_t7 (List.mem_of_getElem? (i := 96) rfl), lw_t7 (List.mem_of_getElem? (i := 97) rfl)⟩
theorem lw_p73 : lw_okq (⟨"ClassGateModel", "is", "(ILjava/lang/String;)Z"⟩, 82) := ⟨⟨by decide +kernel, by decide +kernel⟩, lw_t5 (List.mem_of_getElem? (i := 131) rfl), lw_t7 (List.mem_of_getElem? (i := 100) rfl), lw_t7 (List.mem_of_getElem? (i := 101) rfl)⟩
theorem lw_p74 : lw_okq (⟨"ClassGateModel", "attribute", "(IIIIII)I"⟩, 82) := ⟨⟨by decide +kernel, by decide +kernel⟩, lw_t5 (List.mem_of_getElem? (i := 131) rfl), lw_t7 (List.mem_of_getElem? (i := 104) rfl), lw_t7 (List.mem_of_getElem? (i := 105) rfl)⟩
theorem lw_p75 : lw_okq (⟨"ClassGateModel", "code", "(IIII)I"⟩, 82) := ⟨⟨by decide +kernel, by decide +kernel⟩, lw_t5 (List.mem_of_getElem? (i := 131) rfl), lw_t7 (List.mem_of_getElem? (i := 109) rfl), lw_t7 (List.mem_of_getElem? (i := 110) rfl)⟩
theorem lw_p76 : lw_okq (⟨"ClassGateModel", "bootstraps", "(II)I"⟩, 82) := ⟨⟨by decide +kernel, by decide +kernel⟩, lw_t5 (List.mem_of_getElem? (i := 131) rfl), lw_t7 (List.mem_of_getElem? (i := 114) rfl), lw_t7 (List.mem_of_getElem? (i := 115) rfl)⟩
theorem lw_p77 : lw_okq (⟨"ClassGateModel", "components", "(II)I"⟩, 82) := ⟨⟨by decide +kernel, by decide +kernel⟩, lw_t5 (List.mem_of_getElem? (i := 131) rfl), lw_t7 (List.mem_of_getElem? (i := 118) rfl), lw_t7 (List.mem_of_getElem? (i := 119) rfl)⟩
theorem lw_p78 : lw_okq (⟨"ClassGateModel", "checkMethods", "()Z"⟩, 82) := ⟨⟨by decide +kernel, by decide +kernel⟩, lw_t5 (List.mem_of_getElem? (i := 131) rfl), lw_t7 (List.mem_of_getElem? (i := 122) rfl), lw_t7 (List.mem_of_getElem? (i := 123) rfl)⟩
theorem lw_p79 : lw_okq (⟨"ClassGateModel", "flagsFit", "(IZZ)Z"⟩, 82) := ⟨⟨by decide +kernel, by decide +kernel⟩, lw_t5 (List.mem_of_getElem? (i := 131) rfl), lw_t7 (List.mem_of_getElem? (i := 126) rfl), lw_t7 (List.mem_of_getElem? (i := 127) rfl)⟩
def lw_privs_5 : List (MethodName × Nat) := [(⟨"ClassGateModel", "places0", "(I)I"⟩, 82), (⟨"ClassGateModel", "angles", "(I)Z"⟩, 82), (⟨"ClassGateModel", "endsV", "(I)Z"⟩, 82), (⟨"ClassGateModel", "handleEntry", "(I)Z"⟩, 82), (⟨"ClassGateModel", "checkClass", "()Z"⟩, 82), (⟨"ClassGateModel", "plainClass", "(I)Z"⟩, 82), (⟨"ClassGateModel", "className", "(I)I"⟩, 82), (⟨"ClassGateModel", "checkFields", "()Z"⟩, 82), (⟨"ClassGateModel", "checkAttributes", "(III)I"⟩, 82), (⟨"ClassGateModel", "is", "(ILjava/lang/String;)Z"⟩, 82), (⟨"ClassGateModel", "attribute", "(IIIIII)I"⟩, 82), (⟨"ClassGateModel", "code", "(IIII)I"⟩, 82), (⟨"ClassGateModel", "bootstraps", "(II)I"⟩, 82), (⟨"ClassGateModel", "components", "(II)I"⟩, 82), (⟨"ClassGateModel", "checkMethods", "()Z"⟩, 82), (⟨"ClassGateModel", "flagsFit", "(IZZ)Z"⟩, 82)]
theorem lw_r5 : ∀ q ∈ lw_privs_5, lw_okq q := List.forall_mem_cons.mpr ⟨lw_p64, List.forall_mem_cons.mpr ⟨lw_p65, List.forall_mem_cons.mpr ⟨lw_p66, List.forall_mem_cons.mpr ⟨lw_p67, List.forall_mem_cons.mpr ⟨lw_p68, List.forall_mem_cons.mpr ⟨lw_p69, List.forall_mem_cons.mpr ⟨lw_p70, List.forall_mem_cons.mpr ⟨lw_p71, List.forall_mem_cons.mpr ⟨lw_p72, List.forall_mem_cons.mpr ⟨lw_p73, List.forall_mem_cons.mpr ⟨lw_p74, List.forall_mem_cons.mpr ⟨lw_p75, List.forall_mem_cons.mpr ⟨lw_p76, List.forall_mem_cons.mpr ⟨lw_p77, List.forall_mem_cons.mpr ⟨lw_p78, List.forall_mem_cons.mpr ⟨lw_p79, fun _ h => absurd h List.not_mem_nil⟩⟩⟩⟩⟩⟩⟩⟩⟩⟩⟩⟩⟩⟩⟩⟩
theorem lw_p80 : lw_okq (⟨"ClassGateModel", "wide", "(II)Z"⟩, 82) := ⟨⟨by decide +kernel, by decide +kernel⟩, lw_t5 (List.mem_of_getElem? (i := 131) rfl), lw_t7 (List.mem_of_getElem? (i := 170) rfl), lw_t7 (List.mem_of_getElem? (i := 171) rfl)⟩
theorem lw_p81 : lw_okq (⟨"ClassGateModel", "noCode", "(I)Z"⟩, 82) := ⟨⟨by decide +kernel, by decide +kernel⟩, lw_t5 (List.mem_of_getElem? (i := 131) rfl), lw_t7 (List.mem_of_getElem? (i := 178) rfl), lw_t7 (List.mem_of_getElem? (i := 179) rfl)⟩
theorem lw_p82 : lw_okq (⟨"ClassGateModel", "cuts", "(I)Z"⟩, 82) := ⟨⟨by decide +kernel, by decide +kernel⟩, lw_t5 (List.mem_of_getElem? (i := 131) rfl), lw_t7 (List.mem_of_getElem? (i := 182) rfl), lw_t7 (List.mem_of_getElem? (i := 183) rfl)⟩
theorem lw_p83 : lw_okq (⟨"ClassGateModel", "b1", "(I)I"⟩, 82) := ⟨⟨by decide +kernel, by decide +kernel⟩, lw_t5 (List.mem_of_getElem? (i := 131) rfl), lw_t7 (List.mem_of_getElem? (i := 186) rfl), lw_t7 (List.mem_of_getElem? (i := 187) rfl)⟩
theorem lw_p84 : lw_okq (⟨"ClassGateModel", "formed", "(II)I"⟩, 82) := ⟨⟨by decide +kernel, by decide +kernel⟩, lw_t5 (List.mem_of_getElem? (i := 131) rfl), lw_t7 (List.mem_of_getElem? (i := 190) rfl), lw_t7 (List.mem_of_getElem? (i := 191) rfl)⟩
theorem lw_p85 : lw_okq (⟨"ClassGateModel", "b4", "(I)I"⟩, 82) := ⟨⟨by decide +kernel, by decide +kernel⟩, lw_t5 (List.mem_of_getElem? (i := 131) rfl), lw_t7 (List.mem_of_getElem? (i := 197) rfl), lw_t7 (List.mem_of_getElem? (i := 198) rfl)⟩
theorem lw_p86 : lw_okq (⟨"ClassGateModel", "operands", "(II)Z"⟩, 82) := ⟨⟨by decide +kernel, by decide +kernel⟩, lw_t5 (List.mem_of_getElem? (i := 131) rfl), lw_t7 (List.mem_of_getElem? (i := 204) rfl), lw_t7 (List.mem_of_getElem? (i := 205) rfl)⟩
theorem lw_p87 : lw_okq (⟨"ClassGateModel", "local", "(II)Z"⟩, 82) := ⟨⟨by decide +kernel, by decide +kernel⟩, lw_t5 (List.mem_of_getElem? (i := 131) rfl), lw_t7 (List.mem_of_getElem? (i := 208) rfl), lw_t7 (List.mem_of_getElem? (i := 209) rfl)⟩
theorem lw_p88 : lw_okq (⟨"ClassGateModel", "b2", "(I)I"⟩, 82) := ⟨⟨by decide +kernel, by decide +kernel⟩, lw_t5 (List.mem_of_getElem? (i := 131) rfl), lw_t7 (List.mem_of_getElem? (i := 212) rfl), lw_t7 (List.mem_of_getElem? (i := 213) rfl)⟩
theorem lw_p89 : lw_okq (⟨"ClassGateModel", "descOf", "(I)I"⟩, 82) := ⟨⟨by decide +kernel, by decide +kernel⟩, lw_t5 (List.mem_of_getElem? (i := 131) rfl), lw_t7 (List.mem_of_getElem? (i := 216) rfl), lw_t7 (List.mem_of_getElem? (i := 217) rfl)⟩
theorem lw_p90 : lw_okq (⟨"ClassGateModel", "nameOf", "(I)I"⟩, 82) := ⟨⟨by decide +kernel, by decide +kernel⟩, lw_t5 (List.mem_of_getElem? (i := 131) rfl), lw_t7 (List.mem_of_getElem? (i := 220) rfl), lw_t7 (List.mem_of_getElem? (i := 221) rfl)⟩
theorem lw_p91 : lw_okq (⟨"ClassGateModel", "aims", "(I)Z"⟩, 82) := ⟨⟨by decide +kernel, by decide +kernel⟩, lw_t5 (List.mem_of_getElem? (i := 131) rfl), lw_t7 (List.mem_of_getElem? (i := 224) rfl), lw_t7 (List.mem_of_getElem? (i := 225) rfl)⟩
theorem lw_p92 : lw_okq (⟨"ClassGateModel", "s2", "(I)I"⟩, 82) := ⟨⟨by decide +kernel, by decide +kernel⟩, lw_t5 (List.mem_of_getElem? (i := 131) rfl), lw_t7 (List.mem_of_getElem? (i := 228) rfl), lw_t7 (List.mem_of_getElem? (i := 229) rfl)⟩
theorem lw_p93 : lw_okq (⟨"ClassGateModel", "starts", "(J)Z"⟩, 82) := ⟨⟨by decide +kernel, by decide +kernel⟩, lw_t5 (List.mem_of_getElem? (i := 131) rfl), lw_t7 (List.mem_of_getElem? (i := 232) rfl), lw_t7 (List.mem_of_getElem? (i := 233) rfl)⟩
theorem lw_p94 : lw_okq (⟨"ClassGateModel", "ways", "(I)I"⟩, 82) := ⟨⟨by decide +kernel, by decide +kernel⟩, lw_t5 (List.mem_of_getElem? (i := 131) rfl), lw_t7 (List.mem_of_getElem? (i := 236) rfl), lw_t7 (List.mem_of_getElem? (i := 237) rfl)⟩
theorem lw_p95 : lw_okq (⟨"ClassGateModel", "wayAt", "(II)I"⟩, 82) := ⟨⟨by decide +kernel, by decide +kernel⟩, lw_t5 (List.mem_of_getElem? (i := 131) rfl), lw_t8 (List.mem_of_getElem? (i := 0) rfl), lw_t8 (List.mem_of_getElem? (i := 1) rfl)⟩
def lw_privs_6 : List (MethodName × Nat) := [(⟨"ClassGateModel", "wide", "(II)Z"⟩, 82), (⟨"ClassGateModel", "noCode", "(I)Z"⟩, 82), (⟨"ClassGateModel", "cuts", "(I)Z"⟩, 82), (⟨"ClassGateModel", "b1", "(I)I"⟩, 82), (⟨"ClassGateModel", "formed", "(II)I"⟩, 82), (⟨"ClassGateModel", "b4", "(I)I"⟩, 82), (⟨"ClassGateModel", "operands", "(II)Z"⟩, 82), (⟨"ClassGateModel", "local", "(II)Z"⟩, 82), (⟨"ClassGateModel", "b2", "(I)I"⟩, 82), (⟨"ClassGateModel", "descOf", "(I)I"⟩, 82), (⟨"ClassGateModel", "nameOf", "(I)I"⟩, 82), (⟨"ClassGateModel", "aims", "(I)Z"⟩, 82), (⟨"ClassGateModel", "s2", "(I)I"⟩, 82), (⟨"ClassGateModel", "starts", "(J)Z"⟩, 82), (⟨"ClassGateModel", "ways", "(I)I"⟩, 82), (⟨"ClassGateModel", "wayAt", "(II)I"⟩, 82)]
theorem lw_r6 : ∀ q ∈ lw_privs_6, lw_okq q := List.forall_mem_cons.mpr ⟨lw_p80, List.forall_mem_cons.mpr ⟨lw_p81, List.forall_mem_cons.mpr ⟨lw_p82, List.forall_mem_cons.mpr ⟨lw_p83, List.forall_mem_cons.mpr ⟨lw_p84, List.forall_mem_cons.mpr ⟨lw_p85, List.forall_mem_cons.mpr ⟨lw_p86, List.forall_mem_cons.mpr ⟨lw_p87, List.forall_mem_cons.mpr ⟨lw_p88, List.forall_mem_cons.mpr ⟨lw_p89, List.forall_mem_cons.mpr ⟨lw_p90, List.forall_mem_cons.mpr ⟨lw_p91, List.forall_mem_cons.mpr ⟨lw_p92, List.forall_mem_cons.mpr ⟨lw_p93, List.forall_mem_cons.mpr ⟨lw_p94, List.forall_mem_cons.mpr ⟨lw_p95, fun _ h => absurd h List.not_mem_nil⟩⟩⟩⟩⟩⟩⟩⟩⟩⟩⟩⟩⟩⟩⟩⟩
theorem lw_p96 : lw_okq (⟨"ClassGateModel", "plain", "(II)I"⟩, 82) := ⟨⟨by decide +kernel, by decide +kernel⟩, lw_t5 (List.mem_of_getElem? (i := 131) rfl), lw_t8 (List.mem_of_getElem? (i := 8) rfl), lw_t8 (List.mem_of_getElem? (i := 9) rfl)⟩
theorem lw_p97 : lw_okq (⟨"ClassGateModel", "first", "(II)I"⟩, 82) := ⟨⟨by decide +kernel, by decide +kernel⟩, lw_t5 (List.mem_of_getElem? (i := 131) rfl), lw_t8 (List.mem_of_getElem? (i := 12) rfl), lw_t8 (List.mem_of_getElem? (i := 13) rfl)⟩
theorem lw_p98 : lw_okq (⟨"ClassGateModel", "second", "(II)I"⟩, 82) := ⟨⟨by decide +kernel, by decide +kernel⟩, lw_t5 (List.mem_of_getElem? (i := 131) rfl), lw_t8 (List.mem_of_getElem? (i := 16) rfl), lw_t8 (List.mem_of_getElem? (i := 17) rfl)⟩
def lw_privs_7 : List (MethodName × Nat) := [(⟨"ClassGateModel", "plain", "(II)I"⟩, 82), (⟨"ClassGateModel", "first", "(II)I"⟩, 82), (⟨"ClassGateModel", "second", "(II)I"⟩, 82)]
theorem lw_r7 : ∀ q ∈ lw_privs_7, lw_okq q := List.forall_mem_cons.mpr ⟨lw_p96, List.forall_mem_cons.mpr ⟨lw_p97, List.forall_mem_cons.mpr ⟨lw_p98, fun _ h => absurd h List.not_mem_nil⟩⟩⟩
def lw_privs : List (MethodName × Nat) := lw_privs_1 ++ (lw_privs_2 ++ (lw_privs_3 ++ (lw_privs_4 ++ (lw_privs_5 ++ (lw_privs_6 ++ (lw_privs_7))))))
def lw_tbl : List Cond := k2_sels lw_privs ++ tables_1
theorem lw_privs_ok : ∀ q ∈ lw_privs, lw_okq q := by
  show ∀ q ∈ lw_privs_1 ++ (lw_privs_2 ++ (lw_privs_3 ++ (lw_privs_4 ++ (lw_privs_5 ++ (lw_privs_6 ++ (lw_privs_7)))))), lw_okq q
  exact List.forall_mem_append.mpr ⟨lw_r1, List.forall_mem_append.mpr ⟨lw_r2, List.forall_mem_append.mpr ⟨lw_r3, List.forall_mem_append.mpr ⟨lw_r4, List.forall_mem_append.mpr ⟨lw_r5, List.forall_mem_append.mpr ⟨lw_r6, lw_r7⟩⟩⟩⟩⟩⟩
-- ===== ONE list of words for every method: the tables' words that hold all through a run =====
def lw_all : List Cond := lw_tbl.filter goodWord
/-- a word of the tables by its place: claim/WORDS.tsv -/
theorem lw_w {w : Cond} (i : Nat) (h : lw_tbl[i]? = some w) (g : goodWord w = true) : w ∈ lw_all := List.mem_filter.mpr ⟨List.mem_of_getElem? h, g⟩
theorem lw_all_tbl {w : Cond} (h : w ∈ lw_all) : w ∈ lw_tbl := (List.mem_filter.mp h).1
theorem lw_self : GoodIn lw_all lw_all := fun w h => ⟨h, good_of_word (List.mem_filter.mp h).2⟩
/-- a class's field words, by their places -/
theorem lw_in (ws : List Cond) (ps : List Nat) (hp : ws = ps.filterMap (fun i => lw_tbl[i]?)) (hg : ws.all goodWord = true) : ∀ w ∈ ws, w ∈ lw_all := by
  intro w h
  have h1 := List.all_eq_true.mp hg w h
  rw [hp] at h
  obtain ⟨i, -, hi⟩ := List.mem_filterMap.mp h
  exact lw_w i hi h1
/-- the words of a contract for the method y with code b, L locals, answer r -/
abbrev ws_ (y : MethodName) (b : ByteArray) (L : Nat) (r : Option FieldType) : List Cond := Cond.code y b L r :: lw_all
theorem lw_meth {y : MethodName} {b : ByteArray} {L : Nat} {r : Option FieldType} (h : Cond.code y b L r ∈ lw_all) : GoodIn lw_all (ws_ y b L r) := by
  intro w hw
  rcases List.mem_cons.mp hw with e | e
  · rw [e]
    exact lw_self _ h
  · exact lw_self _ e
theorem lw_app {a c : List Cond} (ha : ∀ w ∈ a, w ∈ lw_all) (hc : GoodIn lw_all c) : GoodIn lw_all (a ++ c) := by
  intro w hw
  rcases List.mem_append.mp hw with e | e
  · exact lw_self w (ha w e)
  · exact hc w e
/-- what a call through an object asks: cwV n hts (lw_V ..) -/
theorem lw_V {own : String} {idx : Nat} {C : String} {y : MethodName} {b : ByteArray} {L : Nat} {r : Option FieldType} (h1 : Cond.methodLink own idx y ∈ lw_all) (h2 : Cond.instanceMethod y ∈ lw_all) (h3 : Cond.selects C y y ∈ lw_all) (h4 : Cond.initialized C ∈ lw_all) (h5 : Cond.code y b L r ∈ lw_all) : GoodIn lw_all (wsV own idx C y (ws_ y b L r)) := by
  refine lw_app ?_ (lw_meth h5)
  intro w hw
  simp only [List.mem_cons, List.not_mem_nil, or_false] at hw
  rcases hw with e | e | e | e
  · rw [e]; exact h1
  · rw [e]; exact h2
  · rw [e]; exact h3
  · rw [e]; exact h4
/-- what a static call asks: va_cwS n hts (lw_S ..) -/
theorem lw_S {own : String} {idx : Nat} {y : MethodName} {b : ByteArray} {L : Nat} {r : Option FieldType} (h1 : Cond.methodLink own idx y ∈ lw_all) (h2 : Cond.static y ∈ lw_all) (h3 : Cond.initialized y.cls ∈ lw_all) (h4 : Cond.code y b L r ∈ lw_all) : GoodIn lw_all (va_wsS own idx y (ws_ y b L r)) := by
  refine lw_app ?_ (lw_meth h4)
  intro w hw
  simp only [List.mem_cons, List.not_mem_nil, or_false] at hw
  rcases hw with e | e | e
  · rw [e]; exact h1
  · rw [e]; exact h2
  · rw [e]; exact h3
/-- the words of a contract for a method WITH HANDLERS (hh: its table) -/
abbrev wsW_ (y : MethodName) (b : ByteArray) (L : Nat) (r : Option FieldType) (hh : List (Nat × Nat × Nat × Nat)) : List Cond := Cond.codeWith y b L r hh :: lw_all
theorem lw_methW {y : MethodName} {b : ByteArray} {L : Nat} {r : Option FieldType} {hh : List (Nat × Nat × Nat × Nat)} (h : Cond.codeWith y b L r hh ∈ lw_all) : GoodIn lw_all (wsW_ y b L r hh) := by
  intro w hw
  rcases List.mem_cons.mp hw with e | e
  · rw [e]
    exact lw_self _ h
  · exact lw_self _ e
/-- any list of words by their places (lw_in), good -/
theorem lw_good {ws : List Cond} (h : ∀ w ∈ ws, w ∈ lw_all) : GoodIn lw_all ws := fun w hw => lw_self w (h w hw)
/-- what a call of a method with handlers asks: vx_cwVW n hts (lw_VW ..), vx_cwSW n hts (lw_SW ..) -/
theorem lw_VW {own : String} {idx : Nat} {C : String} {y : MethodName} {b : ByteArray} {L : Nat} {r : Option FieldType} {hh : List (Nat × Nat × Nat × Nat)} (h1 : Cond.methodLink own idx y ∈ lw_all) (h2 : Cond.instanceMethod y ∈ lw_all) (h3 : Cond.selects C y y ∈ lw_all) (h4 : Cond.initialized C ∈ lw_all) (h5 : Cond.codeWith y b L r hh ∈ lw_all) : GoodIn lw_all (wsV own idx C y (wsW_ y b L r hh)) := by
  refine lw_app ?_ (lw_methW h5)
  intro w hw
  simp only [List.mem_cons, List.not_mem_nil, or_false] at hw
  rcases hw with e | e | e | e
  · rw [e]; exact h1
  · rw [e]; exact h2
  · rw [e]; exact h3
  · rw [e]; exact h4
theorem lw_SW {own : String} {idx : Nat} {y : MethodName} {b : ByteArray} {L : Nat} {r : Option FieldType} {hh : List (Nat × Nat × Nat × Nat)} (h1 : Cond.methodLink own idx y ∈ lw_all) (h2 : Cond.static y ∈ lw_all) (h3 : Cond.initialized y.cls ∈ lw_all) (h4 : Cond.codeWith y b L r hh ∈ lw_all) : GoodIn lw_all (va_wsS own idx y (wsW_ y b L r hh)) := by
  refine lw_app ?_ (lw_methW h4)
  intro w hw
  simp only [List.mem_cons, List.not_mem_nil, or_false] at hw
  rcases hw with e | e | e
  · rw [e]; exact h1
  · rw [e]; exact h2
  · rw [e]; exact h3
/-- a word by its place in its run of the tables -/
theorem lw_at {r : List Cond} (hr : ∀ w ∈ r, w ∈ lw_tbl) {w : Cond} (i : Nat) (h : r[i]? = some w) : w ∈ lw_tbl := hr w (List.mem_of_getElem? h)
theorem lw_g {w : Cond} (h : w ∈ lw_tbl) (g : goodWord w = true) : w ∈ lw_all := List.mem_filter.mpr ⟨h, g⟩
theorem lw_ms : ∀ w ∈ k2_sels lw_privs, w ∈ lw_tbl := fun w h => show w ∈ k2_sels lw_privs ++ tables_1 from List.mem_append_left _ h
theorem lw_m1 : ∀ w ∈ tables_1_1, w ∈ lw_tbl := fun w h => show w ∈ k2_sels lw_privs ++ tables_1 from List.mem_append_right (k2_sels lw_privs) (show w ∈ tables_1 from List.mem_append_left _ h)
theorem lw_m2 : ∀ w ∈ tables_1_2, w ∈ lw_tbl := fun w h => show w ∈ k2_sels lw_privs ++ tables_1 from List.mem_append_right (k2_sels lw_privs) (show w ∈ tables_1 from List.mem_append_right _ (List.mem_append_left _ h))
theorem lw_m3 : ∀ w ∈ tables_1_3, w ∈ lw_tbl := fun w h => show w ∈ k2_sels lw_privs ++ tables_1 from List.mem_append_right (k2_sels lw_privs) (show w ∈ tables_1 from List.mem_append_right _ (List.mem_append_right _ (List.mem_append_left _ h)))
theorem lw_m4 : ∀ w ∈ tables_1_4, w ∈ lw_tbl := fun w h => show w ∈ k2_sels lw_privs ++ tables_1 from List.mem_append_right (k2_sels lw_privs) (show w ∈ tables_1 from List.mem_append_right _ (List.mem_append_right _ (List.mem_append_right _ (List.mem_append_left _ h))))
theorem lw_m5 : ∀ w ∈ tables_1_5, w ∈ lw_tbl := fun w h => show w ∈ k2_sels lw_privs ++ tables_1 from List.mem_append_right (k2_sels lw_privs) (show w ∈ tables_1 from List.mem_append_right _ (List.mem_append_right _ (List.mem_append_right _ (List.mem_append_right _ (List.mem_append_left _ h)))))
theorem lw_m6 : ∀ w ∈ tables_1_6, w ∈ lw_tbl := fun w h => show w ∈ k2_sels lw_privs ++ tables_1 from List.mem_append_right (k2_sels lw_privs) (show w ∈ tables_1 from List.mem_append_right _ (List.mem_append_right _ (List.mem_append_right _ (List.mem_append_right _ (List.mem_append_right _ (List.mem_append_left _ h))))))
theorem lw_m7 : ∀ w ∈ tables_1_7, w ∈ lw_tbl := fun w h => show w ∈ k2_sels lw_privs ++ tables_1 from List.mem_append_right (k2_sels lw_privs) (show w ∈ tables_1 from List.mem_append_right _ (List.mem_append_right _ (List.mem_append_right _ (List.mem_append_right _ (List.mem_append_right _ (List.mem_append_right _ (List.mem_append_left _ h)))))))
theorem lw_m8 : ∀ w ∈ tables_1_8, w ∈ lw_tbl := fun w h => show w ∈ k2_sels lw_privs ++ tables_1 from List.mem_append_right (k2_sels lw_privs) (show w ∈ tables_1 from List.mem_append_right _ (List.mem_append_right _ (List.mem_append_right _ (List.mem_append_right _ (List.mem_append_right _ (List.mem_append_right _ (List.mem_append_right _ h)))))))
theorem qs0 : (Cond.selects "ClassGate" ⟨"ClassGate", "structure", "()LClassGate$Cls;"⟩ ⟨"ClassGate", "structure", "()LClassGate$Cls;"⟩) ∈ lw_all := lw_g (lw_at lw_ms 0 rfl) rfl
theorem qs1 : (Cond.selects "ClassGate" ⟨"ClassGate", "next4", "()J"⟩ ⟨"ClassGate", "next4", "()J"⟩) ∈ lw_all := lw_g (lw_at lw_ms 1 rfl) rfl
theorem qs2 : (Cond.selects "ClassGate" ⟨"ClassGate", "has", "(J)Z"⟩ ⟨"ClassGate", "has", "(J)Z"⟩) ∈ lw_all := lw_g (lw_at lw_ms 2 rfl) rfl
theorem qs3 : (Cond.selects "ClassGate" ⟨"ClassGate", "wrong", "(II)Z"⟩ ⟨"ClassGate", "wrong", "(II)Z"⟩) ∈ lw_all := lw_g (lw_at lw_ms 3 rfl) rfl
theorem qs4 : (Cond.selects "ClassGate" ⟨"ClassGate", "u4", "(I)I"⟩ ⟨"ClassGate", "u4", "(I)I"⟩) ∈ lw_all := lw_g (lw_at lw_ms 4 rfl) rfl
theorem qs5 : (Cond.selects "ClassGate" ⟨"ClassGate", "u2", "(I)I"⟩ ⟨"ClassGate", "u2", "(I)I"⟩) ∈ lw_all := lw_g (lw_at lw_ms 5 rfl) rfl
theorem qs6 : (Cond.selects "ClassGate" ⟨"ClassGate", "next2", "()I"⟩ ⟨"ClassGate", "next2", "()I"⟩) ∈ lw_all := lw_g (lw_at lw_ms 6 rfl) rfl
theorem qs7 : (Cond.selects "ClassGate" ⟨"ClassGate", "readPool", "(LClassGate$Cls;)Z"⟩ ⟨"ClassGate", "readPool", "(LClassGate$Cls;)Z"⟩) ∈ lw_all := lw_g (lw_at lw_ms 7 rfl) rfl
theorem qs8 : (Cond.selects "ClassGate" ⟨"ClassGate", "u1", "(I)I"⟩ ⟨"ClassGate", "u1", "(I)I"⟩) ∈ lw_all := lw_g (lw_at lw_ms 8 rfl) rfl
theorem qs9 : (Cond.selects "ClassGate" ⟨"ClassGate", "readText", "(LClassGate$Cls;I)Z"⟩ ⟨"ClassGate", "readText", "(LClassGate$Cls;I)Z"⟩) ∈ lw_all := lw_g (lw_at lw_ms 9 rfl) rfl
theorem qs10 : (Cond.selects "java/lang/Throwable" ⟨"java/lang/Throwable", "fillInStackTrace", "(I)Ljava/lang/Throwable;"⟩ ⟨"java/lang/Throwable", "fillInStackTrace", "(I)Ljava/lang/Throwable;"⟩) ∈ lw_all := lw_g (lw_at lw_ms 10 rfl) rfl
theorem qs11 : (Cond.selects "ClassGate" ⟨"ClassGate", "passAttributes", "()V"⟩ ⟨"ClassGate", "passAttributes", "()V"⟩) ∈ lw_all := lw_g (lw_at lw_ms 11 rfl) rfl
theorem qs12 : (Cond.selects "ClassGate" ⟨"ClassGate", "checkPool", "(LClassGate$Cls;)Z"⟩ ⟨"ClassGate", "checkPool", "(LClassGate$Cls;)Z"⟩) ∈ lw_all := lw_g (lw_at lw_ms 12 rfl) rfl
theorem qs13 : (Cond.selects "ClassGate" ⟨"ClassGate", "checkHead", "(LClassGate$Cls;)Z"⟩ ⟨"ClassGate", "checkHead", "(LClassGate$Cls;)Z"⟩) ∈ lw_all := lw_g (lw_at lw_ms 13 rfl) rfl
theorem qs14 : (Cond.selects "ClassGate" ⟨"ClassGate", "checkFields", "(LClassGate$Cls;)Z"⟩ ⟨"ClassGate", "checkFields", "(LClassGate$Cls;)Z"⟩) ∈ lw_all := lw_g (lw_at lw_ms 14 rfl) rfl
theorem qs15 : (Cond.selects "ClassGate" ⟨"ClassGate", "attributes", "(LClassGate$Cls;ILClassGate$Fld;LClassGate$Mth;)Z"⟩ ⟨"ClassGate", "attributes", "(LClassGate$Cls;ILClassGate$Fld;LClassGate$Mth;)Z"⟩) ∈ lw_all := lw_g (lw_at lw_ms 15 rfl) rfl
theorem qs16 : (Cond.selects "ClassGate" ⟨"ClassGate", "attribute", "(LClassGate$Cls;IIIILClassGate$Fld;LClassGate$Mth;)Z"⟩ ⟨"ClassGate", "attribute", "(LClassGate$Cls;IIIILClassGate$Fld;LClassGate$Mth;)Z"⟩) ∈ lw_all := lw_g (lw_at lw_ms 16 rfl) rfl
theorem qs17 : (Cond.selects "ClassGate" ⟨"ClassGate", "code", "(LClassGate$Cls;LClassGate$Mth;III)Z"⟩ ⟨"ClassGate", "code", "(LClassGate$Cls;LClassGate$Mth;III)Z"⟩) ∈ lw_all := lw_g (lw_at lw_ms 17 rfl) rfl
theorem qs18 : (Cond.selects "ClassGate" ⟨"ClassGate", "endOfAttributes", "(II)I"⟩ ⟨"ClassGate", "endOfAttributes", "(II)I"⟩) ∈ lw_all := lw_g (lw_at lw_ms 18 rfl) rfl
theorem qs19 : (Cond.selects "ClassGate" ⟨"ClassGate", "isTable", "(III)Z"⟩ ⟨"ClassGate", "isTable", "(III)Z"⟩) ∈ lw_all := lw_g (lw_at lw_ms 19 rfl) rfl
theorem qs20 : (Cond.selects "ClassGate" ⟨"ClassGate", "areClasses", "(LClassGate$Cls;I)Z"⟩ ⟨"ClassGate", "areClasses", "(LClassGate$Cls;I)Z"⟩) ∈ lw_all := lw_g (lw_at lw_ms 20 rfl) rfl
theorem qs21 : (Cond.selects "ClassGate" ⟨"ClassGate", "boots", "(LClassGate$Cls;III)Z"⟩ ⟨"ClassGate", "boots", "(LClassGate$Cls;III)Z"⟩) ∈ lw_all := lw_g (lw_at lw_ms 21 rfl) rfl
theorem qs22 : (Cond.selects "ClassGate" ⟨"ClassGate", "record", "(LClassGate$Cls;III)Z"⟩ ⟨"ClassGate", "record", "(LClassGate$Cls;III)Z"⟩) ∈ lw_all := lw_g (lw_at lw_ms 22 rfl) rfl
theorem qs23 : (Cond.selects "ClassGate" ⟨"ClassGate", "checkMethods", "(LClassGate$Cls;)Z"⟩ ⟨"ClassGate", "checkMethods", "(LClassGate$Cls;)Z"⟩) ∈ lw_all := lw_g (lw_at lw_ms 23 rfl) rfl
theorem qs24 : (Cond.selects "ClassGate" ⟨"ClassGate", "checkRest", "(LClassGate$Cls;)Z"⟩ ⟨"ClassGate", "checkRest", "(LClassGate$Cls;)Z"⟩) ∈ lw_all := lw_g (lw_at lw_ms 24 rfl) rfl
theorem qs25 : (Cond.selects "ClassGate" ⟨"ClassGate", "isEntry", "(I)Z"⟩ ⟨"ClassGate", "isEntry", "(I)Z"⟩) ∈ lw_all := lw_g (lw_at lw_ms 25 rfl) rfl
theorem qs26 : (Cond.selects "ClassGate" ⟨"ClassGate", "textOf", "(I)Ljava/lang/String;"⟩ ⟨"ClassGate", "textOf", "(I)Ljava/lang/String;"⟩) ∈ lw_all := lw_g (lw_at lw_ms 26 rfl) rfl
theorem qs27 : (Cond.selects "ClassGate" ⟨"ClassGate", "methodAt", "(I)LClassGate$Mth;"⟩ ⟨"ClassGate", "methodAt", "(I)LClassGate$Mth;"⟩) ∈ lw_all := lw_g (lw_at lw_ms 27 rfl) rfl
theorem qs28 : (Cond.selects "ClassGate" ⟨"ClassGate", "cut", "(LClassGate$Cls;LClassGate$Mth;)I"⟩ ⟨"ClassGate", "cut", "(LClassGate$Cls;LClassGate$Mth;)I"⟩) ∈ lw_all := lw_g (lw_at lw_ms 28 rfl) rfl
theorem qs29 : (Cond.selects "ClassGate" ⟨"ClassGate", "cutOne", "(LClassGate$Cls;LClassGate$Mth;II[[I)Z"⟩ ⟨"ClassGate", "cutOne", "(LClassGate$Cls;LClassGate$Mth;II[[I)Z"⟩) ∈ lw_all := lw_g (lw_at lw_ms 29 rfl) rfl
theorem qs30 : (Cond.selects "ClassGate" ⟨"ClassGate", "cutWide", "(LClassGate$Mth;II)Z"⟩ ⟨"ClassGate", "cutWide", "(LClassGate$Mth;II)Z"⟩) ∈ lw_all := lw_g (lw_at lw_ms 30 rfl) rfl
theorem qs31 : (Cond.selects "ClassGate" ⟨"ClassGate", "cutSwitch", "(LClassGate$Mth;II[[I)Z"⟩ ⟨"ClassGate", "cutSwitch", "(LClassGate$Mth;II[[I)Z"⟩) ∈ lw_all := lw_g (lw_at lw_ms 31 rfl) rfl
theorem qs32 : (Cond.selects "ClassGate" ⟨"ClassGate", "cutAt", "(II)LClassGate$Mth;"⟩ ⟨"ClassGate", "cutAt", "(II)LClassGate$Mth;"⟩) ∈ lw_all := lw_g (lw_at lw_ms 32 rfl) rfl
theorem qs33 : (Cond.selects "ClassGate" ⟨"ClassGate", "four", "(I)V"⟩ ⟨"ClassGate", "four", "(I)V"⟩) ∈ lw_all := lw_g (lw_at lw_ms 33 rfl) rfl
theorem qs34 : (Cond.selects "ClassGateModel" ⟨"ClassGateModel", "clear", "()V"⟩ ⟨"ClassGateModel", "clear", "()V"⟩) ∈ lw_all := lw_g (lw_at lw_ms 34 rfl) rfl
theorem qs35 : (Cond.selects "ClassGateModel" ⟨"ClassGateModel", "symbol", "(Ljava/lang/String;)I"⟩ ⟨"ClassGateModel", "symbol", "(Ljava/lang/String;)I"⟩) ∈ lw_all := lw_g (lw_at lw_ms 35 rfl) rfl
theorem qs36 : (Cond.selects "ClassGateModel" ⟨"ClassGateModel", "symbol", "(I)I"⟩ ⟨"ClassGateModel", "symbol", "(I)I"⟩) ∈ lw_all := lw_g (lw_at lw_ms 36 rfl) rfl
theorem qs37 : (Cond.selects "ClassGateModel" ⟨"ClassGateModel", "four", "(I)V"⟩ ⟨"ClassGateModel", "four", "(I)V"⟩) ∈ lw_all := lw_g (lw_at lw_ms 37 rfl) rfl
theorem qs38 : (Cond.selects "ClassGateModel" ⟨"ClassGateModel", "bad", "()I"⟩ ⟨"ClassGateModel", "bad", "()I"⟩) ∈ lw_all := lw_g (lw_at lw_ms 38 rfl) rfl
theorem qs39 : (Cond.selects "ClassGateModel" ⟨"ClassGateModel", "parse", "([BI)Z"⟩ ⟨"ClassGateModel", "parse", "([BI)Z"⟩) ∈ lw_all := lw_g (lw_at lw_ms 39 rfl) rfl
theorem qs40 : (Cond.selects "ClassGateModel" ⟨"ClassGateModel", "checkFile", "()Z"⟩ ⟨"ClassGateModel", "checkFile", "()Z"⟩) ∈ lw_all := lw_g (lw_at lw_ms 40 rfl) rfl
theorem qs41 : (Cond.selects "ClassGateModel" ⟨"ClassGateModel", "readFile", "()Z"⟩ ⟨"ClassGateModel", "readFile", "()Z"⟩) ∈ lw_all := lw_g (lw_at lw_ms 41 rfl) rfl
theorem qs42 : (Cond.selects "ClassGateModel" ⟨"ClassGateModel", "item", "(J)Z"⟩ ⟨"ClassGateModel", "item", "(J)Z"⟩) ∈ lw_all := lw_g (lw_at lw_ms 42 rfl) rfl
theorem qs43 : (Cond.selects "ClassGateModel" ⟨"ClassGateModel", "wrong", "(II)Z"⟩ ⟨"ClassGateModel", "wrong", "(II)Z"⟩) ∈ lw_all := lw_g (lw_at lw_ms 43 rfl) rfl
theorem qs44 : (Cond.selects "ClassGateModel" ⟨"ClassGateModel", "u4", "(I)J"⟩ ⟨"ClassGateModel", "u4", "(I)J"⟩) ∈ lw_all := lw_g (lw_at lw_ms 44 rfl) rfl
theorem qs45 : (Cond.selects "ClassGateModel" ⟨"ClassGateModel", "u2", "(I)I"⟩ ⟨"ClassGateModel", "u2", "(I)I"⟩) ∈ lw_all := lw_g (lw_at lw_ms 45 rfl) rfl
theorem qs46 : (Cond.selects "ClassGateModel" ⟨"ClassGateModel", "u1", "(I)I"⟩ ⟨"ClassGateModel", "u1", "(I)I"⟩) ∈ lw_all := lw_g (lw_at lw_ms 46 rfl) rfl
theorem qs47 : (Cond.selects "ClassGateModel" ⟨"ClassGateModel", "readPool", "()Z"⟩ ⟨"ClassGateModel", "readPool", "()Z"⟩) ∈ lw_all := lw_g (lw_at lw_ms 47 rfl) rfl
theorem qs48 : (Cond.selects "ClassGateModel" ⟨"ClassGateModel", "utf8", "(III)Z"⟩ ⟨"ClassGateModel", "utf8", "(III)Z"⟩) ∈ lw_all := lw_g (lw_at lw_ms 48 rfl) rfl
theorem qs49 : (Cond.selects "ClassGateModel" ⟨"ClassGateModel", "members", "()Z"⟩ ⟨"ClassGateModel", "members", "()Z"⟩) ∈ lw_all := lw_g (lw_at lw_ms 49 rfl) rfl
theorem qs50 : (Cond.selects "ClassGateModel" ⟨"ClassGateModel", "attributes", "()Z"⟩ ⟨"ClassGateModel", "attributes", "()Z"⟩) ∈ lw_all := lw_g (lw_at lw_ms 50 rfl) rfl
theorem qs51 : (Cond.selects "ClassGateModel" ⟨"ClassGateModel", "checkPool", "()Z"⟩ ⟨"ClassGateModel", "checkPool", "()Z"⟩) ∈ lw_all := lw_g (lw_at lw_ms 51 rfl) rfl
theorem qs52 : (Cond.selects "ClassGateModel" ⟨"ClassGateModel", "indexes", "(IIZ)Z"⟩ ⟨"ClassGateModel", "indexes", "(IIZ)Z"⟩) ∈ lw_all := lw_g (lw_at lw_ms 52 rfl) rfl
theorem qs53 : (Cond.selects "ClassGateModel" ⟨"ClassGateModel", "index", "(II)I"⟩ ⟨"ClassGateModel", "index", "(II)I"⟩) ∈ lw_all := lw_g (lw_at lw_ms 53 rfl) rfl
theorem qs54 : (Cond.selects "ClassGateModel" ⟨"ClassGateModel", "tag", "(I)I"⟩ ⟨"ClassGateModel", "tag", "(I)I"⟩) ∈ lw_all := lw_g (lw_at lw_ms 54 rfl) rfl
theorem qs55 : (Cond.selects "ClassGateModel" ⟨"ClassGateModel", "symOf", "(I)I"⟩ ⟨"ClassGateModel", "symOf", "(I)I"⟩) ∈ lw_all := lw_g (lw_at lw_ms 55 rfl) rfl
theorem qs56 : (Cond.selects "ClassGateModel" ⟨"ClassGateModel", "classText", "(I)Z"⟩ ⟨"ClassGateModel", "classText", "(I)Z"⟩) ∈ lw_all := lw_g (lw_at lw_ms 56 rfl) rfl
theorem qs57 : (Cond.selects "ClassGateModel" ⟨"ClassGateModel", "length", "(I)I"⟩ ⟨"ClassGateModel", "length", "(I)I"⟩) ∈ lw_all := lw_g (lw_at lw_ms 57 rfl) rfl
theorem qs58 : (Cond.selects "ClassGateModel" ⟨"ClassGateModel", "at", "(II)C"⟩ ⟨"ClassGateModel", "at", "(II)C"⟩) ∈ lw_all := lw_g (lw_at lw_ms 58 rfl) rfl
theorem qs59 : (Cond.selects "ClassGateModel" ⟨"ClassGateModel", "fieldText", "(II)I"⟩ ⟨"ClassGateModel", "fieldText", "(II)I"⟩) ∈ lw_all := lw_g (lw_at lw_ms 59 rfl) rfl
theorem qs60 : (Cond.selects "ClassGateModel" ⟨"ClassGateModel", "nameText", "(III)Z"⟩ ⟨"ClassGateModel", "nameText", "(III)Z"⟩) ∈ lw_all := lw_g (lw_at lw_ms 60 rfl) rfl
theorem qs61 : (Cond.selects "ClassGateModel" ⟨"ClassGateModel", "unqualified", "(IZ)Z"⟩ ⟨"ClassGateModel", "unqualified", "(IZ)Z"⟩) ∈ lw_all := lw_g (lw_at lw_ms 61 rfl) rfl
theorem qs62 : (Cond.selects "ClassGateModel" ⟨"ClassGateModel", "isField", "(I)Z"⟩ ⟨"ClassGateModel", "isField", "(I)Z"⟩) ∈ lw_all := lw_g (lw_at lw_ms 62 rfl) rfl
theorem qs63 : (Cond.selects "ClassGateModel" ⟨"ClassGateModel", "isMethod", "(I)Z"⟩ ⟨"ClassGateModel", "isMethod", "(I)Z"⟩) ∈ lw_all := lw_g (lw_at lw_ms 63 rfl) rfl
theorem qs64 : (Cond.selects "ClassGateModel" ⟨"ClassGateModel", "places0", "(I)I"⟩ ⟨"ClassGateModel", "places0", "(I)I"⟩) ∈ lw_all := lw_g (lw_at lw_ms 64 rfl) rfl
theorem qs65 : (Cond.selects "ClassGateModel" ⟨"ClassGateModel", "angles", "(I)Z"⟩ ⟨"ClassGateModel", "angles", "(I)Z"⟩) ∈ lw_all := lw_g (lw_at lw_ms 65 rfl) rfl
theorem qs66 : (Cond.selects "ClassGateModel" ⟨"ClassGateModel", "endsV", "(I)Z"⟩ ⟨"ClassGateModel", "endsV", "(I)Z"⟩) ∈ lw_all := lw_g (lw_at lw_ms 66 rfl) rfl
theorem qs67 : (Cond.selects "ClassGateModel" ⟨"ClassGateModel", "handleEntry", "(I)Z"⟩ ⟨"ClassGateModel", "handleEntry", "(I)Z"⟩) ∈ lw_all := lw_g (lw_at lw_ms 67 rfl) rfl
theorem qs68 : (Cond.selects "ClassGateModel" ⟨"ClassGateModel", "checkClass", "()Z"⟩ ⟨"ClassGateModel", "checkClass", "()Z"⟩) ∈ lw_all := lw_g (lw_at lw_ms 68 rfl) rfl
theorem qs69 : (Cond.selects "ClassGateModel" ⟨"ClassGateModel", "plainClass", "(I)Z"⟩ ⟨"ClassGateModel", "plainClass", "(I)Z"⟩) ∈ lw_all := lw_g (lw_at lw_ms 69 rfl) rfl
theorem qs70 : (Cond.selects "ClassGateModel" ⟨"ClassGateModel", "className", "(I)I"⟩ ⟨"ClassGateModel", "className", "(I)I"⟩) ∈ lw_all := lw_g (lw_at lw_ms 70 rfl) rfl
theorem qs71 : (Cond.selects "ClassGateModel" ⟨"ClassGateModel", "checkFields", "()Z"⟩ ⟨"ClassGateModel", "checkFields", "()Z"⟩) ∈ lw_all := lw_g (lw_at lw_ms 71 rfl) rfl
theorem qs72 : (Cond.selects "ClassGateModel" ⟨"ClassGateModel", "checkAttributes", "(III)I"⟩ ⟨"ClassGateModel", "checkAttributes", "(III)I"⟩) ∈ lw_all := lw_g (lw_at lw_ms 72 rfl) rfl
theorem qs73 : (Cond.selects "ClassGateModel" ⟨"ClassGateModel", "is", "(ILjava/lang/String;)Z"⟩ ⟨"ClassGateModel", "is", "(ILjava/lang/String;)Z"⟩) ∈ lw_all := lw_g (lw_at lw_ms 73 rfl) rfl
theorem qs74 : (Cond.selects "ClassGateModel" ⟨"ClassGateModel", "attribute", "(IIIIII)I"⟩ ⟨"ClassGateModel", "attribute", "(IIIIII)I"⟩) ∈ lw_all := lw_g (lw_at lw_ms 74 rfl) rfl
theorem qs75 : (Cond.selects "ClassGateModel" ⟨"ClassGateModel", "code", "(IIII)I"⟩ ⟨"ClassGateModel", "code", "(IIII)I"⟩) ∈ lw_all := lw_g (lw_at lw_ms 75 rfl) rfl
theorem qs76 : (Cond.selects "ClassGateModel" ⟨"ClassGateModel", "bootstraps", "(II)I"⟩ ⟨"ClassGateModel", "bootstraps", "(II)I"⟩) ∈ lw_all := lw_g (lw_at lw_ms 76 rfl) rfl
theorem qs77 : (Cond.selects "ClassGateModel" ⟨"ClassGateModel", "components", "(II)I"⟩ ⟨"ClassGateModel", "components", "(II)I"⟩) ∈ lw_all := lw_g (lw_at lw_ms 77 rfl) rfl
theorem qs78 : (Cond.selects "ClassGateModel" ⟨"ClassGateModel", "checkMethods", "()Z"⟩ ⟨"ClassGateModel", "checkMethods", "()Z"⟩) ∈ lw_all := lw_g (lw_at lw_ms 78 rfl) rfl
theorem qs79 : (Cond.selects "ClassGateModel" ⟨"ClassGateModel", "flagsFit", "(IZZ)Z"⟩ ⟨"ClassGateModel", "flagsFit", "(IZZ)Z"⟩) ∈ lw_all := lw_g (lw_at lw_ms 79 rfl) rfl
theorem qs80 : (Cond.selects "ClassGateModel" ⟨"ClassGateModel", "wide", "(II)Z"⟩ ⟨"ClassGateModel", "wide", "(II)Z"⟩) ∈ lw_all := lw_g (lw_at lw_ms 80 rfl) rfl
theorem qs81 : (Cond.selects "ClassGateModel" ⟨"ClassGateModel", "noCode", "(I)Z"⟩ ⟨"ClassGateModel", "noCode", "(I)Z"⟩) ∈ lw_all := lw_g (lw_at lw_ms 81 rfl) rfl
theorem qs82 : (Cond.selects "ClassGateModel" ⟨"ClassGateModel", "cuts", "(I)Z"⟩ ⟨"ClassGateModel", "cuts", "(I)Z"⟩) ∈ lw_all := lw_g (lw_at lw_ms 82 rfl) rfl
theorem qs83 : (Cond.selects "ClassGateModel" ⟨"ClassGateModel", "b1", "(I)I"⟩ ⟨"ClassGateModel", "b1", "(I)I"⟩) ∈ lw_all := lw_g (lw_at lw_ms 83 rfl) rfl
theorem qs84 : (Cond.selects "ClassGateModel" ⟨"ClassGateModel", "formed", "(II)I"⟩ ⟨"ClassGateModel", "formed", "(II)I"⟩) ∈ lw_all := lw_g (lw_at lw_ms 84 rfl) rfl
theorem qs85 : (Cond.selects "ClassGateModel" ⟨"ClassGateModel", "b4", "(I)I"⟩ ⟨"ClassGateModel", "b4", "(I)I"⟩) ∈ lw_all := lw_g (lw_at lw_ms 85 rfl) rfl
theorem qs86 : (Cond.selects "ClassGateModel" ⟨"ClassGateModel", "operands", "(II)Z"⟩ ⟨"ClassGateModel", "operands", "(II)Z"⟩) ∈ lw_all := lw_g (lw_at lw_ms 86 rfl) rfl
theorem qs87 : (Cond.selects "ClassGateModel" ⟨"ClassGateModel", "local", "(II)Z"⟩ ⟨"ClassGateModel", "local", "(II)Z"⟩) ∈ lw_all := lw_g (lw_at lw_ms 87 rfl) rfl
theorem qs88 : (Cond.selects "ClassGateModel" ⟨"ClassGateModel", "b2", "(I)I"⟩ ⟨"ClassGateModel", "b2", "(I)I"⟩) ∈ lw_all := lw_g (lw_at lw_ms 88 rfl) rfl
theorem qs89 : (Cond.selects "ClassGateModel" ⟨"ClassGateModel", "descOf", "(I)I"⟩ ⟨"ClassGateModel", "descOf", "(I)I"⟩) ∈ lw_all := lw_g (lw_at lw_ms 89 rfl) rfl
theorem qs90 : (Cond.selects "ClassGateModel" ⟨"ClassGateModel", "nameOf", "(I)I"⟩ ⟨"ClassGateModel", "nameOf", "(I)I"⟩) ∈ lw_all := lw_g (lw_at lw_ms 90 rfl) rfl
theorem qs91 : (Cond.selects "ClassGateModel" ⟨"ClassGateModel", "aims", "(I)Z"⟩ ⟨"ClassGateModel", "aims", "(I)Z"⟩) ∈ lw_all := lw_g (lw_at lw_ms 91 rfl) rfl
theorem qs92 : (Cond.selects "ClassGateModel" ⟨"ClassGateModel", "s2", "(I)I"⟩ ⟨"ClassGateModel", "s2", "(I)I"⟩) ∈ lw_all := lw_g (lw_at lw_ms 92 rfl) rfl
theorem qs93 : (Cond.selects "ClassGateModel" ⟨"ClassGateModel", "starts", "(J)Z"⟩ ⟨"ClassGateModel", "starts", "(J)Z"⟩) ∈ lw_all := lw_g (lw_at lw_ms 93 rfl) rfl
theorem qs94 : (Cond.selects "ClassGateModel" ⟨"ClassGateModel", "ways", "(I)I"⟩ ⟨"ClassGateModel", "ways", "(I)I"⟩) ∈ lw_all := lw_g (lw_at lw_ms 94 rfl) rfl
theorem qs95 : (Cond.selects "ClassGateModel" ⟨"ClassGateModel", "wayAt", "(II)I"⟩ ⟨"ClassGateModel", "wayAt", "(II)I"⟩) ∈ lw_all := lw_g (lw_at lw_ms 95 rfl) rfl
theorem qs96 : (Cond.selects "ClassGateModel" ⟨"ClassGateModel", "plain", "(II)I"⟩ ⟨"ClassGateModel", "plain", "(II)I"⟩) ∈ lw_all := lw_g (lw_at lw_ms 96 rfl) rfl
theorem qs97 : (Cond.selects "ClassGateModel" ⟨"ClassGateModel", "first", "(II)I"⟩ ⟨"ClassGateModel", "first", "(II)I"⟩) ∈ lw_all := lw_g (lw_at lw_ms 97 rfl) rfl
theorem qs98 : (Cond.selects "ClassGateModel" ⟨"ClassGateModel", "second", "(II)I"⟩ ⟨"ClassGateModel", "second", "(II)I"⟩) ∈ lw_all := lw_g (lw_at lw_ms 98 rfl) rfl
