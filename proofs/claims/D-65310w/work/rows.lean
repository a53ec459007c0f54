section
-- ===== PART A: goes FIRST, ahead of the names: the tables' words, and 'selects' of the private methods out of them =====
/-- a private method of a class that the tables say can be made, by its rows of tables_1 -/
def lw_okq (q : MethodName × Nat) : Prop := (q.1.cls ≠ "java/lang/invoke/MethodHandle" ∧ q.1.cls ≠ "java/lang/invoke/VarHandle") ∧ Cond.instantiable q.1.cls q.2 ∈ tables_1 ∧ Cond.privateMethod q.1 ∈ tables_1 ∧ Cond.instanceMethod q.1 ∈ tables_1
set_option maxRecDepth 100000
theorem lw_t1 {w : Cond} (h : w ∈ tables_1_1) : w ∈ tables_1 := List.mem_append_left _ h
theorem lw_t2 {w : Cond} (h : w ∈ tables_1_2) : w ∈ tables_1 := List.mem_append_right _ (List.mem_append_left _ h)
theorem lw_t3 {w : Cond} (h : w ∈ tables_1_3) : w ∈ tables_1 := List.mem_append_right _ (List.mem_append_right _ (List.mem_append_left _ h))
theorem lw_t4 {w : Cond} (h : w ∈ tables_1_4) : w ∈ tables_1 := List.mem_append_right _ (List.mem_append_right _ (List.mem_append_right _ (List.mem_append_left _ h)))
theorem lw_t5 {w : Cond} (h : w ∈ tables_1_5) : w ∈ tables_1 := List.mem_append_right _ (List.mem_append_right _ (List.mem_append_right _ (List.mem_append_right _ (List.mem_append_left _ h))))
theorem lw_t6 {w : Cond} (h : w ∈ tables_1_6) : w ∈ tables_1 := List.mem_append_right _ (List.mem_append_right _ (List.mem_append_right _ (List.mem_append_right _ (List.mem_append_right _ h))))
theorem lw_p0 : lw_okq (⟨"ClassFileReader", "file", "()V"⟩, 9) := ⟨⟨by decide +kernel, by decide +kernel⟩, lw_t1 (List.mem_of_getElem? (i := 32) rfl), lw_t2 (List.mem_of_getElem? (i := 4) rfl), lw_t2 (List.mem_of_getElem? (i := 5) rfl)⟩
theorem lw_p1 : lw_okq (⟨"ClassFileReader", "u4", "()J"⟩, 9) := ⟨⟨by decide +kernel, by decide +kernel⟩, lw_t1 (List.mem_of_getElem? (i := 32) rfl), lw_t2 (List.mem_of_getElem? (i := 8) rfl), lw_t2 (List.mem_of_getElem? (i := 9) rfl)⟩
theorem lw_p2 : lw_okq (⟨"ClassFileReader", "left", "(J)V"⟩, 9) := ⟨⟨by decide +kernel, by decide +kernel⟩, lw_t1 (List.mem_of_getElem? (i := 32) rfl), lw_t2 (List.mem_of_getElem? (i := 13) rfl), lw_t2 (List.mem_of_getElem? (i := 14) rfl)⟩
theorem lw_p3 : lw_okq (⟨"java/lang/Throwable", "fillInStackTrace", "(I)Ljava/lang/Throwable;"⟩, 6) := ⟨⟨by decide +kernel, by decide +kernel⟩, lw_t2 (List.mem_of_getElem? (i := 52) rfl), lw_t2 (List.mem_of_getElem? (i := 50) rfl), lw_t2 (List.mem_of_getElem? (i := 51) rfl)⟩
theorem lw_p4 : lw_okq (⟨"ClassFileReader", "u2", "()I"⟩, 9) := ⟨⟨by decide +kernel, by decide +kernel⟩, lw_t1 (List.mem_of_getElem? (i := 32) rfl), lw_t2 (List.mem_of_getElem? (i := 85) rfl), lw_t2 (List.mem_of_getElem? (i := 86) rfl)⟩
theorem lw_p5 : lw_okq (⟨"ClassFileReader", "u1", "()I"⟩, 9) := ⟨⟨by decide +kernel, by decide +kernel⟩, lw_t1 (List.mem_of_getElem? (i := 32) rfl), lw_t2 (List.mem_of_getElem? (i := 90) rfl), lw_t2 (List.mem_of_getElem? (i := 91) rfl)⟩
theorem lw_p6 : lw_okq (⟨"ClassFileReader", "must", "(ZII)V"⟩, 9) := ⟨⟨by decide +kernel, by decide +kernel⟩, lw_t1 (List.mem_of_getElem? (i := 32) rfl), lw_t2 (List.mem_of_getElem? (i := 95) rfl), lw_t2 (List.mem_of_getElem? (i := 96) rfl)⟩
theorem lw_p7 : lw_okq (⟨"ClassFileReader", "readPool", "()V"⟩, 9) := ⟨⟨by decide +kernel, by decide +kernel⟩, lw_t1 (List.mem_of_getElem? (i := 32) rfl), lw_t2 (List.mem_of_getElem? (i := 99) rfl), lw_t2 (List.mem_of_getElem? (i := 100) rfl)⟩
theorem lw_p8 : lw_okq (⟨"ClassFileReader", "readEntry", "(I)LClassFileReader$Entry;"⟩, 9) := ⟨⟨by decide +kernel, by decide +kernel⟩, lw_t1 (List.mem_of_getElem? (i := 32) rfl), lw_t2 (List.mem_of_getElem? (i := 103) rfl), lw_t2 (List.mem_of_getElem? (i := 104) rfl)⟩
theorem lw_p9 : lw_okq (⟨"ClassFileReader", "textEntry", "(I)LClassFileReader$Entry;"⟩, 9) := ⟨⟨by decide +kernel, by decide +kernel⟩, lw_t1 (List.mem_of_getElem? (i := 32) rfl), lw_t2 (List.mem_of_getElem? (i := 107) rfl), lw_t2 (List.mem_of_getElem? (i := 108) rfl)⟩
theorem lw_p10 : lw_okq (⟨"ClassFileReader", "textAt", "(II)Ljava/lang/String;"⟩, 9) := ⟨⟨by decide +kernel, by decide +kernel⟩, lw_t1 (List.mem_of_getElem? (i := 32) rfl), lw_t3 (List.mem_of_getElem? (i := 131) rfl), lw_t3 (List.mem_of_getElem? (i := 132) rfl)⟩
theorem lw_p11 : lw_okq (⟨"ClassFileReader", "entry", "(I)LClassFileReader$Entry;"⟩, 9) := ⟨⟨by decide +kernel, by decide +kernel⟩, lw_t1 (List.mem_of_getElem? (i := 32) rfl), lw_t3 (List.mem_of_getElem? (i := 135) rfl), lw_t3 (List.mem_of_getElem? (i := 136) rfl)⟩
theorem lw_p12 : lw_okq (⟨"ClassFileReader", "classAt", "(II)LClassFileReader$Named;"⟩, 9) := ⟨⟨by decide +kernel, by decide +kernel⟩, lw_t1 (List.mem_of_getElem? (i := 32) rfl), lw_t3 (List.mem_of_getElem? (i := 188) rfl), lw_t3 (List.mem_of_getElem? (i := 189) rfl)⟩
theorem lw_p13 : lw_okq (⟨"ClassFileReader", "plainClass", "(Z)Ljava/lang/String;"⟩, 9) := ⟨⟨by decide +kernel, by decide +kernel⟩, lw_t1 (List.mem_of_getElem? (i := 32) rfl), lw_t3 (List.mem_of_getElem? (i := 222) rfl), lw_t3 (List.mem_of_getElem? (i := 223) rfl)⟩
theorem lw_p14 : lw_okq (⟨"ClassFileReader", "interfaces", "()V"⟩, 9) := ⟨⟨by decide +kernel, by decide +kernel⟩, lw_t1 (List.mem_of_getElem? (i := 32) rfl), lw_t3 (List.mem_of_getElem? (i := 227) rfl), lw_t3 (List.mem_of_getElem? (i := 228) rfl)⟩
theorem lw_p15 : lw_okq (⟨"ClassFileReader", "members", "(Z)V"⟩, 9) := ⟨⟨by decide +kernel, by decide +kernel⟩, lw_t1 (List.mem_of_getElem? (i := 32) rfl), lw_t4 (List.mem_of_getElem? (i := 12) rfl), lw_t4 (List.mem_of_getElem? (i := 13) rfl)⟩
def lw_privs_1 : List (MethodName × Nat) := [(⟨"ClassFileReader", "file", "()V"⟩, 9), (⟨"ClassFileReader", "u4", "()J"⟩, 9), (⟨"ClassFileReader", "left", "(J)V"⟩, 9), (⟨"java/lang/Throwable", "fillInStackTrace", "(I)Ljava/lang/Throwable;"⟩, 6), (⟨"ClassFileReader", "u2", "()I"⟩, 9), (⟨"ClassFileReader", "u1", "()I"⟩, 9), (⟨"ClassFileReader", "must", "(ZII)V"⟩, 9), (⟨"ClassFileReader", "readPool", "()V"⟩, 9), (⟨"ClassFileReader", "readEntry", "(I)LClassFileReader$Entry;"⟩, 9), (⟨"ClassFileReader", "textEntry", "(I)LClassFileReader$Entry;"⟩, 9), (⟨"ClassFileReader", "textAt", "(II)Ljava/lang/String;"⟩, 9), (⟨"ClassFileReader", "entry", "(I)LClassFileReader$Entry;"⟩, 9), (⟨"ClassFileReader", "classAt", "(II)LClassFileReader$Named;"⟩, 9), (⟨"ClassFileReader", "plainClass", "(Z)Ljava/lang/String;"⟩, 9), (⟨"ClassFileReader", "interfaces", "()V"⟩, 9), (⟨"ClassFileReader", "members", "(Z)V"⟩, 9)]
theorem lw_r1 : ∀ q ∈ lw_privs_1, lw_okq q := List.forall_mem_cons.mpr ⟨lw_p0, List.forall_mem_cons.mpr ⟨lw_p1, List.forall_mem_cons.mpr ⟨lw_p2, List.forall_mem_cons.mpr ⟨lw_p3, List.forall_mem_cons.mpr ⟨lw_p4, List.forall_mem_cons.mpr ⟨lw_p5, List.forall_mem_cons.mpr ⟨lw_p6, List.forall_mem_cons.mpr ⟨lw_p7, List.forall_mem_cons.mpr ⟨lw_p8, List.forall_mem_cons.mpr ⟨lw_p9, List.forall_mem_cons.mpr ⟨lw_p10, List.forall_mem_cons.mpr ⟨lw_p11, List.forall_mem_cons.mpr ⟨lw_p12, List.forall_mem_cons.mpr ⟨lw_p13, List.forall_mem_cons.mpr ⟨lw_p14, List.forall_mem_cons.mpr ⟨lw_p15, fun _ h => absurd h List.not_mem_nil⟩⟩⟩⟩⟩⟩⟩⟩⟩⟩⟩⟩⟩⟩⟩⟩
theorem lw_p16 : lw_okq (⟨"ClassFileReader", "member", "(Z)V"⟩, 9) := ⟨⟨by decide +kernel, by decide +kernel⟩, lw_t1 (List.mem_of_getElem? (i := 32) rfl), lw_t4 (List.mem_of_getElem? (i := 16) rfl), lw_t4 (List.mem_of_getElem? (i := 17) rfl)⟩
theorem lw_p17 : lw_okq (⟨"ClassFileReader", "table", "(LClassFileReader$Holder;)V"⟩, 9) := ⟨⟨by decide +kernel, by decide +kernel⟩, lw_t1 (List.mem_of_getElem? (i := 32) rfl), lw_t4 (List.mem_of_getElem? (i := 103) rfl), lw_t4 (List.mem_of_getElem? (i := 104) rfl)⟩
theorem lw_p18 : lw_okq (⟨"ClassFileReader", "textItem", "()Ljava/lang/String;"⟩, 9) := ⟨⟨by decide +kernel, by decide +kernel⟩, lw_t1 (List.mem_of_getElem? (i := 32) rfl), lw_t4 (List.mem_of_getElem? (i := 107) rfl), lw_t4 (List.mem_of_getElem? (i := 108) rfl)⟩
theorem lw_p19 : lw_okq (⟨"ClassFileReader", "content", "(LClassFileReader$Holder;IIJ)V"⟩, 9) := ⟨⟨by decide +kernel, by decide +kernel⟩, lw_t1 (List.mem_of_getElem? (i := 32) rfl), lw_t4 (List.mem_of_getElem? (i := 202) rfl), lw_t4 (List.mem_of_getElem? (i := 203) rfl)⟩
theorem lw_p20 : lw_okq (⟨"ClassFileReader", "constantItem", "(LClassFileReader$Field;)V"⟩, 9) := ⟨⟨by decide +kernel, by decide +kernel⟩, lw_t1 (List.mem_of_getElem? (i := 32) rfl), lw_t4 (List.mem_of_getElem? (i := 206) rfl), lw_t4 (List.mem_of_getElem? (i := 207) rfl)⟩
theorem lw_p21 : lw_okq (⟨"ClassFileReader", "classes", "(LClassFileReader$Links;IJ)V"⟩, 9) := ⟨⟨by decide +kernel, by decide +kernel⟩, lw_t1 (List.mem_of_getElem? (i := 32) rfl), lw_t4 (List.mem_of_getElem? (i := 222) rfl), lw_t4 (List.mem_of_getElem? (i := 223) rfl)⟩
theorem lw_p22 : lw_okq (⟨"ClassFileReader", "elements", "(IJI)I"⟩, 9) := ⟨⟨by decide +kernel, by decide +kernel⟩, lw_t1 (List.mem_of_getElem? (i := 32) rfl), lw_t4 (List.mem_of_getElem? (i := 226) rfl), lw_t4 (List.mem_of_getElem? (i := 227) rfl)⟩
theorem lw_p23 : lw_okq (⟨"ClassFileReader", "classItem", "()Ljava/lang/String;"⟩, 9) := ⟨⟨by decide +kernel, by decide +kernel⟩, lw_t1 (List.mem_of_getElem? (i := 32) rfl), lw_t4 (List.mem_of_getElem? (i := 230) rfl), lw_t4 (List.mem_of_getElem? (i := 231) rfl)⟩
theorem lw_p24 : lw_okq (⟨"ClassFileReader", "innerClasses", "(LClassFileReader$Mirror;IJ)V"⟩, 9) := ⟨⟨by decide +kernel, by decide +kernel⟩, lw_t1 (List.mem_of_getElem? (i := 32) rfl), lw_t4 (List.mem_of_getElem? (i := 234) rfl), lw_t4 (List.mem_of_getElem? (i := 235) rfl)⟩
theorem lw_p25 : lw_okq (⟨"ClassFileReader", "record", "(LClassFileReader$Mirror;IJ)V"⟩, 9) := ⟨⟨by decide +kernel, by decide +kernel⟩, lw_t1 (List.mem_of_getElem? (i := 32) rfl), lw_t4 (List.mem_of_getElem? (i := 238) rfl), lw_t4 (List.mem_of_getElem? (i := 239) rfl)⟩
theorem lw_p26 : lw_okq (⟨"ClassFileReader", "find", "(II)Ljava/lang/String;"⟩, 9) := ⟨⟨by decide +kernel, by decide +kernel⟩, lw_t1 (List.mem_of_getElem? (i := 32) rfl), lw_t5 (List.mem_of_getElem? (i := 32) rfl), lw_t5 (List.mem_of_getElem? (i := 33) rfl)⟩
theorem lw_p27 : lw_okq (⟨"ClassFileReader", "method", "(I)LClassFileReader$Method;"⟩, 9) := ⟨⟨by decide +kernel, by decide +kernel⟩, lw_t1 (List.mem_of_getElem? (i := 32) rfl), lw_t5 (List.mem_of_getElem? (i := 50) rfl), lw_t5 (List.mem_of_getElem? (i := 51) rfl)⟩
theorem lw_p28 : lw_okq (⟨"ClassFileReaderModel", "file", "()V"⟩, 10) := ⟨⟨by decide +kernel, by decide +kernel⟩, lw_t5 (List.mem_of_getElem? (i := 66) rfl), lw_t5 (List.mem_of_getElem? (i := 120) rfl), lw_t5 (List.mem_of_getElem? (i := 121) rfl)⟩
theorem lw_p29 : lw_okq (⟨"ClassFileReaderModel", "u4", "()J"⟩, 10) := ⟨⟨by decide +kernel, by decide +kernel⟩, lw_t5 (List.mem_of_getElem? (i := 66) rfl), lw_t5 (List.mem_of_getElem? (i := 124) rfl), lw_t5 (List.mem_of_getElem? (i := 125) rfl)⟩
theorem lw_p30 : lw_okq (⟨"ClassFileReaderModel", "room", "(J)Z"⟩, 10) := ⟨⟨by decide +kernel, by decide +kernel⟩, lw_t5 (List.mem_of_getElem? (i := 66) rfl), lw_t5 (List.mem_of_getElem? (i := 129) rfl), lw_t5 (List.mem_of_getElem? (i := 130) rfl)⟩
theorem lw_p31 : lw_okq (⟨"ClassFileReaderModel", "fail", "(II)V"⟩, 10) := ⟨⟨by decide +kernel, by decide +kernel⟩, lw_t5 (List.mem_of_getElem? (i := 66) rfl), lw_t5 (List.mem_of_getElem? (i := 133) rfl), lw_t5 (List.mem_of_getElem? (i := 134) rfl)⟩
def lw_privs_2 : List (MethodName × Nat) := [(⟨"ClassFileReader", "member", "(Z)V"⟩, 9), (⟨"ClassFileReader", "table", "(LClassFileReader$Holder;)V"⟩, 9), (⟨"ClassFileReader", "textItem", "()Ljava/lang/String;"⟩, 9), (⟨"ClassFileReader", "content", "(LClassFileReader$Holder;IIJ)V"⟩, 9), (⟨"ClassFileReader", "constantItem", "(LClassFileReader$Field;)V"⟩, 9), (⟨"ClassFileReader", "classes", "(LClassFileReader$Links;IJ)V"⟩, 9), (⟨"ClassFileReader", "elements", "(IJI)I"⟩, 9), (⟨"ClassFileReader", "classItem", "()Ljava/lang/String;"⟩, 9), (⟨"ClassFileReader", "innerClasses", "(LClassFileReader$Mirror;IJ)V"⟩, 9), (⟨"ClassFileReader", "record", "(LClassFileReader$Mirror;IJ)V"⟩, 9), (⟨"ClassFileReader", "find", "(II)Ljava/lang/String;"⟩, 9), (⟨"ClassFileReader", "method", "(I)LClassFileReader$Method;"⟩, 9), (⟨"ClassFileReaderModel", "file", "()V"⟩, 10), (⟨"ClassFileReaderModel", "u4", "()J"⟩, 10), (⟨"ClassFileReaderModel", "room", "(J)Z"⟩, 10), (⟨"ClassFileReaderModel", "fail", "(II)V"⟩, 10)]
theorem lw_r2 : ∀ q ∈ lw_privs_2, lw_okq q := List.forall_mem_cons.mpr ⟨lw_p16, List.forall_mem_cons.mpr ⟨lw_p17, List.forall_mem_cons.mpr ⟨lw_p18, List.forall_mem_cons.mpr ⟨lw_p19, List.forall_mem_cons.mpr ⟨lw_p20, List.forall_mem_cons.mpr ⟨lw_p21, List.forall_mem_cons.mpr ⟨lw_p22, List.forall_mem_cons.mpr ⟨lw_p23, List.forall_mem_cons.mpr ⟨lw_p24, List.forall_mem_cons.mpr ⟨lw_p25, List.forall_mem_cons.mpr ⟨lw_p26, List.forall_mem_cons.mpr ⟨lw_p27, List.forall_mem_cons.mpr ⟨lw_p28, List.forall_mem_cons.mpr ⟨lw_p29, List.forall_mem_cons.mpr ⟨lw_p30, List.forall_mem_cons.mpr ⟨lw_p31, fun _ h => absurd h List.not_mem_nil⟩⟩⟩⟩⟩⟩⟩⟩⟩⟩⟩⟩⟩⟩⟩⟩
theorem lw_p32 : lw_okq (⟨"ClassFileReaderModel", "u2", "()I"⟩, 10) := ⟨⟨by decide +kernel, by decide +kernel⟩, lw_t5 (List.mem_of_getElem? (i := 66) rfl), lw_t5 (List.mem_of_getElem? (i := 138) rfl), lw_t5 (List.mem_of_getElem? (i := 139) rfl)⟩
theorem lw_p33 : lw_okq (⟨"ClassFileReaderModel", "pool", "()V"⟩, 10) := ⟨⟨by decide +kernel, by decide +kernel⟩, lw_t5 (List.mem_of_getElem? (i := 66) rfl), lw_t5 (List.mem_of_getElem? (i := 143) rfl), lw_t5 (List.mem_of_getElem? (i := 144) rfl)⟩
theorem lw_p34 : lw_okq (⟨"ClassFileReaderModel", "entry", "(I)I"⟩, 10) := ⟨⟨by decide +kernel, by decide +kernel⟩, lw_t5 (List.mem_of_getElem? (i := 66) rfl), lw_t5 (List.mem_of_getElem? (i := 147) rfl), lw_t5 (List.mem_of_getElem? (i := 148) rfl)⟩
theorem lw_p35 : lw_okq (⟨"ClassFileReaderModel", "u1", "()I"⟩, 10) := ⟨⟨by decide +kernel, by decide +kernel⟩, lw_t5 (List.mem_of_getElem? (i := 66) rfl), lw_t5 (List.mem_of_getElem? (i := 151) rfl), lw_t5 (List.mem_of_getElem? (i := 152) rfl)⟩
theorem lw_p36 : lw_okq (⟨"ClassFileReaderModel", "look", "(I)V"⟩, 10) := ⟨⟨by decide +kernel, by decide +kernel⟩, lw_t5 (List.mem_of_getElem? (i := 66) rfl), lw_t5 (List.mem_of_getElem? (i := 155) rfl), lw_t5 (List.mem_of_getElem? (i := 156) rfl)⟩
theorem lw_p37 : lw_okq (⟨"ClassFileReaderModel", "tag", "(I)I"⟩, 10) := ⟨⟨by decide +kernel, by decide +kernel⟩, lw_t5 (List.mem_of_getElem? (i := 66) rfl), lw_t5 (List.mem_of_getElem? (i := 159) rfl), lw_t5 (List.mem_of_getElem? (i := 160) rfl)⟩
theorem lw_p38 : lw_okq (⟨"ClassFileReaderModel", "note", "(I)I"⟩, 10) := ⟨⟨by decide +kernel, by decide +kernel⟩, lw_t5 (List.mem_of_getElem? (i := 66) rfl), lw_t5 (List.mem_of_getElem? (i := 163) rfl), lw_t5 (List.mem_of_getElem? (i := 164) rfl)⟩
theorem lw_p39 : lw_okq (⟨"ClassFileReaderModel", "byteAt", "(I)I"⟩, 10) := ⟨⟨by decide +kernel, by decide +kernel⟩, lw_t5 (List.mem_of_getElem? (i := 66) rfl), lw_t5 (List.mem_of_getElem? (i := 167) rfl), lw_t5 (List.mem_of_getElem? (i := 168) rfl)⟩
theorem lw_p40 : lw_okq (⟨"ClassFileReaderModel", "operand", "(I)I"⟩, 10) := ⟨⟨by decide +kernel, by decide +kernel⟩, lw_t5 (List.mem_of_getElem? (i := 66) rfl), lw_t5 (List.mem_of_getElem? (i := 171) rfl), lw_t5 (List.mem_of_getElem? (i := 172) rfl)⟩
theorem lw_p41 : lw_okq (⟨"ClassFileReaderModel", "two", "(I)I"⟩, 10) := ⟨⟨by decide +kernel, by decide +kernel⟩, lw_t5 (List.mem_of_getElem? (i := 66) rfl), lw_t5 (List.mem_of_getElem? (i := 175) rfl), lw_t5 (List.mem_of_getElem? (i := 176) rfl)⟩
theorem lw_p42 : lw_okq (⟨"ClassFileReaderModel", "isClassName", "(I)Z"⟩, 10) := ⟨⟨by decide +kernel, by decide +kernel⟩, lw_t5 (List.mem_of_getElem? (i := 66) rfl), lw_t5 (List.mem_of_getElem? (i := 179) rfl), lw_t5 (List.mem_of_getElem? (i := 180) rfl)⟩
theorem lw_p43 : lw_okq (⟨"ClassFileReaderModel", "start", "(I)I"⟩, 10) := ⟨⟨by decide +kernel, by decide +kernel⟩, lw_t5 (List.mem_of_getElem? (i := 66) rfl), lw_t5 (List.mem_of_getElem? (i := 183) rfl), lw_t5 (List.mem_of_getElem? (i := 184) rfl)⟩
theorem lw_p44 : lw_okq (⟨"ClassFileReaderModel", "count", "(I)I"⟩, 10) := ⟨⟨by decide +kernel, by decide +kernel⟩, lw_t5 (List.mem_of_getElem? (i := 66) rfl), lw_t5 (List.mem_of_getElem? (i := 187) rfl), lw_t5 (List.mem_of_getElem? (i := 188) rfl)⟩
theorem lw_p45 : lw_okq (⟨"ClassFileReaderModel", "className", "(II)Z"⟩, 10) := ⟨⟨by decide +kernel, by decide +kernel⟩, lw_t5 (List.mem_of_getElem? (i := 66) rfl), lw_t5 (List.mem_of_getElem? (i := 191) rfl), lw_t5 (List.mem_of_getElem? (i := 192) rfl)⟩
theorem lw_p46 : lw_okq (⟨"ClassFileReaderModel", "character", "(II)I"⟩, 10) := ⟨⟨by decide +kernel, by decide +kernel⟩, lw_t5 (List.mem_of_getElem? (i := 66) rfl), lw_t5 (List.mem_of_getElem? (i := 198) rfl), lw_t5 (List.mem_of_getElem? (i := 199) rfl)⟩
theorem lw_p47 : lw_okq (⟨"ClassFileReaderModel", "isField", "(I)Z"⟩, 10) := ⟨⟨by decide +kernel, by decide +kernel⟩, lw_t5 (List.mem_of_getElem? (i := 66) rfl), lw_t5 (List.mem_of_getElem? (i := 202) rfl), lw_t5 (List.mem_of_getElem? (i := 203) rfl)⟩
def lw_privs_3 : List (MethodName × Nat) := [(⟨"ClassFileReaderModel", "u2", "()I"⟩, 10), (⟨"ClassFileReaderModel", "pool", "()V"⟩, 10), (⟨"ClassFileReaderModel", "entry", "(I)I"⟩, 10), (⟨"ClassFileReaderModel", "u1", "()I"⟩, 10), (⟨"ClassFileReaderModel", "look", "(I)V"⟩, 10), (⟨"ClassFileReaderModel", "tag", "(I)I"⟩, 10), (⟨"ClassFileReaderModel", "note", "(I)I"⟩, 10), (⟨"ClassFileReaderModel", "byteAt", "(I)I"⟩, 10), (⟨"ClassFileReaderModel", "operand", "(I)I"⟩, 10), (⟨"ClassFileReaderModel", "two", "(I)I"⟩, 10), (⟨"ClassFileReaderModel", "isClassName", "(I)Z"⟩, 10), (⟨"ClassFileReaderModel", "start", "(I)I"⟩, 10), (⟨"ClassFileReaderModel", "count", "(I)I"⟩, 10), (⟨"ClassFileReaderModel", "className", "(II)Z"⟩, 10), (⟨"ClassFileReaderModel", "character", "(II)I"⟩, 10), (⟨"ClassFileReaderModel", "isField", "(I)Z"⟩, 10)]
theorem lw_r3 : ∀ q ∈ lw_privs_3, lw_okq q := List.forall_mem_cons.mpr ⟨lw_p32, List.forall_mem_cons.mpr ⟨lw_p33, List.forall_mem_cons.mpr ⟨lw_p34, List.forall_mem_cons.mpr ⟨lw_p35, List.forall_mem_cons.mpr ⟨lw_p36, List.forall_mem_cons.mpr ⟨lw_p37, List.forall_mem_cons.mpr ⟨lw_p38, List.forall_mem_cons.mpr ⟨lw_p39, List.forall_mem_cons.mpr ⟨lw_p40, List.forall_mem_cons.mpr ⟨lw_p41, List.forall_mem_cons.mpr ⟨lw_p42, List.forall_mem_cons.mpr ⟨lw_p43, List.forall_mem_cons.mpr ⟨lw_p44, List.forall_mem_cons.mpr ⟨lw_p45, List.forall_mem_cons.mpr ⟨lw_p46, List.forall_mem_cons.mpr ⟨lw_p47, fun _ h => absurd h List.not_mem_nil⟩⟩⟩⟩⟩⟩⟩⟩⟩⟩⟩⟩⟩⟩⟩⟩
theorem lw_p48 : lw_okq (⟨"ClassFileReaderModel", "fieldType", "(II)I"⟩, 10) := ⟨⟨by decide +kernel, by decide +kernel⟩, lw_t5 (List.mem_of_getElem? (i := 66) rfl), lw_t5 (List.mem_of_getElem? (i := 206) rfl), lw_t5 (List.mem_of_getElem? (i := 207) rfl)⟩
theorem lw_p49 : lw_okq (⟨"ClassFileReaderModel", "isMember", "(I)Z"⟩, 10) := ⟨⟨by decide +kernel, by decide +kernel⟩, lw_t5 (List.mem_of_getElem? (i := 66) rfl), lw_t5 (List.mem_of_getElem? (i := 210) rfl), lw_t5 (List.mem_of_getElem? (i := 211) rfl)⟩
theorem lw_p50 : lw_okq (⟨"ClassFileReaderModel", "known", "(I)I"⟩, 10) := ⟨⟨by decide +kernel, by decide +kernel⟩, lw_t5 (List.mem_of_getElem? (i := 66) rfl), lw_t5 (List.mem_of_getElem? (i := 214) rfl), lw_t5 (List.mem_of_getElem? (i := 215) rfl)⟩
theorem lw_p51 : lw_okq (⟨"ClassFileReaderModel", "same", "(IIJJJ)Z"⟩, 10) := ⟨⟨by decide +kernel, by decide +kernel⟩, lw_t5 (List.mem_of_getElem? (i := 66) rfl), lw_t5 (List.mem_of_getElem? (i := 220) rfl), lw_t5 (List.mem_of_getElem? (i := 221) rfl)⟩
theorem lw_p52 : lw_okq (⟨"ClassFileReaderModel", "isMethod", "(I)Z"⟩, 10) := ⟨⟨by decide +kernel, by decide +kernel⟩, lw_t5 (List.mem_of_getElem? (i := 66) rfl), lw_t6 (List.mem_of_getElem? (i := 5) rfl), lw_t6 (List.mem_of_getElem? (i := 6) rfl)⟩
theorem lw_p53 : lw_okq (⟨"ClassFileReaderModel", "named", "()I"⟩, 10) := ⟨⟨by decide +kernel, by decide +kernel⟩, lw_t5 (List.mem_of_getElem? (i := 66) rfl), lw_t6 (List.mem_of_getElem? (i := 15) rfl), lw_t6 (List.mem_of_getElem? (i := 16) rfl)⟩
theorem lw_p54 : lw_okq (⟨"ClassFileReaderModel", "classRef", "(Z)I"⟩, 10) := ⟨⟨by decide +kernel, by decide +kernel⟩, lw_t5 (List.mem_of_getElem? (i := 66) rfl), lw_t6 (List.mem_of_getElem? (i := 19) rfl), lw_t6 (List.mem_of_getElem? (i := 20) rfl)⟩
theorem lw_p55 : lw_okq (⟨"ClassFileReaderModel", "index", "(IZ)I"⟩, 10) := ⟨⟨by decide +kernel, by decide +kernel⟩, lw_t5 (List.mem_of_getElem? (i := 66) rfl), lw_t6 (List.mem_of_getElem? (i := 23) rfl), lw_t6 (List.mem_of_getElem? (i := 24) rfl)⟩
theorem lw_p56 : lw_okq (⟨"ClassFileReaderModel", "interfaces", "()V"⟩, 10) := ⟨⟨by decide +kernel, by decide +kernel⟩, lw_t5 (List.mem_of_getElem? (i := 66) rfl), lw_t6 (List.mem_of_getElem? (i := 27) rfl), lw_t6 (List.mem_of_getElem? (i := 28) rfl)⟩
theorem lw_p57 : lw_okq (⟨"ClassFileReaderModel", "alike", "(II)Z"⟩, 10) := ⟨⟨by decide +kernel, by decide +kernel⟩, lw_t5 (List.mem_of_getElem? (i := 66) rfl), lw_t6 (List.mem_of_getElem? (i := 31) rfl), lw_t6 (List.mem_of_getElem? (i := 32) rfl)⟩
theorem lw_p58 : lw_okq (⟨"ClassFileReaderModel", "members", "(II)V"⟩, 10) := ⟨⟨by decide +kernel, by decide +kernel⟩, lw_t5 (List.mem_of_getElem? (i := 66) rfl), lw_t6 (List.mem_of_getElem? (i := 35) rfl), lw_t6 (List.mem_of_getElem? (i := 36) rfl)⟩
theorem lw_p59 : lw_okq (⟨"ClassFileReaderModel", "few", "()I"⟩, 10) := ⟨⟨by decide +kernel, by decide +kernel⟩, lw_t5 (List.mem_of_getElem? (i := 66) rfl), lw_t6 (List.mem_of_getElem? (i := 39) rfl), lw_t6 (List.mem_of_getElem? (i := 40) rfl)⟩
theorem lw_p60 : lw_okq (⟨"ClassFileReaderModel", "member", "(II)V"⟩, 10) := ⟨⟨by decide +kernel, by decide +kernel⟩, lw_t5 (List.mem_of_getElem? (i := 66) rfl), lw_t6 (List.mem_of_getElem? (i := 43) rfl), lw_t6 (List.mem_of_getElem? (i := 44) rfl)⟩
theorem lw_p61 : lw_okq (⟨"ClassFileReaderModel", "judge", "(IIII)V"⟩, 10) := ⟨⟨by decide +kernel, by decide +kernel⟩, lw_t5 (List.mem_of_getElem? (i := 66) rfl), lw_t6 (List.mem_of_getElem? (i := 47) rfl), lw_t6 (List.mem_of_getElem? (i := 48) rfl)⟩
theorem lw_p62 : lw_okq (⟨"ClassFileReaderModel", "badFlags", "(III)Z"⟩, 10) := ⟨⟨by decide +kernel, by decide +kernel⟩, lw_t5 (List.mem_of_getElem? (i := 66) rfl), lw_t6 (List.mem_of_getElem? (i := 51) rfl), lw_t6 (List.mem_of_getElem? (i := 52) rfl)⟩
theorem lw_p63 : lw_okq (⟨"ClassFileReaderModel", "table", "(II)V"⟩, 10) := ⟨⟨by decide +kernel, by decide +kernel⟩, lw_t5 (List.mem_of_getElem? (i := 66) rfl), lw_t6 (List.mem_of_getElem? (i := 58) rfl), lw_t6 (List.mem_of_getElem? (i := 59) rfl)⟩
def lw_privs_4 : List (MethodName × Nat) := [(⟨"ClassFileReaderModel", "fieldType", "(II)I"⟩, 10), (⟨"ClassFileReaderModel", "isMember", "(I)Z"⟩, 10), (⟨"ClassFileReaderModel", "known", "(I)I"⟩, 10), (⟨"ClassFileReaderModel", "same", "(IIJJJ)Z"⟩, 10), (⟨"ClassFileReaderModel", "isMethod", "(I)Z"⟩, 10), (⟨"ClassFileReaderModel", "named", "()I"⟩, 10), (⟨"ClassFileReaderModel", "classRef", "(Z)I"⟩, 10), (⟨"ClassFileReaderModel", "index", "(IZ)I"⟩, 10), (⟨"ClassFileReaderModel", "interfaces", "()V"⟩, 10), (⟨"ClassFileReaderModel", "alike", "(II)Z"⟩, 10), (⟨"ClassFileReaderModel", "members", "(II)V"⟩, 10), (⟨"ClassFileReaderModel", "few", "()I"⟩, 10), (⟨"ClassFileReaderModel", "member", "(II)V"⟩, 10), (⟨"ClassFileReaderModel", "judge", "(IIII)V"⟩, 10), (⟨"ClassFileReaderModel", "badFlags", "(III)Z"⟩, 10), (⟨"ClassFileReaderModel", "table", "(II)V"⟩, 10)]
theorem lw_r4 : ∀ q ∈ lw_privs_4, lw_okq q := List.forall_mem_cons.mpr ⟨lw_p48, List.forall_mem_cons.mpr ⟨lw_p49, List.forall_mem_cons.mpr ⟨lw_p50, List.forall_mem_cons.mpr ⟨lw_p51, List.forall_mem_cons.mpr ⟨lw_p52, List.forall_mem_cons.mpr ⟨lw_p53, List.forall_mem_cons.mpr ⟨lw_p54, List.forall_mem_cons.mpr ⟨lw_p55, List.forall_mem_cons.mpr ⟨lw_p56, List.forall_mem_cons.mpr ⟨lw_p57, List.forall_mem_cons.mpr ⟨lw_p58, List.forall_mem_cons.mpr ⟨lw_p59, List.forall_mem_cons.mpr ⟨lw_p60, List.forall_mem_cons.mpr ⟨lw_p61, List.forall_mem_cons.mpr ⟨lw_p62, List.forall_mem_cons.mpr ⟨lw_p63, fun _ h => absurd h List.not_mem_nil⟩⟩⟩⟩⟩⟩⟩⟩⟩⟩⟩⟩⟩⟩⟩⟩
theorem lw_p64 : lw_okq (⟨"ClassFileReaderModel", "parts", "(JI)V"⟩, 10) := ⟨⟨by decide +kernel, by decide +kernel⟩, lw_t5 (List.mem_of_getElem? (i := 66) rfl), lw_t6 (List.mem_of_getElem? (i := 65) rfl), lw_t6 (List.mem_of_getElem? (i := 66) rfl)⟩
theorem lw_p65 : lw_okq (⟨"ClassFileReaderModel", "part", "(I)V"⟩, 10) := ⟨⟨by decide +kernel, by decide +kernel⟩, lw_t5 (List.mem_of_getElem? (i := 66) rfl), lw_t6 (List.mem_of_getElem? (i := 69) rfl), lw_t6 (List.mem_of_getElem? (i := 70) rfl)⟩
theorem lw_p66 : lw_okq (⟨"ClassFileReaderModel", "fixed", "(IIJI)V"⟩, 10) := ⟨⟨by decide +kernel, by decide +kernel⟩, lw_t5 (List.mem_of_getElem? (i := 66) rfl), lw_t6 (List.mem_of_getElem? (i := 73) rfl), lw_t6 (List.mem_of_getElem? (i := 74) rfl)⟩
theorem lw_p67 : lw_okq (⟨"ClassFileReaderModel", "constantKind", "(I)I"⟩, 10) := ⟨⟨by decide +kernel, by decide +kernel⟩, lw_t5 (List.mem_of_getElem? (i := 66) rfl), lw_t6 (List.mem_of_getElem? (i := 77) rfl), lw_t6 (List.mem_of_getElem? (i := 78) rfl)⟩
theorem lw_p68 : lw_okq (⟨"ClassFileReaderModel", "list", "(IIJI)V"⟩, 10) := ⟨⟨by decide +kernel, by decide +kernel⟩, lw_t5 (List.mem_of_getElem? (i := 66) rfl), lw_t6 (List.mem_of_getElem? (i := 81) rfl), lw_t6 (List.mem_of_getElem? (i := 82) rfl)⟩
theorem lw_p69 : lw_okq (⟨"ClassFileReaderModel", "element", "(III)I"⟩, 10) := ⟨⟨by decide +kernel, by decide +kernel⟩, lw_t5 (List.mem_of_getElem? (i := 66) rfl), lw_t6 (List.mem_of_getElem? (i := 98) rfl), lw_t6 (List.mem_of_getElem? (i := 99) rfl)⟩
theorem lw_p70 : lw_okq (⟨"ClassFileReaderModel", "member2", "(II)I"⟩, 10) := ⟨⟨by decide +kernel, by decide +kernel⟩, lw_t5 (List.mem_of_getElem? (i := 66) rfl), lw_t6 (List.mem_of_getElem? (i := 102) rfl), lw_t6 (List.mem_of_getElem? (i := 103) rfl)⟩
theorem lw_p71 : lw_okq (⟨"ClassFileReaderModel", "textIndex", "(II)I"⟩, 10) := ⟨⟨by decide +kernel, by decide +kernel⟩, lw_t5 (List.mem_of_getElem? (i := 66) rfl), lw_t6 (List.mem_of_getElem? (i := 110) rfl), lw_t6 (List.mem_of_getElem? (i := 111) rfl)⟩
theorem lw_p72 : lw_okq (⟨"ClassFileReaderModel", "classText", "(I)I"⟩, 10) := ⟨⟨by decide +kernel, by decide +kernel⟩, lw_t5 (List.mem_of_getElem? (i := 66) rfl), lw_t6 (List.mem_of_getElem? (i := 114) rfl), lw_t6 (List.mem_of_getElem? (i := 115) rfl)⟩
theorem lw_p73 : lw_okq (⟨"ClassFileReaderModel", "elementText", "(IIII)I"⟩, 10) := ⟨⟨by decide +kernel, by decide +kernel⟩, lw_t5 (List.mem_of_getElem? (i := 66) rfl), lw_t6 (List.mem_of_getElem? (i := 118) rfl), lw_t6 (List.mem_of_getElem? (i := 119) rfl)⟩
theorem lw_p74 : lw_okq (⟨"ClassFileReaderModel", "characterOf", "(II)I"⟩, 10) := ⟨⟨by decide +kernel, by decide +kernel⟩, lw_t5 (List.mem_of_getElem? (i := 66) rfl), lw_t6 (List.mem_of_getElem? (i := 122) rfl), lw_t6 (List.mem_of_getElem? (i := 123) rfl)⟩
theorem lw_p75 : lw_okq (⟨"ClassFileReaderModel", "four", "(I)J"⟩, 10) := ⟨⟨by decide +kernel, by decide +kernel⟩, lw_t5 (List.mem_of_getElem? (i := 66) rfl), lw_t6 (List.mem_of_getElem? (i := 139) rfl), lw_t6 (List.mem_of_getElem? (i := 140) rfl)⟩
def lw_privs_5 : List (MethodName × Nat) := [(⟨"ClassFileReaderModel", "parts", "(JI)V"⟩, 10), (⟨"ClassFileReaderModel", "part", "(I)V"⟩, 10), (⟨"ClassFileReaderModel", "fixed", "(IIJI)V"⟩, 10), (⟨"ClassFileReaderModel", "constantKind", "(I)I"⟩, 10), (⟨"ClassFileReaderModel", "list", "(IIJI)V"⟩, 10), (⟨"ClassFileReaderModel", "element", "(III)I"⟩, 10), (⟨"ClassFileReaderModel", "member2", "(II)I"⟩, 10), (⟨"ClassFileReaderModel", "textIndex", "(II)I"⟩, 10), (⟨"ClassFileReaderModel", "classText", "(I)I"⟩, 10), (⟨"ClassFileReaderModel", "elementText", "(IIII)I"⟩, 10), (⟨"ClassFileReaderModel", "characterOf", "(II)I"⟩, 10), (⟨"ClassFileReaderModel", "four", "(I)J"⟩, 10)]
theorem lw_r5 : ∀ q ∈ lw_privs_5, lw_okq q := List.forall_mem_cons.mpr ⟨lw_p64, List.forall_mem_cons.mpr ⟨lw_p65, List.forall_mem_cons.mpr ⟨lw_p66, List.forall_mem_cons.mpr ⟨lw_p67, List.forall_mem_cons.mpr ⟨lw_p68, List.forall_mem_cons.mpr ⟨lw_p69, List.forall_mem_cons.mpr ⟨lw_p70, List.forall_mem_cons.mpr ⟨lw_p71, List.forall_mem_cons.mpr ⟨lw_p72, List.forall_mem_cons.mpr ⟨lw_p73, List.forall_mem_cons.mpr ⟨lw_p74, List.forall_mem_cons.mpr ⟨lw_p75, fun _ h => absurd h List.not_mem_nil⟩⟩⟩⟩⟩⟩⟩⟩⟩⟩⟩⟩
def lw_privs : List (MethodName × Nat) := lw_privs_1 ++ (lw_privs_2 ++ (lw_privs_3 ++ (lw_privs_4 ++ (lw_privs_5))))
def lw_tbl : List Cond := k2_sels lw_privs ++ tables_1
theorem lw_privs_ok : ∀ q ∈ lw_privs, lw_okq q := by
  show ∀ q ∈ lw_privs_1 ++ (lw_privs_2 ++ (lw_privs_3 ++ (lw_privs_4 ++ (lw_privs_5)))), lw_okq q
  exact List.forall_mem_append.mpr ⟨lw_r1, List.forall_mem_append.mpr ⟨lw_r2, List.forall_mem_append.mpr ⟨lw_r3, List.forall_mem_append.mpr ⟨lw_r4, lw_r5⟩⟩⟩⟩
-- ===== ONE list of words for every method: the tables' words that hold all through a run =====
def lw_all : List Cond := lw_tbl.filter goodWord
/-- a word of the tables by its place: claim/WORDS.tsv -/
theorem lw_w {w : Cond} (i : Nat) (h : lw_tbl[i]? = some w) (g : goodWord w = true) : w ∈ lw_all := List.mem_filter.mpr ⟨List.mem_of_getElem? h, g⟩
theorem lw_all_tbl {w : Cond} (h : w ∈ lw_all) : w ∈ lw_tbl := (List.mem_filter.mp h).1
theorem lw_self : GoodIn lw_all lw_all := fun w h => ⟨h, good_of_word (List.mem_filter.mp h).2⟩
/-- a class's field words, by their places -/
theorem lw_in (ws : List Cond) (ps : List Nat) (hp : ws = ps.filterMap (fun i => lw_tbl[i]?)) (hg : ws.all goodWord = true) : ∀ w ∈ ws, w ∈ lw_all := by
  intro w h
  have h1 := List.all_eq_true.mp hg w h
  rw [hp] at h
  obtain ⟨i, -, hi⟩ := List.mem_filterMap.mp h
  exact lw_w i hi h1
/-- the words of a contract for the method y with code b, L locals, answer r -/
abbrev ws_ (y : MethodName) (b : ByteArray) (L : Nat) (r : Option FieldType) : List Cond := Cond.code y b L r :: lw_all
theorem lw_meth {y : MethodName} {b : ByteArray} {L : Nat} {r : Option FieldType} (h : Cond.code y b L r ∈ lw_all) : GoodIn lw_all (ws_ y b L r) := by
  intro w hw
  rcases List.mem_cons.mp hw with e | e
  · rw [e]
    exact lw_self _ h
  · exact lw_self _ e
theorem lw_app {a c : List Cond} (ha : ∀ w ∈ a, w ∈ lw_all) (hc : GoodIn lw_all c) : GoodIn lw_all (a ++ c) := by
  intro w hw
  rcases List.mem_append.mp hw with e | e
  · exact lw_self w (ha w e)
  · exact hc w e
/-- what a call through an object asks: cwV n hts (lw_V ..) -/
theorem lw_V {own : String} {idx : Nat} {C : String} {y : MethodName} {b : ByteArray} {L : Nat} {r : Option FieldType} (h1 : Cond.methodLink own idx y ∈ lw_all) (h2 : Cond.instanceMethod y ∈ lw_all) (h3 : Cond.selects C y y ∈ lw_all) (h4 : Cond.initialized C ∈ lw_all) (h5 : Cond.code y b L r ∈ lw_all) : GoodIn lw_all (wsV own idx C y (ws_ y b L r)) := by
  refine lw_app ?_ (lw_meth h5)
  intro w hw
  simp only [List.mem_cons, List.not_mem_nil, or_false] at hw
  rcases hw with e | e | e | e
  · rw [e]; exact h1
  · rw [e]; exact h2
  · rw [e]; exact h3
  · rw [e]; exact h4
/-- what a static call asks: va_cwS n hts (lw_S ..) -/
theorem lw_S {own : String} {idx : Nat} {y : MethodName} {b : ByteArray} {L : Nat} {r : Option FieldType} (h1 : Cond.methodLink own idx y ∈ lw_all) (h2 : Cond.static y ∈ lw_all) (h3 : Cond.initialized y.cls ∈ lw_all) (h4 : Cond.code y b L r ∈ lw_all) : GoodIn lw_all (va_wsS own idx y (ws_ y b L r)) := by
  refine lw_app ?_ (lw_meth h4)
  intro w hw
  simp only [List.mem_cons, List.not_mem_nil, or_false] at hw
  rcases hw with e | e | e
  · rw [e]; exact h1
  · rw [e]; exact h2
  · rw [e]; exact h3
/-- the words of a contract for a method WITH HANDLERS (hh: its table) -/
abbrev wsW_ (y : MethodName) (b : ByteArray) (L : Nat) (r : Option FieldType) (hh : List (Nat × Nat × Nat × Nat)) : List Cond := Cond.codeWith y b L r hh :: lw_all
theorem lw_methW {y : MethodName} {b : ByteArray} {L : Nat} {r : Option FieldType} {hh : List (Nat × Nat × Nat × Nat)} (h : Cond.codeWith y b L r hh ∈ lw_all) : GoodIn lw_all (wsW_ y b L r hh) := by
  intro w hw
  rcases List.mem_cons.mp hw with e | e
  · rw [e]
    exact lw_self _ h
  · exact lw_self _ e
/-- any list of words by their places (lw_in), good -/
theorem lw_good {ws : List Cond} (h : ∀ w ∈ ws, w ∈ lw_all) : GoodIn lw_all ws := fun w hw => lw_self w (h w hw)
/-- what a call of a method with handlers asks: vx_cwVW n hts (lw_VW ..), vx_cwSW n hts (lw_SW ..) -/
theorem lw_VW {own : String} {idx : Nat} {C : String} {y : MethodName} {b : ByteArray} {L : Nat} {r : Option FieldType} {hh : List (Nat × Nat × Nat × Nat)} (h1 : Cond.methodLink own idx y ∈ lw_all) (h2 : Cond.instanceMethod y ∈ lw_all) (h3 : Cond.selects C y y ∈ lw_all) (h4 : Cond.initialized C ∈ lw_all) (h5 : Cond.codeWith y b L r hh ∈ lw_all) : GoodIn lw_all (wsV own idx C y (wsW_ y b L r hh)) := by
  refine lw_app ?_ (lw_methW h5)
  intro w hw
  simp only [List.mem_cons, List.not_mem_nil, or_false] at hw
  rcases hw with e | e | e | e
  · rw [e]; exact h1
  · rw [e]; exact h2
  · rw [e]; exact h3
  · rw [e]; exact h4
theorem lw_SW {own : String} {idx : Nat} {y : MethodName} {b : ByteArray} {L : Nat} {r : Option FieldType} {hh : List (Nat × Nat × Nat × Nat)} (h1 : Cond.methodLink own idx y ∈ lw_all) (h2 : Cond.static y ∈ lw_all) (h3 : Cond.initialized y.cls ∈ lw_all) (h4 : Cond.codeWith y b L r hh ∈ lw_all) : GoodIn lw_all (va_wsS own idx y (wsW_ y b L r hh)) := by
  refine lw_app ?_ (lw_methW h4)
  intro w hw
  simp only [List.mem_cons, List.not_mem_nil, or_false] at hw
  rcases hw with e | e | e
  · rw [e]; exact h1
  · rw [e]; exact h2
  · rw [e]; exact h3
/-- a word by its place in its run of the tables -/
theorem lw_at {r : List Cond} (hr : ∀ w ∈ r, w ∈ lw_tbl) {w : Cond} (i : Nat) (h : r[i]? = some w) : w ∈ lw_tbl := hr w (List.mem_of_getElem? h)
theorem lw_g {w : Cond} (h : w ∈ lw_tbl) (g : goodWord w = true) : w ∈ lw_all := List.mem_filter.mpr ⟨h, g⟩
theorem lw_ms : ∀ w ∈ k2_sels lw_privs, w ∈ lw_tbl := fun w h => show w ∈ k2_sels lw_privs ++ tables_1 from List.mem_append_left _ h
theorem lw_m1 : ∀ w ∈ tables_1_1, w ∈ lw_tbl := fun w h => show w ∈ k2_sels lw_privs ++ tables_1 from List.mem_append_right (k2_sels lw_privs) (show w ∈ tables_1 from List.mem_append_left _ h)
theorem lw_m2 : ∀ w ∈ tables_1_2, w ∈ lw_tbl := fun w h => show w ∈ k2_sels lw_privs ++ tables_1 from List.mem_append_right (k2_sels lw_privs) (show w ∈ tables_1 from List.mem_append_right _ (List.mem_append_left _ h))
theorem lw_m3 : ∀ w ∈ tables_1_3, w ∈ lw_tbl := fun w h => show w ∈ k2_sels lw_privs ++ tables_1 from List.mem_append_right (k2_sels lw_privs) (show w ∈ tables_1 from List.mem_append_right _ (List.mem_append_right _ (List.mem_append_left _ h)))
theorem lw_m4 : ∀ w ∈ tables_1_4, w ∈ lw_tbl := fun w h => show w ∈ k2_sels lw_privs ++ tables_1 from List.mem_append_right (k2_sels lw_privs) (show w ∈ tables_1 from List.mem_append_right _ (List.mem_append_right _ (List.mem_append_right _ (List.mem_append_left _ h))))
theorem lw_m5 : ∀ w ∈ tables_1_5, w ∈ lw_tbl := fun w h => show w ∈ k2_sels lw_privs ++ tables_1 from List.mem_append_right (k2_sels lw_privs) (show w ∈ tables_1 from List.mem_append_right _ (List.mem_append_right _ (List.mem_append_right _ (List.mem_append_right _ (List.mem_append_left _ h)))))
theorem lw_m6 : ∀ w ∈ tables_1_6, w ∈ lw_tbl := fun w h => show w ∈ k2_sels lw_privs ++ tables_1 from List.mem_append_right (k2_sels lw_privs) (show w ∈ tables_1 from List.mem_append_right _ (List.mem_append_right _ (List.mem_append_right _ (List.mem_append_right _ (List.mem_append_right _ h)))))
theorem qs0 : (Cond.selects "ClassFileReader" ⟨"ClassFileReader", "file", "()V"⟩ ⟨"ClassFileReader", "file", "()V"⟩) ∈ lw_all := lw_g (lw_at lw_ms 0 rfl) rfl
theorem qs1 : (Cond.selects "ClassFileReader" ⟨"ClassFileReader", "u4", "()J"⟩ ⟨"ClassFileReader", "u4", "()J"⟩) ∈ lw_all := lw_g (lw_at lw_ms 1 rfl) rfl
theorem qs2 : (Cond.selects "ClassFileReader" ⟨"ClassFileReader", "left", "(J)V"⟩ ⟨"ClassFileReader", "left", "(J)V"⟩) ∈ lw_all := lw_g (lw_at lw_ms 2 rfl) rfl
theorem qs3 : (Cond.selects "java/lang/Throwable" ⟨"java/lang/Throwable", "fillInStackTrace", "(I)Ljava/lang/Throwable;"⟩ ⟨"java/lang/Throwable", "fillInStackTrace", "(I)Ljava/lang/Throwable;"⟩) ∈ lw_all := lw_g (lw_at lw_ms 3 rfl) rfl
theorem qs4 : (Cond.selects "ClassFileReader" ⟨"ClassFileReader", "u2", "()I"⟩ ⟨"ClassFileReader", "u2", "()I"⟩) ∈ lw_all := lw_g (lw_at lw_ms 4 rfl) rfl
theorem qs5 : (Cond.selects "ClassFileReader" ⟨"ClassFileReader", "u1", "()I"⟩ ⟨"ClassFileReader", "u1", "()I"⟩) ∈ lw_all := lw_g (lw_at lw_ms 5 rfl) rfl
theorem qs6 : (Cond.selects "ClassFileReader" ⟨"ClassFileReader", "must", "(ZII)V"⟩ ⟨"ClassFileReader", "must", "(ZII)V"⟩) ∈ lw_all := lw_g (lw_at lw_ms 6 rfl) rfl
theorem qs7 : (Cond.selects "ClassFileReader" ⟨"ClassFileReader", "readPool", "()V"⟩ ⟨"ClassFileReader", "readPool", "()V"⟩) ∈ lw_all := lw_g (lw_at lw_ms 7 rfl) rfl
theorem qs8 : (Cond.selects "ClassFileReader" ⟨"ClassFileReader", "readEntry", "(I)LClassFileReader$Entry;"⟩ ⟨"ClassFileReader", "readEntry", "(I)LClassFileReader$Entry;"⟩) ∈ lw_all := lw_g (lw_at lw_ms 8 rfl) rfl
theorem qs9 : (Cond.selects "ClassFileReader" ⟨"ClassFileReader", "textEntry", "(I)LClassFileReader$Entry;"⟩ ⟨"ClassFileReader", "textEntry", "(I)LClassFileReader$Entry;"⟩) ∈ lw_all := lw_g (lw_at lw_ms 9 rfl) rfl
theorem qs10 : (Cond.selects "ClassFileReader" ⟨"ClassFileReader", "textAt", "(II)Ljava/lang/String;"⟩ ⟨"ClassFileReader", "textAt", "(II)Ljava/lang/String;"⟩) ∈ lw_all := lw_g (lw_at lw_ms 10 rfl) rfl
theorem qs11 : (Cond.selects "ClassFileReader" ⟨"ClassFileReader", "entry", "(I)LClassFileReader$Entry;"⟩ ⟨"ClassFileReader", "entry", "(I)LClassFileReader$Entry;"⟩) ∈ lw_all := lw_g (lw_at lw_ms 11 rfl) rfl
theorem qs12 : (Cond.selects "ClassFileReader" ⟨"ClassFileReader", "classAt", "(II)LClassFileReader$Named;"⟩ ⟨"ClassFileReader", "classAt", "(II)LClassFileReader$Named;"⟩) ∈ lw_all := lw_g (lw_at lw_ms 12 rfl) rfl
theorem qs13 : (Cond.selects "ClassFileReader" ⟨"ClassFileReader", "plainClass", "(Z)Ljava/lang/String;"⟩ ⟨"ClassFileReader", "plainClass", "(Z)Ljava/lang/String;"⟩) ∈ lw_all := lw_g (lw_at lw_ms 13 rfl) rfl
theorem qs14 : (Cond.selects "ClassFileReader" ⟨"ClassFileReader", "interfaces", "()V"⟩ ⟨"ClassFileReader", "interfaces", "()V"⟩) ∈ lw_all := lw_g (lw_at lw_ms 14 rfl) rfl
theorem qs15 : (Cond.selects "ClassFileReader" ⟨"ClassFileReader", "members", "(Z)V"⟩ ⟨"ClassFileReader", "members", "(Z)V"⟩) ∈ lw_all := lw_g (lw_at lw_ms 15 rfl) rfl
theorem qs16 : (Cond.selects "ClassFileReader" ⟨"ClassFileReader", "member", "(Z)V"⟩ ⟨"ClassFileReader", "member", "(Z)V"⟩) ∈ lw_all := lw_g (lw_at lw_ms 16 rfl) rfl
theorem qs17 : (Cond.selects "ClassFileReader" ⟨"ClassFileReader", "table", "(LClassFileReader$Holder;)V"⟩ ⟨"ClassFileReader", "table", "(LClassFileReader$Holder;)V"⟩) ∈ lw_all := lw_g (lw_at lw_ms 17 rfl) rfl
theorem qs18 : (Cond.selects "ClassFileReader" ⟨"ClassFileReader", "textItem", "()Ljava/lang/String;"⟩ ⟨"ClassFileReader", "textItem", "()Ljava/lang/String;"⟩) ∈ lw_all := lw_g (lw_at lw_ms 18 rfl) rfl
theorem qs19 : (Cond.selects "ClassFileReader" ⟨"ClassFileReader", "content", "(LClassFileReader$Holder;IIJ)V"⟩ ⟨"ClassFileReader", "content", "(LClassFileReader$Holder;IIJ)V"⟩) ∈ lw_all := lw_g (lw_at lw_ms 19 rfl) rfl
theorem qs20 : (Cond.selects "ClassFileReader" ⟨"ClassFileReader", "constantItem", "(LClassFileReader$Field;)V"⟩ ⟨"ClassFileReader", "constantItem", "(LClassFileReader$Field;)V"⟩) ∈ lw_all := lw_g (lw_at lw_ms 20 rfl) rfl
theorem qs21 : (Cond.selects "ClassFileReader" ⟨"ClassFileReader", "classes", "(LClassFileReader$Links;IJ)V"⟩ ⟨"ClassFileReader", "classes", "(LClassFileReader$Links;IJ)V"⟩) ∈ lw_all := lw_g (lw_at lw_ms 21 rfl) rfl
theorem qs22 : (Cond.selects "ClassFileReader" ⟨"ClassFileReader", "elements", "(IJI)I"⟩ ⟨"ClassFileReader", "elements", "(IJI)I"⟩) ∈ lw_all := lw_g (lw_at lw_ms 22 rfl) rfl
theorem qs23 : (Cond.selects "ClassFileReader" ⟨"ClassFileReader", "classItem", "()Ljava/lang/String;"⟩ ⟨"ClassFileReader", "classItem", "()Ljava/lang/String;"⟩) ∈ lw_all := lw_g (lw_at lw_ms 23 rfl) rfl
theorem qs24 : (Cond.selects "ClassFileReader" ⟨"ClassFileReader", "innerClasses", "(LClassFileReader$Mirror;IJ)V"⟩ ⟨"ClassFileReader", "innerClasses", "(LClassFileReader$Mirror;IJ)V"⟩) ∈ lw_all := lw_g (lw_at lw_ms 24 rfl) rfl
theorem qs25 : (Cond.selects "ClassFileReader" ⟨"ClassFileReader", "record", "(LClassFileReader$Mirror;IJ)V"⟩ ⟨"ClassFileReader", "record", "(LClassFileReader$Mirror;IJ)V"⟩) ∈ lw_all := lw_g (lw_at lw_ms 25 rfl) rfl
theorem qs26 : (Cond.selects "ClassFileReader" ⟨"ClassFileReader", "find", "(II)Ljava/lang/String;"⟩ ⟨"ClassFileReader", "find", "(II)Ljava/lang/String;"⟩) ∈ lw_all := lw_g (lw_at lw_ms 26 rfl) rfl
theorem qs27 : (Cond.selects "ClassFileReader" ⟨"ClassFileReader", "method", "(I)LClassFileReader$Method;"⟩ ⟨"ClassFileReader", "method", "(I)LClassFileReader$Method;"⟩) ∈ lw_all := lw_g (lw_at lw_ms 27 rfl) rfl
theorem qs28 : (Cond.selects "ClassFileReaderModel" ⟨"ClassFileReaderModel", "file", "()V"⟩ ⟨"ClassFileReaderModel", "file", "()V"⟩) ∈ lw_all := lw_g (lw_at lw_ms 28 rfl) rfl
theorem qs29 : (Cond.selects "ClassFileReaderModel" ⟨"ClassFileReaderModel", "u4", "()J"⟩ ⟨"ClassFileReaderModel", "u4", "()J"⟩) ∈ lw_all := lw_g (lw_at lw_ms 29 rfl) rfl
theorem qs30 : (Cond.selects "ClassFileReaderModel" ⟨"ClassFileReaderModel", "room", "(J)Z"⟩ ⟨"ClassFileReaderModel", "room", "(J)Z"⟩) ∈ lw_all := lw_g (lw_at lw_ms 30 rfl) rfl
theorem qs31 : (Cond.selects "ClassFileReaderModel" ⟨"ClassFileReaderModel", "fail", "(II)V"⟩ ⟨"ClassFileReaderModel", "fail", "(II)V"⟩) ∈ lw_all := lw_g (lw_at lw_ms 31 rfl) rfl
theorem qs32 : (Cond.selects "ClassFileReaderModel" ⟨"ClassFileReaderModel", "u2", "()I"⟩ ⟨"ClassFileReaderModel", "u2", "()I"⟩) ∈ lw_all := lw_g (lw_at lw_ms 32 rfl) rfl
theorem qs33 : (Cond.selects "ClassFileReaderModel" ⟨"ClassFileReaderModel", "pool", "()V"⟩ ⟨"ClassFileReaderModel", "pool", "()V"⟩) ∈ lw_all := lw_g (lw_at lw_ms 33 rfl) rfl
theorem qs34 : (Cond.selects "ClassFileReaderModel" ⟨"ClassFileReaderModel", "entry", "(I)I"⟩ ⟨"ClassFileReaderModel", "entry", "(I)I"⟩) ∈ lw_all := lw_g (lw_at lw_ms 34 rfl) rfl
theorem qs35 : (Cond.selects "ClassFileReaderModel" ⟨"ClassFileReaderModel", "u1", "()I"⟩ ⟨"ClassFileReaderModel", "u1", "()I"⟩) ∈ lw_all := lw_g (lw_at lw_ms 35 rfl) rfl
theorem qs36 : (Cond.selects "ClassFileReaderModel" ⟨"ClassFileReaderModel", "look", "(I)V"⟩ ⟨"ClassFileReaderModel", "look", "(I)V"⟩) ∈ lw_all := lw_g (lw_at lw_ms 36 rfl) rfl
theorem qs37 : (Cond.selects "ClassFileReaderModel" ⟨"ClassFileReaderModel", "tag", "(I)I"⟩ ⟨"ClassFileReaderModel", "tag", "(I)I"⟩) ∈ lw_all := lw_g (lw_at lw_ms 37 rfl) rfl
theorem qs38 : (Cond.selects "ClassFileReaderModel" ⟨"ClassFileReaderModel", "note", "(I)I"⟩ ⟨"ClassFileReaderModel", "note", "(I)I"⟩) ∈ lw_all := lw_g (lw_at lw_ms 38 rfl) rfl
theorem qs39 : (Cond.selects "ClassFileReaderModel" ⟨"ClassFileReaderModel", "byteAt", "(I)I"⟩ ⟨"ClassFileReaderModel", "byteAt", "(I)I"⟩) ∈ lw_all := lw_g (lw_at lw_ms 39 rfl) rfl
theorem qs40 : (Cond.selects "ClassFileReaderModel" ⟨"ClassFileReaderModel", "operand", "(I)I"⟩ ⟨"ClassFileReaderModel", "operand", "(I)I"⟩) ∈ lw_all := lw_g (lw_at lw_ms 40 rfl) rfl
theorem qs41 : (Cond.selects "ClassFileReaderModel" ⟨"ClassFileReaderModel", "two", "(I)I"⟩ ⟨"ClassFileReaderModel", "two", "(I)I"⟩) ∈ lw_all := lw_g (lw_at lw_ms 41 rfl) rfl
theorem qs42 : (Cond.selects "ClassFileReaderModel" ⟨"ClassFileReaderModel", "isClassName", "(I)Z"⟩ ⟨"ClassFileReaderModel", "isClassName", "(I)Z"⟩) ∈ lw_all := lw_g (lw_at lw_ms 42 rfl) rfl
theorem qs43 : (Cond.selects "ClassFileReaderModel" ⟨"ClassFileReaderModel", "start", "(I)I"⟩ ⟨"ClassFileReaderModel", "start", "(I)I"⟩) ∈ lw_all := lw_g (lw_at lw_ms 43 rfl) rfl
theorem qs44 : (Cond.selects "ClassFileReaderModel" ⟨"ClassFileReaderModel", "count", "(I)I"⟩ ⟨"ClassFileReaderModel", "count", "(I)I"⟩) ∈ lw_all := lw_g (lw_at lw_ms 44 rfl) rfl
theorem qs45 : (Cond.selects "ClassFileReaderModel" ⟨"ClassFileReaderModel", "className", "(II)Z"⟩ ⟨"ClassFileReaderModel", "className", "(II)Z"⟩) ∈ lw_all := lw_g (lw_at lw_ms 45 rfl) rfl
theorem qs46 : (Cond.selects "ClassFileReaderModel" ⟨"ClassFileReaderModel", "character", "(II)I"⟩ ⟨"ClassFileReaderModel", "character", "(II)I"⟩) ∈ lw_all := lw_g (lw_at lw_ms 46 rfl) rfl
theorem qs47 : (Cond.selects "ClassFileReaderModel" ⟨"ClassFileReaderModel", "isField", "(I)Z"⟩ ⟨"ClassFileReaderModel", "isField", "(I)Z"⟩) ∈ lw_all := lw_g (lw_at lw_ms 47 rfl) rfl
theorem qs48 : (Cond.selects "ClassFileReaderModel" ⟨"ClassFileReaderModel", "fieldType", "(II)I"⟩ ⟨"ClassFileReaderModel", "fieldType", "(II)I"⟩) ∈ lw_all := lw_g (lw_at lw_ms 48 rfl) rfl
theorem qs49 : (Cond.selects "ClassFileReaderModel" ⟨"ClassFileReaderModel", "isMember", "(I)Z"⟩ ⟨"ClassFileReaderModel", "isMember", "(I)Z"⟩) ∈ lw_all := lw_g (lw_at lw_ms 49 rfl) rfl
theorem qs50 : (Cond.selects "ClassFileReaderModel" ⟨"ClassFileReaderModel", "known", "(I)I"⟩ ⟨"ClassFileReaderModel", "known", "(I)I"⟩) ∈ lw_all := lw_g (lw_at lw_ms 50 rfl) rfl
theorem qs51 : (Cond.selects "ClassFileReaderModel" ⟨"ClassFileReaderModel", "same", "(IIJJJ)Z"⟩ ⟨"ClassFileReaderModel", "same", "(IIJJJ)Z"⟩) ∈ lw_all := lw_g (lw_at lw_ms 51 rfl) rfl
theorem qs52 : (Cond.selects "ClassFileReaderModel" ⟨"ClassFileReaderModel", "isMethod", "(I)Z"⟩ ⟨"ClassFileReaderModel", "isMethod", "(I)Z"⟩) ∈ lw_all := lw_g (lw_at lw_ms 52 rfl) rfl
theorem qs53 : (Cond.selects "ClassFileReaderModel" ⟨"ClassFileReaderModel", "named", "()I"⟩ ⟨"ClassFileReaderModel", "named", "()I"⟩) ∈ lw_all := lw_g (lw_at lw_ms 53 rfl) rfl
theorem qs54 : (Cond.selects "ClassFileReaderModel" ⟨"ClassFileReaderModel", "classRef", "(Z)I"⟩ ⟨"ClassFileReaderModel", "classRef", "(Z)I"⟩) ∈ lw_all := lw_g (lw_at lw_ms 54 rfl) rfl
theorem qs55 : (Cond.selects "ClassFileReaderModel" ⟨"ClassFileReaderModel", "index", "(IZ)I"⟩ ⟨"ClassFileReaderModel", "index", "(IZ)I"⟩) ∈ lw_all := lw_g (lw_at lw_ms 55 rfl) rfl
theorem qs56 : (Cond.selects "ClassFileReaderModel" ⟨"ClassFileReaderModel", "interfaces", "()V"⟩ ⟨"ClassFileReaderModel", "interfaces", "()V"⟩) ∈ lw_all := lw_g (lw_at lw_ms 56 rfl) rfl
theorem qs57 : (Cond.selects "ClassFileReaderModel" ⟨"ClassFileReaderModel", "alike", "(II)Z"⟩ ⟨"ClassFileReaderModel", "alike", "(II)Z"⟩) ∈ lw_all := lw_g (lw_at lw_ms 57 rfl) rfl
theorem qs58 : (Cond.selects "ClassFileReaderModel" ⟨"ClassFileReaderModel", "members", "(II)V"⟩ ⟨"ClassFileReaderModel", "members", "(II)V"⟩) ∈ lw_all := lw_g (lw_at lw_ms 58 rfl) rfl
theorem qs59 : (Cond.selects "ClassFileReaderModel" ⟨"ClassFileReaderModel", "few", "()I"⟩ ⟨"ClassFileReaderModel", "few", "()I"⟩) ∈ lw_all := lw_g (lw_at lw_ms 59 rfl) rfl
theorem qs60 : (Cond.selects "ClassFileReaderModel" ⟨"ClassFileReaderModel", "member", "(II)V"⟩ ⟨"ClassFileReaderModel", "member", "(II)V"⟩) ∈ lw_all := lw_g (lw_at lw_ms 60 rfl) rfl
theorem qs61 : (Cond.selects "ClassFileReaderModel" ⟨"ClassFileReaderModel", "judge", "(IIII)V"⟩ ⟨"ClassFileReaderModel", "judge", "(IIII)V"⟩) ∈ lw_all := lw_g (lw_at lw_ms 61 rfl) rfl
theorem qs62 : (Cond.selects "ClassFileReaderModel" ⟨"ClassFileReaderModel", "badFlags", "(III)Z"⟩ ⟨"ClassFileReaderModel", "badFlags", "(III)Z"⟩) ∈ lw_all := lw_g (lw_at lw_ms 62 rfl) rfl
theorem qs63 : (Cond.selects "ClassFileReaderModel" ⟨"ClassFileReaderModel", "table", "(II)V"⟩ ⟨"ClassFileReaderModel", "table", "(II)V"⟩) ∈ lw_all := lw_g (lw_at lw_ms 63 rfl) rfl
theorem qs64 : (Cond.selects "ClassFileReaderModel" ⟨"ClassFileReaderModel", "parts", "(JI)V"⟩ ⟨"ClassFileReaderModel", "parts", "(JI)V"⟩) ∈ lw_all := lw_g (lw_at lw_ms 64 rfl) rfl
theorem qs65 : (Cond.selects "ClassFileReaderModel" ⟨"ClassFileReaderModel", "part", "(I)V"⟩ ⟨"ClassFileReaderModel", "part", "(I)V"⟩) ∈ lw_all := lw_g (lw_at lw_ms 65 rfl) rfl
theorem qs66 : (Cond.selects "ClassFileReaderModel" ⟨"ClassFileReaderModel", "fixed", "(IIJI)V"⟩ ⟨"ClassFileReaderModel", "fixed", "(IIJI)V"⟩) ∈ lw_all := lw_g (lw_at lw_ms 66 rfl) rfl
theorem qs67 : (Cond.selects "ClassFileReaderModel" ⟨"ClassFileReaderModel", "constantKind", "(I)I"⟩ ⟨"ClassFileReaderModel", "constantKind", "(I)I"⟩) ∈ lw_all := lw_g (lw_at lw_ms 67 rfl) rfl
theorem qs68 : (Cond.selects "ClassFileReaderModel" ⟨"ClassFileReaderModel", "list", "(IIJI)V"⟩ ⟨"ClassFileReaderModel", "list", "(IIJI)V"⟩) ∈ lw_all := lw_g (lw_at lw_ms 68 rfl) rfl
theorem qs69 : (Cond.selects "ClassFileReaderModel" ⟨"ClassFileReaderModel", "element", "(III)I"⟩ ⟨"ClassFileReaderModel", "element", "(III)I"⟩) ∈ lw_all := lw_g (lw_at lw_ms 69 rfl) rfl
theorem qs70 : (Cond.selects "ClassFileReaderModel" ⟨"ClassFileReaderModel", "member2", "(II)I"⟩ ⟨"ClassFileReaderModel", "member2", "(II)I"⟩) ∈ lw_all := lw_g (lw_at lw_ms 70 rfl) rfl
theorem qs71 : (Cond.selects "ClassFileReaderModel" ⟨"ClassFileReaderModel", "textIndex", "(II)I"⟩ ⟨"ClassFileReaderModel", "textIndex", "(II)I"⟩) ∈ lw_all := lw_g (lw_at lw_ms 71 rfl) rfl
theorem qs72 : (Cond.selects "ClassFileReaderModel" ⟨"ClassFileReaderModel", "classText", "(I)I"⟩ ⟨"ClassFileReaderModel", "classText", "(I)I"⟩) ∈ lw_all := lw_g (lw_at lw_ms 72 rfl) rfl
theorem qs73 : (Cond.selects "ClassFileReaderModel" ⟨"ClassFileReaderModel", "elementText", "(IIII)I"⟩ ⟨"ClassFileReaderModel", "elementText", "(IIII)I"⟩) ∈ lw_all := lw_g (lw_at lw_ms 73 rfl) rfl
theorem qs74 : (Cond.selects "ClassFileReaderModel" ⟨"ClassFileReaderModel", "characterOf", "(II)I"⟩ ⟨"ClassFileReaderModel", "characterOf", "(II)I"⟩) ∈ lw_all := lw_g (lw_at lw_ms 74 rfl) rfl
theorem qs75 : (Cond.selects "ClassFileReaderModel" ⟨"ClassFileReaderModel", "four", "(I)J"⟩ ⟨"ClassFileReaderModel", "four", "(I)J"⟩) ∈ lw_all := lw_g (lw_at lw_ms 75 rfl) rfl
end
section
set_option maxRecDepth 100000
def RJ0 : String := "java/lang/AbstractStringBuilder"
abbrev cJ0_init : ByteArray := prog_18_method_2_code
def yJ0_init : MethodName := ⟨RJ0, "<init>", "(I)V"⟩
abbrev cJ0_setLength : ByteArray := prog_18_method_13_code
def yJ0_setLength : MethodName := ⟨RJ0, "setLength", "(I)V"⟩
abbrev cJ0_ensureCapacityInternal : ByteArray := prog_18_method_9_code
def yJ0_ensureCapacityInternal : MethodName := ⟨RJ0, "ensureCapacityInternal", "(I)V"⟩
abbrev cJ0_newCapacity : ByteArray := prog_18_method_10_code
def yJ0_newCapacity : MethodName := ⟨RJ0, "newCapacity", "(I)I"⟩
abbrev cJ0_isLatin1 : ByteArray := prog_18_method_68_code
def yJ0_isLatin1 : MethodName := ⟨RJ0, "isLatin1", "()Z"⟩
abbrev cJ0_append : ByteArray := prog_18_method_31_code
def yJ0_append : MethodName := ⟨RJ0, "append", "(C)Ljava/lang/AbstractStringBuilder;"⟩
abbrev cJ0_inflate : ByteArray := prog_18_method_11_code
def yJ0_inflate : MethodName := ⟨RJ0, "inflate", "()V"⟩
abbrev cJ0_getValue : ByteArray := prog_18_method_64_code
def yJ0_getValue : MethodName := ⟨RJ0, "getValue", "()[B"⟩
abbrev cJ0_length : ByteArray := prog_18_method_6_code
def yJ0_length : MethodName := ⟨RJ0, "length", "()I"⟩
theorem q78 : (Jvm.Cond.initialized "java/lang/AbstractStringBuilder") ∈ lw_all := lw_g (lw_at lw_m1 2 rfl) rfl
theorem q123 : (Jvm.Cond.instanceMethod ({ cls := "java/lang/AbstractStringBuilder", name := "<init>", desc := "(I)V" } : Jvm.MethodName)) ∈ lw_all := lw_g (lw_at lw_m1 47 rfl) rfl
theorem q124 : (Jvm.Cond.code ({ cls := "java/lang/AbstractStringBuilder", name := "<init>", desc := "(I)V" } : Jvm.MethodName) prog_18_method_2_code (2 : Nat) (Option.none : Option Jvm.ClassFile.FieldType)) ∈ lw_all := lw_g (lw_at lw_m1 48 rfl) rfl
theorem q125 : (Jvm.Cond.methodLink "java/lang/AbstractStringBuilder" (3 : Nat) ({ cls := "java/lang/Object", name := "<init>", desc := "()V" } : Jvm.MethodName)) ∈ lw_all := lw_g (lw_at lw_m1 49 rfl) rfl
theorem q126 : (Jvm.Cond.fieldLink "java/lang/AbstractStringBuilder" (18 : Nat) "java/lang/String" "COMPACT_STRINGS" "Z") ∈ lw_all := lw_g (lw_at lw_m1 50 rfl) rfl
theorem q128 : (Jvm.Cond.methodLink "java/lang/AbstractStringBuilder" (26 : Nat) ({ cls := "java/lang/StringUTF16", name := "newBytesFor", desc := "(I)[B" } : Jvm.MethodName)) ∈ lw_all := lw_g (lw_at lw_m1 52 rfl) rfl
theorem q135 : (Jvm.Cond.fieldLink "java/lang/AbstractStringBuilder" (15 : Nat) "java/lang/AbstractStringBuilder" "value" "[B") ∈ lw_all := lw_g (lw_at lw_m1 59 rfl) rfl
theorem q136 : (Jvm.Cond.fieldLink "java/lang/AbstractStringBuilder" (22 : Nat) "java/lang/AbstractStringBuilder" "coder" "B") ∈ lw_all := lw_g (lw_at lw_m1 60 rfl) rfl
theorem q137 : (Jvm.Cond.fieldLink "java/lang/AbstractStringBuilder" (73 : Nat) "java/lang/AbstractStringBuilder" "maybeLatin1" "Z") ∈ lw_all := lw_g (lw_at lw_m1 61 rfl) rfl
theorem q139 : (Jvm.Cond.fieldLink "java/lang/AbstractStringBuilder" (79 : Nat) "java/lang/AbstractStringBuilder" "count" "I") ∈ lw_all := lw_g (lw_at lw_m1 63 rfl) rfl
theorem q141 : (Jvm.Cond.soleField "java/lang/AbstractStringBuilder" "value") ∈ lw_all := lw_g (lw_at lw_m1 65 rfl) rfl
theorem q143 : (Jvm.Cond.soleField "java/lang/AbstractStringBuilder" "coder") ∈ lw_all := lw_g (lw_at lw_m1 67 rfl) rfl
theorem q145 : (Jvm.Cond.soleField "java/lang/AbstractStringBuilder" "maybeLatin1") ∈ lw_all := lw_g (lw_at lw_m1 69 rfl) rfl
theorem q147 : (Jvm.Cond.soleField "java/lang/AbstractStringBuilder" "count") ∈ lw_all := lw_g (lw_at lw_m1 71 rfl) rfl
theorem q431 : (Jvm.Cond.instanceMethod ({ cls := "java/lang/AbstractStringBuilder", name := "setLength", desc := "(I)V" } : Jvm.MethodName)) ∈ lw_all := lw_g (lw_at lw_m2 115 rfl) rfl
theorem q432 : (Jvm.Cond.code ({ cls := "java/lang/AbstractStringBuilder", name := "setLength", desc := "(I)V" } : Jvm.MethodName) prog_18_method_13_code (2 : Nat) (Option.none : Option Jvm.ClassFile.FieldType)) ∈ lw_all := lw_g (lw_at lw_m2 116 rfl) rfl
theorem q433 : (Jvm.Cond.methodLink "java/lang/AbstractStringBuilder" (100 : Nat) ({ cls := "java/lang/AbstractStringBuilder", name := "ensureCapacityInternal", desc := "(I)V" } : Jvm.MethodName)) ∈ lw_all := lw_g (lw_at lw_m2 117 rfl) rfl
theorem q434 : (Jvm.Cond.privateMethod ({ cls := "java/lang/AbstractStringBuilder", name := "ensureCapacityInternal", desc := "(I)V" } : Jvm.MethodName)) ∈ lw_tbl := lw_at lw_m2 118 rfl
theorem q435 : (Jvm.Cond.instanceMethod ({ cls := "java/lang/AbstractStringBuilder", name := "ensureCapacityInternal", desc := "(I)V" } : Jvm.MethodName)) ∈ lw_all := lw_g (lw_at lw_m2 119 rfl) rfl
theorem q436 : (Jvm.Cond.code ({ cls := "java/lang/AbstractStringBuilder", name := "ensureCapacityInternal", desc := "(I)V" } : Jvm.MethodName) prog_18_method_9_code (3 : Nat) (Option.none : Option Jvm.ClassFile.FieldType)) ∈ lw_all := lw_g (lw_at lw_m2 120 rfl) rfl
theorem q437 : (Jvm.Cond.methodLink "java/lang/AbstractStringBuilder" (104 : Nat) ({ cls := "java/lang/AbstractStringBuilder", name := "newCapacity", desc := "(I)I" } : Jvm.MethodName)) ∈ lw_all := lw_g (lw_at lw_m2 121 rfl) rfl
theorem q438 : (Jvm.Cond.privateMethod ({ cls := "java/lang/AbstractStringBuilder", name := "newCapacity", desc := "(I)I" } : Jvm.MethodName)) ∈ lw_tbl := lw_at lw_m2 122 rfl
theorem q439 : (Jvm.Cond.instanceMethod ({ cls := "java/lang/AbstractStringBuilder", name := "newCapacity", desc := "(I)I" } : Jvm.MethodName)) ∈ lw_all := lw_g (lw_at lw_m2 123 rfl) rfl
theorem q440 : (Jvm.Cond.code ({ cls := "java/lang/AbstractStringBuilder", name := "newCapacity", desc := "(I)I" } : Jvm.MethodName) prog_18_method_10_code (6 : Nat) (Option.some Jvm.ClassFile.FieldType.int)) ∈ lw_all := lw_g (lw_at lw_m2 124 rfl) rfl
theorem q441 : (Jvm.Cond.methodLink "java/lang/AbstractStringBuilder" (114 : Nat) ({ cls := "jdk/internal/util/ArraysSupport", name := "newLength", desc := "(III)I" } : Jvm.MethodName)) ∈ lw_all := lw_g (lw_at lw_m2 125 rfl) rfl
theorem q451 : (Jvm.Cond.constant "java/lang/AbstractStringBuilder" (39 : Nat) (2147483647 : Int32)) ∈ lw_all := lw_g (lw_at lw_m2 135 rfl) rfl
theorem q452 : (Jvm.Cond.methodLink "java/lang/AbstractStringBuilder" (108 : Nat) ({ cls := "java/util/Arrays", name := "copyOf", desc := "([BI)[B" } : Jvm.MethodName)) ∈ lw_all := lw_g (lw_at lw_m2 136 rfl) rfl
theorem q468 : (Jvm.Cond.methodLink "java/lang/AbstractStringBuilder" (83 : Nat) ({ cls := "java/lang/AbstractStringBuilder", name := "isLatin1", desc := "()Z" } : Jvm.MethodName)) ∈ lw_all := lw_g (lw_at lw_m2 152 rfl) rfl
theorem q469 : (Jvm.Cond.instanceMethod ({ cls := "java/lang/AbstractStringBuilder", name := "isLatin1", desc := "()Z" } : Jvm.MethodName)) ∈ lw_all := lw_g (lw_at lw_m2 153 rfl) rfl
theorem q470 : (Jvm.Cond.sameMethod "java/lang/AbstractStringBuilder" "java/lang/AbstractStringBuilder" "isLatin1" "()Z") ∈ lw_all := lw_g (lw_at lw_m2 154 rfl) rfl
theorem q472 : (Jvm.Cond.code ({ cls := "java/lang/AbstractStringBuilder", name := "isLatin1", desc := "()Z" } : Jvm.MethodName) prog_18_method_68_code (1 : Nat) (Option.some Jvm.ClassFile.FieldType.boolean)) ∈ lw_all := lw_g (lw_at lw_m2 156 rfl) rfl
theorem q473 : (Jvm.Cond.methodLink "java/lang/AbstractStringBuilder" (133 : Nat) ({ cls := "java/lang/StringLatin1", name := "fillNull", desc := "([BII)V" } : Jvm.MethodName)) ∈ lw_all := lw_g (lw_at lw_m2 157 rfl) rfl
theorem q482 : (Jvm.Cond.methodLink "java/lang/AbstractStringBuilder" (137 : Nat) ({ cls := "java/lang/StringUTF16", name := "fillNull", desc := "([BII)V" } : Jvm.MethodName)) ∈ lw_all := lw_g (lw_at lw_m2 166 rfl) rfl
theorem q491 : (Jvm.Cond.instanceMethod ({ cls := "java/lang/AbstractStringBuilder", name := "append", desc := "(C)Ljava/lang/AbstractStringBuilder;" } : Jvm.MethodName)) ∈ lw_all := lw_g (lw_at lw_m2 175 rfl) rfl
theorem q492 : (Jvm.Cond.code ({ cls := "java/lang/AbstractStringBuilder", name := "append", desc := "(C)Ljava/lang/AbstractStringBuilder;" } : Jvm.MethodName) prog_18_method_31_code (2 : Nat) (Option.some (Jvm.ClassFile.FieldType.object "java/lang/AbstractStringBuilder"))) ∈ lw_all := lw_g (lw_at lw_m2 176 rfl) rfl
theorem q493 : (Jvm.Cond.methodLink "java/lang/AbstractStringBuilder" (191 : Nat) ({ cls := "java/lang/StringLatin1", name := "canEncode", desc := "(C)Z" } : Jvm.MethodName)) ∈ lw_all := lw_g (lw_at lw_m2 177 rfl) rfl
theorem q496 : (Jvm.Cond.methodLink "java/lang/AbstractStringBuilder" (195 : Nat) ({ cls := "java/lang/AbstractStringBuilder", name := "inflate", desc := "()V" } : Jvm.MethodName)) ∈ lw_all := lw_g (lw_at lw_m2 180 rfl) rfl
theorem q497 : (Jvm.Cond.privateMethod ({ cls := "java/lang/AbstractStringBuilder", name := "inflate", desc := "()V" } : Jvm.MethodName)) ∈ lw_tbl := lw_at lw_m2 181 rfl
theorem q498 : (Jvm.Cond.instanceMethod ({ cls := "java/lang/AbstractStringBuilder", name := "inflate", desc := "()V" } : Jvm.MethodName)) ∈ lw_all := lw_g (lw_at lw_m2 182 rfl) rfl
theorem q499 : (Jvm.Cond.code ({ cls := "java/lang/AbstractStringBuilder", name := "inflate", desc := "()V" } : Jvm.MethodName) prog_18_method_11_code (2 : Nat) (Option.none : Option Jvm.ClassFile.FieldType)) ∈ lw_all := lw_g (lw_at lw_m2 183 rfl) rfl
theorem q500 : (Jvm.Cond.methodLink "java/lang/AbstractStringBuilder" (125 : Nat) ({ cls := "java/lang/StringLatin1", name := "inflate", desc := "([BI[BII)V" } : Jvm.MethodName)) ∈ lw_all := lw_g (lw_at lw_m2 184 rfl) rfl
theorem q529 : (Jvm.Cond.methodLink "java/lang/AbstractStringBuilder" (197 : Nat) ({ cls := "java/lang/StringUTF16", name := "putCharSB", desc := "([BII)V" } : Jvm.MethodName)) ∈ lw_all := lw_g (lw_at lw_m2 213 rfl) rfl
theorem q557 : (Jvm.Cond.instanceMethod ({ cls := "java/lang/AbstractStringBuilder", name := "getValue", desc := "()[B" } : Jvm.MethodName)) ∈ lw_all := lw_g (lw_at lw_m3 1 rfl) rfl
theorem q558 : (Jvm.Cond.sameMethod "java/lang/AbstractStringBuilder" "java/lang/AbstractStringBuilder" "getValue" "()[B") ∈ lw_all := lw_g (lw_at lw_m3 2 rfl) rfl
theorem q560 : (Jvm.Cond.code ({ cls := "java/lang/AbstractStringBuilder", name := "getValue", desc := "()[B" } : Jvm.MethodName) prog_18_method_64_code (1 : Nat) (Option.some (Jvm.ClassFile.FieldType.array Jvm.ClassFile.FieldType.byte))) ∈ lw_all := lw_g (lw_at lw_m3 4 rfl) rfl
theorem q562 : (Jvm.Cond.instanceMethod ({ cls := "java/lang/AbstractStringBuilder", name := "length", desc := "()I" } : Jvm.MethodName)) ∈ lw_all := lw_g (lw_at lw_m3 6 rfl) rfl
theorem q563 : (Jvm.Cond.sameMethod "java/lang/AbstractStringBuilder" "java/lang/AbstractStringBuilder" "length" "()I") ∈ lw_all := lw_g (lw_at lw_m3 7 rfl) rfl
theorem q568 : (Jvm.Cond.code ({ cls := "java/lang/AbstractStringBuilder", name := "length", desc := "()I" } : Jvm.MethodName) prog_18_method_6_code (1 : Nat) (Option.some Jvm.ClassFile.FieldType.int)) ∈ lw_all := lw_g (lw_at lw_m3 12 rfl) rfl
theorem q1426 : (Jvm.Cond.sameMethod "java/lang/AbstractStringBuilder" "java/lang/AbstractStringBuilder" "setLength" "(I)V") ∈ lw_all := lw_g (lw_at lw_m6 150 rfl) rfl
theorem q1427 : (Jvm.Cond.sameMethod "java/lang/AbstractStringBuilder" "java/lang/AbstractStringBuilder" "ensureCapacityInternal" "(I)V") ∈ lw_all := lw_g (lw_at lw_m6 151 rfl) rfl
theorem q1428 : (Jvm.Cond.sameMethod "java/lang/AbstractStringBuilder" "java/lang/AbstractStringBuilder" "newCapacity" "(I)I") ∈ lw_all := lw_g (lw_at lw_m6 152 rfl) rfl
theorem q1429 : (Jvm.Cond.sameMethod "java/lang/AbstractStringBuilder" "java/lang/AbstractStringBuilder" "append" "(C)Ljava/lang/AbstractStringBuilder;") ∈ lw_all := lw_g (lw_at lw_m6 153 rfl) rfl
theorem q1430 : (Jvm.Cond.sameMethod "java/lang/AbstractStringBuilder" "java/lang/AbstractStringBuilder" "inflate" "()V") ∈ lw_all := lw_g (lw_at lw_m6 154 rfl) rfl
def RJ1 : String := "java/lang/StringBuilder"
def TJ1 : u_T := fun k => match k with
  | 0 => ("java/lang/AbstractStringBuilder", "value", "[B", false)
  | 1 => ("java/lang/AbstractStringBuilder", "coder", "B", false)
  | 2 => ("java/lang/AbstractStringBuilder", "maybeLatin1", "Z", false)
  | _ => ("java/lang/AbstractStringBuilder", "count", "I", false)
def tyJ1 : Nat → FieldType := fun k => match k with
  | 0 => .array .byte
  | 1 => .byte
  | 2 => .boolean
  | _ => .int
abbrev wsJ10 : List Cond := u_ws RJ1 TJ1 4
theorem nmJ1 : ∀ a, a < 4 → ∀ b, b < 4 → a ≠ b → (TJ1 a).2.1 ≠ (TJ1 b).2.1 := by decide +kernel
theorem tyJ1_ok : ∀ k, k < 4 → parseFieldDescriptor (TJ1 k).2.2.1 = some (tyJ1 k) := by decide +kernel
abbrev cJ1_init : ByteArray := prog_25_method_2_code
def yJ1_init : MethodName := ⟨RJ1, "<init>", "(I)V"⟩
abbrev cJ1_setLength : ByteArray := prog_25_method_89_code
def yJ1_setLength : MethodName := ⟨RJ1, "setLength", "(I)V"⟩
abbrev cJ1_append : ByteArray := prog_25_method_14_code
def yJ1_append : MethodName := ⟨RJ1, "append", "(C)Ljava/lang/StringBuilder;"⟩
abbrev cJ1_toString : ByteArray := prog_25_method_42_code
def yJ1_toString : MethodName := ⟨RJ1, "toString", "()Ljava/lang/String;"⟩
abbrev cJ1_length : ByteArray := prog_25_method_93_code
def yJ1_length : MethodName := ⟨RJ1, "length", "()I"⟩
theorem q79 : (Jvm.Cond.initialized "java/lang/StringBuilder") ∈ lw_all := lw_g (lw_at lw_m1 3 rfl) rfl
theorem q118 : (Jvm.Cond.instantiable "java/lang/StringBuilder" (4 : Nat)) ∈ lw_all := lw_g (lw_at lw_m1 42 rfl) rfl
theorem q120 : (Jvm.Cond.instanceMethod ({ cls := "java/lang/StringBuilder", name := "<init>", desc := "(I)V" } : Jvm.MethodName)) ∈ lw_all := lw_g (lw_at lw_m1 44 rfl) rfl
theorem q121 : (Jvm.Cond.code ({ cls := "java/lang/StringBuilder", name := "<init>", desc := "(I)V" } : Jvm.MethodName) prog_25_method_2_code (2 : Nat) (Option.none : Option Jvm.ClassFile.FieldType)) ∈ lw_all := lw_g (lw_at lw_m1 45 rfl) rfl
theorem q122 : (Jvm.Cond.methodLink "java/lang/StringBuilder" (1 : Nat) ({ cls := "java/lang/AbstractStringBuilder", name := "<init>", desc := "(I)V" } : Jvm.MethodName)) ∈ lw_all := lw_g (lw_at lw_m1 46 rfl) rfl
theorem q140 : (Jvm.Cond.lays "java/lang/StringBuilder" "java/lang/AbstractStringBuilder" "value" "[B") ∈ lw_all := lw_g (lw_at lw_m1 64 rfl) rfl
theorem q142 : (Jvm.Cond.lays "java/lang/StringBuilder" "java/lang/AbstractStringBuilder" "coder" "B") ∈ lw_all := lw_g (lw_at lw_m1 66 rfl) rfl
theorem q144 : (Jvm.Cond.lays "java/lang/StringBuilder" "java/lang/AbstractStringBuilder" "maybeLatin1" "Z") ∈ lw_all := lw_g (lw_at lw_m1 68 rfl) rfl
theorem q146 : (Jvm.Cond.lays "java/lang/StringBuilder" "java/lang/AbstractStringBuilder" "count" "I") ∈ lw_all := lw_g (lw_at lw_m1 70 rfl) rfl
theorem q148 : (Jvm.Cond.superclass "java/lang/StringBuilder" "java/lang/AbstractStringBuilder") ∈ lw_all := lw_g (lw_at lw_m1 72 rfl) rfl
theorem q427 : (Jvm.Cond.instanceMethod ({ cls := "java/lang/StringBuilder", name := "setLength", desc := "(I)V" } : Jvm.MethodName)) ∈ lw_all := lw_g (lw_at lw_m2 111 rfl) rfl
theorem q428 : (Jvm.Cond.selects "java/lang/StringBuilder" ({ cls := "java/lang/StringBuilder", name := "setLength", desc := "(I)V" } : Jvm.MethodName) ({ cls := "java/lang/StringBuilder", name := "setLength", desc := "(I)V" } : Jvm.MethodName)) ∈ lw_all := lw_g (lw_at lw_m2 112 rfl) rfl
theorem q429 : (Jvm.Cond.code ({ cls := "java/lang/StringBuilder", name := "setLength", desc := "(I)V" } : Jvm.MethodName) prog_25_method_89_code (2 : Nat) (Option.none : Option Jvm.ClassFile.FieldType)) ∈ lw_all := lw_g (lw_at lw_m2 113 rfl) rfl
theorem q430 : (Jvm.Cond.methodLink "java/lang/StringBuilder" (333 : Nat) ({ cls := "java/lang/AbstractStringBuilder", name := "setLength", desc := "(I)V" } : Jvm.MethodName)) ∈ lw_all := lw_g (lw_at lw_m2 114 rfl) rfl
theorem q471 : (Jvm.Cond.selects "java/lang/StringBuilder" ({ cls := "java/lang/AbstractStringBuilder", name := "isLatin1", desc := "()Z" } : Jvm.MethodName) ({ cls := "java/lang/AbstractStringBuilder", name := "isLatin1", desc := "()Z" } : Jvm.MethodName)) ∈ lw_all := lw_g (lw_at lw_m2 155 rfl) rfl
theorem q487 : (Jvm.Cond.instanceMethod ({ cls := "java/lang/StringBuilder", name := "append", desc := "(C)Ljava/lang/StringBuilder;" } : Jvm.MethodName)) ∈ lw_all := lw_g (lw_at lw_m2 171 rfl) rfl
theorem q488 : (Jvm.Cond.selects "java/lang/StringBuilder" ({ cls := "java/lang/StringBuilder", name := "append", desc := "(C)Ljava/lang/StringBuilder;" } : Jvm.MethodName) ({ cls := "java/lang/StringBuilder", name := "append", desc := "(C)Ljava/lang/StringBuilder;" } : Jvm.MethodName)) ∈ lw_all := lw_g (lw_at lw_m2 172 rfl) rfl
theorem q489 : (Jvm.Cond.code ({ cls := "java/lang/StringBuilder", name := "append", desc := "(C)Ljava/lang/StringBuilder;" } : Jvm.MethodName) prog_25_method_14_code (2 : Nat) (Option.some (Jvm.ClassFile.FieldType.object "java/lang/StringBuilder"))) ∈ lw_all := lw_g (lw_at lw_m2 173 rfl) rfl
theorem q490 : (Jvm.Cond.methodLink "java/lang/StringBuilder" (50 : Nat) ({ cls := "java/lang/AbstractStringBuilder", name := "append", desc := "(C)Ljava/lang/AbstractStringBuilder;" } : Jvm.MethodName)) ∈ lw_all := lw_g (lw_at lw_m2 174 rfl) rfl
theorem q544 : (Jvm.Cond.instanceMethod ({ cls := "java/lang/StringBuilder", name := "toString", desc := "()Ljava/lang/String;" } : Jvm.MethodName)) ∈ lw_all := lw_g (lw_at lw_m2 228 rfl) rfl
theorem q545 : (Jvm.Cond.selects "java/lang/StringBuilder" ({ cls := "java/lang/StringBuilder", name := "toString", desc := "()Ljava/lang/String;" } : Jvm.MethodName) ({ cls := "java/lang/StringBuilder", name := "toString", desc := "()Ljava/lang/String;" } : Jvm.MethodName)) ∈ lw_all := lw_g (lw_at lw_m2 229 rfl) rfl
theorem q546 : (Jvm.Cond.code ({ cls := "java/lang/StringBuilder", name := "toString", desc := "()Ljava/lang/String;" } : Jvm.MethodName) prog_25_method_42_code (1 : Nat) (Option.some (Jvm.ClassFile.FieldType.object "java/lang/String"))) ∈ lw_all := lw_g (lw_at lw_m2 230 rfl) rfl
theorem q547 : (Jvm.Cond.classLink "java/lang/StringBuilder" (18 : Nat) "java/lang/String") ∈ lw_all := lw_g (lw_at lw_m2 231 rfl) rfl
theorem q549 : (Jvm.Cond.methodLink "java/lang/StringBuilder" (137 : Nat) ({ cls := "java/lang/String", name := "<init>", desc := "(Ljava/lang/StringBuilder;)V" } : Jvm.MethodName)) ∈ lw_all := lw_g (lw_at lw_m2 233 rfl) rfl
theorem q559 : (Jvm.Cond.selects "java/lang/StringBuilder" ({ cls := "java/lang/AbstractStringBuilder", name := "getValue", desc := "()[B" } : Jvm.MethodName) ({ cls := "java/lang/AbstractStringBuilder", name := "getValue", desc := "()[B" } : Jvm.MethodName)) ∈ lw_all := lw_g (lw_at lw_m3 3 rfl) rfl
theorem q564 : (Jvm.Cond.selects "java/lang/StringBuilder" ({ cls := "java/lang/AbstractStringBuilder", name := "length", desc := "()I" } : Jvm.MethodName) ({ cls := "java/lang/StringBuilder", name := "length", desc := "()I" } : Jvm.MethodName)) ∈ lw_all := lw_g (lw_at lw_m3 8 rfl) rfl
theorem q565 : (Jvm.Cond.instanceMethod ({ cls := "java/lang/StringBuilder", name := "length", desc := "()I" } : Jvm.MethodName)) ∈ lw_all := lw_g (lw_at lw_m3 9 rfl) rfl
theorem q566 : (Jvm.Cond.code ({ cls := "java/lang/StringBuilder", name := "length", desc := "()I" } : Jvm.MethodName) prog_25_method_93_code (1 : Nat) (Option.some Jvm.ClassFile.FieldType.int)) ∈ lw_all := lw_g (lw_at lw_m3 10 rfl) rfl
theorem q567 : (Jvm.Cond.methodLink "java/lang/StringBuilder" (343 : Nat) ({ cls := "java/lang/AbstractStringBuilder", name := "length", desc := "()I" } : Jvm.MethodName)) ∈ lw_all := lw_g (lw_at lw_m3 11 rfl) rfl
theorem in_J1 : ∀ w ∈ wsJ10, w ∈ lw_all := lw_in wsJ10 [140, 142, 144, 146] (by decide +kernel) (by decide +kernel)
def RJ10 : String := "java/lang/StringLatin1"
abbrev cJ10_fillNull : ByteArray := prog_26_method_48_code
def yJ10_fillNull : MethodName := ⟨RJ10, "fillNull", "([BII)V"⟩
abbrev cJ10_canEncode : ByteArray := prog_26_method_3_code
def yJ10_canEncode : MethodName := ⟨RJ10, "canEncode", "(C)Z"⟩
abbrev cJ10_inflate : ByteArray := prog_26_method_50_code
def yJ10_inflate : MethodName := ⟨RJ10, "inflate", "([BI[BII)V"⟩
abbrev cJ10_charAt : ByteArray := prog_26_method_2_code
def yJ10_charAt : MethodName := ⟨RJ10, "charAt", "([BI)C"⟩
abbrev cJ10_equals : ByteArray := prog_26_method_13_code
def yJ10_equals : MethodName := ⟨RJ10, "equals", "([B[B)Z"⟩
abbrev cJ10_hashCode : ByteArray := prog_26_method_21_code
def yJ10_hashCode : MethodName := ⟨RJ10, "hashCode", "([B)I"⟩
theorem q95 : (Jvm.Cond.initialized "java/lang/StringLatin1") ∈ lw_all := lw_g (lw_at lw_m1 19 rfl) rfl
theorem q474 : (Jvm.Cond.static ({ cls := "java/lang/StringLatin1", name := "fillNull", desc := "([BII)V" } : Jvm.MethodName)) ∈ lw_all := lw_g (lw_at lw_m2 158 rfl) rfl
theorem q475 : (Jvm.Cond.code ({ cls := "java/lang/StringLatin1", name := "fillNull", desc := "([BII)V" } : Jvm.MethodName) prog_26_method_48_code (3 : Nat) (Option.none : Option Jvm.ClassFile.FieldType)) ∈ lw_all := lw_g (lw_at lw_m2 159 rfl) rfl
theorem q476 : (Jvm.Cond.methodLink "java/lang/StringLatin1" (236 : Nat) ({ cls := "java/util/Arrays", name := "fill", desc := "([BIIB)V" } : Jvm.MethodName)) ∈ lw_all := lw_g (lw_at lw_m2 160 rfl) rfl
theorem q494 : (Jvm.Cond.static ({ cls := "java/lang/StringLatin1", name := "canEncode", desc := "(C)Z" } : Jvm.MethodName)) ∈ lw_all := lw_g (lw_at lw_m2 178 rfl) rfl
theorem q495 : (Jvm.Cond.code ({ cls := "java/lang/StringLatin1", name := "canEncode", desc := "(C)Z" } : Jvm.MethodName) prog_26_method_3_code (1 : Nat) (Option.some Jvm.ClassFile.FieldType.boolean)) ∈ lw_all := lw_g (lw_at lw_m2 179 rfl) rfl
theorem q501 : (Jvm.Cond.static ({ cls := "java/lang/StringLatin1", name := "inflate", desc := "([BI[BII)V" } : Jvm.MethodName)) ∈ lw_all := lw_g (lw_at lw_m2 185 rfl) rfl
theorem q502 : (Jvm.Cond.code ({ cls := "java/lang/StringLatin1", name := "inflate", desc := "([BI[BII)V" } : Jvm.MethodName) prog_26_method_50_code (5 : Nat) (Option.none : Option Jvm.ClassFile.FieldType)) ∈ lw_all := lw_g (lw_at lw_m2 186 rfl) rfl
theorem q503 : (Jvm.Cond.methodLink "java/lang/StringLatin1" (240 : Nat) ({ cls := "java/lang/StringUTF16", name := "inflate", desc := "([BI[BII)V" } : Jvm.MethodName)) ∈ lw_all := lw_g (lw_at lw_m2 187 rfl) rfl
theorem q714 : (Jvm.Cond.static ({ cls := "java/lang/StringLatin1", name := "charAt", desc := "([BI)C" } : Jvm.MethodName)) ∈ lw_all := lw_g (lw_at lw_m3 158 rfl) rfl
theorem q715 : (Jvm.Cond.code ({ cls := "java/lang/StringLatin1", name := "charAt", desc := "([BI)C" } : Jvm.MethodName) prog_26_method_2_code (2 : Nat) (Option.some Jvm.ClassFile.FieldType.char)) ∈ lw_all := lw_g (lw_at lw_m3 159 rfl) rfl
theorem q716 : (Jvm.Cond.methodLink "java/lang/StringLatin1" (9 : Nat) ({ cls := "java/lang/String", name := "checkIndex", desc := "(II)V" } : Jvm.MethodName)) ∈ lw_all := lw_g (lw_at lw_m3 160 rfl) rfl
theorem q762 : (Jvm.Cond.static ({ cls := "java/lang/StringLatin1", name := "equals", desc := "([B[B)Z" } : Jvm.MethodName)) ∈ lw_all := lw_g (lw_at lw_m3 206 rfl) rfl
theorem q763 : (Jvm.Cond.code ({ cls := "java/lang/StringLatin1", name := "equals", desc := "([B[B)Z" } : Jvm.MethodName) prog_26_method_13_code (3 : Nat) (Option.some Jvm.ClassFile.FieldType.boolean)) ∈ lw_all := lw_g (lw_at lw_m3 207 rfl) rfl
theorem q933 : (Jvm.Cond.static ({ cls := "java/lang/StringLatin1", name := "hashCode", desc := "([B)I" } : Jvm.MethodName)) ∈ lw_all := lw_g (lw_at lw_m4 137 rfl) rfl
theorem q934 : (Jvm.Cond.code ({ cls := "java/lang/StringLatin1", name := "hashCode", desc := "([B)I" } : Jvm.MethodName) prog_26_method_21_code (1 : Nat) (Option.some Jvm.ClassFile.FieldType.int)) ∈ lw_all := lw_g (lw_at lw_m4 138 rfl) rfl
theorem q935 : (Jvm.Cond.methodLink "java/lang/StringLatin1" (84 : Nat) ({ cls := "jdk/internal/util/ArraysSupport", name := "vectorizedHashCode", desc := "(Ljava/lang/Object;IIII)I" } : Jvm.MethodName)) ∈ lw_all := lw_g (lw_at lw_m4 139 rfl) rfl
def RJ11 : String := "jdk/internal/util/Preconditions"
abbrev cJ11_checkFromIndexSize : ByteArray := prog_34_method_13_code
def yJ11_checkFromIndexSize : MethodName := ⟨RJ11, "checkFromIndexSize", "(IIILjava/util/function/BiFunction;)I"⟩
abbrev cJ11_checkIndex : ByteArray := prog_34_method_11_code
def yJ11_checkIndex : MethodName := ⟨RJ11, "checkIndex", "(IILjava/util/function/BiFunction;)I"⟩
theorem q96 : (Jvm.Cond.initialized "jdk/internal/util/Preconditions") ∈ lw_all := lw_g (lw_at lw_m1 20 rfl) rfl
theorem q516 : (Jvm.Cond.laysStatic "jdk/internal/util/Preconditions" "SIOOBE_FORMATTER" "Ljava/util/function/BiFunction;") ∈ lw_tbl := lw_at lw_m2 200 rfl
theorem q518 : (Jvm.Cond.static ({ cls := "jdk/internal/util/Preconditions", name := "checkFromIndexSize", desc := "(IIILjava/util/function/BiFunction;)I" } : Jvm.MethodName)) ∈ lw_all := lw_g (lw_at lw_m2 202 rfl) rfl
theorem q519 : (Jvm.Cond.code ({ cls := "jdk/internal/util/Preconditions", name := "checkFromIndexSize", desc := "(IIILjava/util/function/BiFunction;)I" } : Jvm.MethodName) prog_34_method_13_code (4 : Nat) (Option.some Jvm.ClassFile.FieldType.int)) ∈ lw_all := lw_g (lw_at lw_m2 203 rfl) rfl
theorem q539 : (Jvm.Cond.static ({ cls := "jdk/internal/util/Preconditions", name := "checkIndex", desc := "(IILjava/util/function/BiFunction;)I" } : Jvm.MethodName)) ∈ lw_all := lw_g (lw_at lw_m2 223 rfl) rfl
theorem q540 : (Jvm.Cond.code ({ cls := "jdk/internal/util/Preconditions", name := "checkIndex", desc := "(IILjava/util/function/BiFunction;)I" } : Jvm.MethodName) prog_34_method_11_code (3 : Nat) (Option.some Jvm.ClassFile.FieldType.int)) ∈ lw_all := lw_g (lw_at lw_m2 224 rfl) rfl
def RJ12 : String := "java/lang/Integer"
abbrev cJ12_bitCount : ByteArray := prog_21_method_49_code
def yJ12_bitCount : MethodName := ⟨RJ12, "bitCount", "(I)I"⟩
theorem q103 : (Jvm.Cond.initialized "java/lang/Integer") ∈ lw_all := lw_g (lw_at lw_m1 27 rfl) rfl
theorem q824 : (Jvm.Cond.static ({ cls := "java/lang/Integer", name := "bitCount", desc := "(I)I" } : Jvm.MethodName)) ∈ lw_all := lw_g (lw_at lw_m4 28 rfl) rfl
theorem q825 : (Jvm.Cond.code ({ cls := "java/lang/Integer", name := "bitCount", desc := "(I)I" } : Jvm.MethodName) prog_21_method_49_code (1 : Nat) (Option.some Jvm.ClassFile.FieldType.int)) ∈ lw_all := lw_g (lw_at lw_m4 29 rfl) rfl
theorem q826 : (Jvm.Cond.constant "java/lang/Integer" (265 : Nat) (1431655765 : Int32)) ∈ lw_all := lw_g (lw_at lw_m4 30 rfl) rfl
theorem q827 : (Jvm.Cond.constant "java/lang/Integer" (266 : Nat) (858993459 : Int32)) ∈ lw_all := lw_g (lw_at lw_m4 31 rfl) rfl
theorem q828 : (Jvm.Cond.constant "java/lang/Integer" (267 : Nat) (252645135 : Int32)) ∈ lw_all := lw_g (lw_at lw_m4 32 rfl) rfl
def RJ13 : String := "java/lang/Object"
abbrev cJ13_init : ByteArray := object_method_1_code
def yJ13_init : MethodName := ⟨RJ13, "<init>", "()V"⟩
theorem q113 : (Jvm.Cond.instanceMethod ({ cls := "java/lang/Object", name := "<init>", desc := "()V" } : Jvm.MethodName)) ∈ lw_all := lw_g (lw_at lw_m1 37 rfl) rfl
theorem q114 : (Jvm.Cond.code ({ cls := "java/lang/Object", name := "<init>", desc := "()V" } : Jvm.MethodName) object_method_1_code (1 : Nat) (Option.none : Option Jvm.ClassFile.FieldType)) ∈ lw_all := lw_g (lw_at lw_m1 38 rfl) rfl
theorem q457 : (Jvm.Cond.native ({ cls := "java/lang/Object", name := "clone", desc := "()Ljava/lang/Object;" } : Jvm.MethodName)) ∈ lw_all := lw_g (lw_at lw_m2 141 rfl) rfl
theorem q458 : (Jvm.Cond.instanceMethod ({ cls := "java/lang/Object", name := "clone", desc := "()Ljava/lang/Object;" } : Jvm.MethodName)) ∈ lw_all := lw_g (lw_at lw_m2 142 rfl) rfl
def RJ14 : String := "java/lang/System$2"
abbrev cJ14_getUTF16Char : ByteArray := prog_29_method_45_code
def yJ14_getUTF16Char : MethodName := ⟨RJ14, "getUTF16Char", "([BI)C"⟩
theorem q951 : (Jvm.Cond.castable "java/lang/System$2" "jdk/internal/access/JavaLangAccess") ∈ lw_tbl := lw_at lw_m4 155 rfl
theorem q952 : (Jvm.Cond.selects "java/lang/System$2" ({ cls := "jdk/internal/access/JavaLangAccess", name := "getUTF16Char", desc := "([BI)C" } : Jvm.MethodName) ({ cls := "java/lang/System$2", name := "getUTF16Char", desc := "([BI)C" } : Jvm.MethodName)) ∈ lw_all := lw_g (lw_at lw_m4 156 rfl) rfl
theorem q953 : (Jvm.Cond.unhidden "java/lang/System$2" "getUTF16Char" "([BI)C") ∈ lw_tbl := lw_at lw_m4 157 rfl
theorem q954 : (Jvm.Cond.instanceMethod ({ cls := "java/lang/System$2", name := "getUTF16Char", desc := "([BI)C" } : Jvm.MethodName)) ∈ lw_all := lw_g (lw_at lw_m4 158 rfl) rfl
theorem q955 : (Jvm.Cond.publicMethod ({ cls := "java/lang/System$2", name := "getUTF16Char", desc := "([BI)C" } : Jvm.MethodName)) ∈ lw_tbl := lw_at lw_m4 159 rfl
theorem q956 : (Jvm.Cond.code ({ cls := "java/lang/System$2", name := "getUTF16Char", desc := "([BI)C" } : Jvm.MethodName) prog_29_method_45_code (3 : Nat) (Option.some Jvm.ClassFile.FieldType.char)) ∈ lw_all := lw_g (lw_at lw_m4 160 rfl) rfl
theorem q957 : (Jvm.Cond.methodLink "java/lang/System$2" (185 : Nat) ({ cls := "java/lang/StringUTF16", name := "getChar", desc := "([BI)C" } : Jvm.MethodName)) ∈ lw_all := lw_g (lw_at lw_m4 161 rfl) rfl
def RJ2 : String := "java/lang/String"
def TJ2 : u_T := fun k => match k with
  | 0 => ("java/lang/String", "value", "[B", true)
  | 1 => ("java/lang/String", "coder", "B", true)
  | 2 => ("java/lang/String", "hash", "I", false)
  | _ => ("java/lang/String", "hashIsZero", "Z", false)
def tyJ2 : Nat → FieldType := fun k => match k with
  | 0 => .array .byte
  | 1 => .byte
  | 2 => .int
  | _ => .boolean
abbrev wsJ20 : List Cond := u_ws RJ2 TJ2 4
theorem nmJ2 : ∀ a, a < 4 → ∀ b, b < 4 → a ≠ b → (TJ2 a).2.1 ≠ (TJ2 b).2.1 := by decide +kernel
theorem tyJ2_ok : ∀ k, k < 4 → parseFieldDescriptor (TJ2 k).2.2.1 = some (tyJ2 k) := by decide +kernel
abbrev cJ2_checkBoundsOffCount : ByteArray := prog_24_method_157_code
def yJ2_checkBoundsOffCount : MethodName := ⟨RJ2, "checkBoundsOffCount", "(III)I"⟩
abbrev cJ2_checkIndex : ByteArray := prog_24_method_155_code
def yJ2_checkIndex : MethodName := ⟨RJ2, "checkIndex", "(II)V"⟩
abbrev cJ2_init : ByteArray := prog_24_method_53_code
def yJ2_init : MethodName := ⟨RJ2, "<init>", "(Ljava/lang/StringBuilder;)V"⟩
abbrev cJ2_init_2 : ByteArray := prog_24_method_150_code
def yJ2_init_2 : MethodName := ⟨RJ2, "<init>", "(Ljava/lang/AbstractStringBuilder;Ljava/lang/Void;)V"⟩
abbrev cJ2_length : ByteArray := prog_24_method_54_code
def yJ2_length : MethodName := ⟨RJ2, "length", "()I"⟩
abbrev cJ2_coder : ByteArray := prog_24_method_152_code
def yJ2_coder : MethodName := ⟨RJ2, "coder", "()B"⟩
abbrev cJ2_charAt : ByteArray := prog_24_method_56_code
def yJ2_charAt : MethodName := ⟨RJ2, "charAt", "(I)C"⟩
abbrev cJ2_isLatin1 : ByteArray := prog_24_method_154_code
def yJ2_isLatin1 : MethodName := ⟨RJ2, "isLatin1", "()Z"⟩
abbrev cJ2_isEmpty : ByteArray := prog_24_method_55_code
def yJ2_isEmpty : MethodName := ⟨RJ2, "isEmpty", "()Z"⟩
abbrev cJ2_equals : ByteArray := prog_24_method_66_code
def yJ2_equals : MethodName := ⟨RJ2, "equals", "(Ljava/lang/Object;)Z"⟩
abbrev cJ2_hashCode : ByteArray := prog_24_method_78_code
def yJ2_hashCode : MethodName := ⟨RJ2, "hashCode", "()I"⟩
theorem q80 : (Jvm.Cond.initialized "java/lang/String") ∈ lw_all := lw_g (lw_at lw_m1 4 rfl) rfl
theorem q127 : (Jvm.Cond.laysStatic "java/lang/String" "COMPACT_STRINGS" "Z") ∈ lw_tbl := lw_at lw_m1 51 rfl
theorem q138 : (Jvm.Cond.fieldLink "java/lang/String" (1048 : Nat) "java/lang/AbstractStringBuilder" "maybeLatin1" "Z") ∈ lw_all := lw_g (lw_at lw_m1 62 rfl) rfl
theorem q513 : (Jvm.Cond.static ({ cls := "java/lang/String", name := "checkBoundsOffCount", desc := "(III)I" } : Jvm.MethodName)) ∈ lw_all := lw_g (lw_at lw_m2 197 rfl) rfl
theorem q514 : (Jvm.Cond.code ({ cls := "java/lang/String", name := "checkBoundsOffCount", desc := "(III)I" } : Jvm.MethodName) prog_24_method_157_code (3 : Nat) (Option.some Jvm.ClassFile.FieldType.int)) ∈ lw_all := lw_g (lw_at lw_m2 198 rfl) rfl
theorem q515 : (Jvm.Cond.fieldLink "java/lang/String" (1053 : Nat) "jdk/internal/util/Preconditions" "SIOOBE_FORMATTER" "Ljava/util/function/BiFunction;") ∈ lw_all := lw_g (lw_at lw_m2 199 rfl) rfl
theorem q517 : (Jvm.Cond.methodLink "java/lang/String" (1065 : Nat) ({ cls := "jdk/internal/util/Preconditions", name := "checkFromIndexSize", desc := "(IIILjava/util/function/BiFunction;)I" } : Jvm.MethodName)) ∈ lw_all := lw_g (lw_at lw_m2 201 rfl) rfl
theorem q536 : (Jvm.Cond.static ({ cls := "java/lang/String", name := "checkIndex", desc := "(II)V" } : Jvm.MethodName)) ∈ lw_all := lw_g (lw_at lw_m2 220 rfl) rfl
theorem q537 : (Jvm.Cond.code ({ cls := "java/lang/String", name := "checkIndex", desc := "(II)V" } : Jvm.MethodName) prog_24_method_155_code (2 : Nat) (Option.none : Option Jvm.ClassFile.FieldType)) ∈ lw_all := lw_g (lw_at lw_m2 221 rfl) rfl
theorem q538 : (Jvm.Cond.methodLink "java/lang/String" (1059 : Nat) ({ cls := "jdk/internal/util/Preconditions", name := "checkIndex", desc := "(IILjava/util/function/BiFunction;)I" } : Jvm.MethodName)) ∈ lw_all := lw_g (lw_at lw_m2 222 rfl) rfl
theorem q548 : (Jvm.Cond.instantiable "java/lang/String" (4 : Nat)) ∈ lw_all := lw_g (lw_at lw_m2 232 rfl) rfl
theorem q550 : (Jvm.Cond.instanceMethod ({ cls := "java/lang/String", name := "<init>", desc := "(Ljava/lang/StringBuilder;)V" } : Jvm.MethodName)) ∈ lw_all := lw_g (lw_at lw_m2 234 rfl) rfl
theorem q551 : (Jvm.Cond.code ({ cls := "java/lang/String", name := "<init>", desc := "(Ljava/lang/StringBuilder;)V" } : Jvm.MethodName) prog_24_method_53_code (2 : Nat) (Option.none : Option Jvm.ClassFile.FieldType)) ∈ lw_all := lw_g (lw_at lw_m2 235 rfl) rfl
theorem q552 : (Jvm.Cond.methodLink "java/lang/String" (489 : Nat) ({ cls := "java/lang/String", name := "<init>", desc := "(Ljava/lang/AbstractStringBuilder;Ljava/lang/Void;)V" } : Jvm.MethodName)) ∈ lw_all := lw_g (lw_at lw_m2 236 rfl) rfl
theorem q553 : (Jvm.Cond.instanceMethod ({ cls := "java/lang/String", name := "<init>", desc := "(Ljava/lang/AbstractStringBuilder;Ljava/lang/Void;)V" } : Jvm.MethodName)) ∈ lw_all := lw_g (lw_at lw_m2 237 rfl) rfl
theorem q554 : (Jvm.Cond.code ({ cls := "java/lang/String", name := "<init>", desc := "(Ljava/lang/AbstractStringBuilder;Ljava/lang/Void;)V" } : Jvm.MethodName) prog_24_method_150_code (5 : Nat) (Option.none : Option Jvm.ClassFile.FieldType)) ∈ lw_all := lw_g (lw_at lw_m2 238 rfl) rfl
theorem q555 : (Jvm.Cond.methodLink "java/lang/String" (1 : Nat) ({ cls := "java/lang/Object", name := "<init>", desc := "()V" } : Jvm.MethodName)) ∈ lw_all := lw_g (lw_at lw_m2 239 rfl) rfl
theorem q556 : (Jvm.Cond.methodLink "java/lang/String" (552 : Nat) ({ cls := "java/lang/AbstractStringBuilder", name := "getValue", desc := "()[B" } : Jvm.MethodName)) ∈ lw_all := lw_g (lw_at lw_m3 0 rfl) rfl
theorem q561 : (Jvm.Cond.methodLink "java/lang/String" (549 : Nat) ({ cls := "java/lang/AbstractStringBuilder", name := "length", desc := "()I" } : Jvm.MethodName)) ∈ lw_all := lw_g (lw_at lw_m3 5 rfl) rfl
theorem q569 : (Jvm.Cond.methodLink "java/lang/String" (1047 : Nat) ({ cls := "java/lang/AbstractStringBuilder", name := "isLatin1", desc := "()Z" } : Jvm.MethodName)) ∈ lw_all := lw_g (lw_at lw_m3 13 rfl) rfl
theorem q570 : (Jvm.Cond.methodLink "java/lang/String" (54 : Nat) ({ cls := "java/util/Arrays", name := "copyOfRange", desc := "([BII)[B" } : Jvm.MethodName)) ∈ lw_all := lw_g (lw_at lw_m3 14 rfl) rfl
theorem q579 : (Jvm.Cond.fieldLink "java/lang/String" (38 : Nat) "java/lang/String" "COMPACT_STRINGS" "Z") ∈ lw_all := lw_g (lw_at lw_m3 23 rfl) rfl
theorem q580 : (Jvm.Cond.methodLink "java/lang/String" (1051 : Nat) ({ cls := "java/lang/StringUTF16", name := "compress", desc := "([BII)[B" } : Jvm.MethodName)) ∈ lw_all := lw_g (lw_at lw_m3 24 rfl) rfl
theorem q590 : (Jvm.Cond.methodLink "java/lang/String" (47 : Nat) ({ cls := "java/lang/StringUTF16", name := "coderFromArrayLen", desc := "([BI)B" } : Jvm.MethodName)) ∈ lw_all := lw_g (lw_at lw_m3 34 rfl) rfl
theorem q593 : (Jvm.Cond.fieldLink "java/lang/String" (9 : Nat) "java/lang/String" "value" "[B") ∈ lw_all := lw_g (lw_at lw_m3 37 rfl) rfl
theorem q594 : (Jvm.Cond.fieldLink "java/lang/String" (15 : Nat) "java/lang/String" "coder" "B") ∈ lw_all := lw_g (lw_at lw_m3 38 rfl) rfl
theorem q595 : (Jvm.Cond.fieldLink "java/lang/String" (19 : Nat) "java/lang/String" "hash" "I") ∈ lw_all := lw_g (lw_at lw_m3 39 rfl) rfl
theorem q596 : (Jvm.Cond.fieldLink "java/lang/String" (23 : Nat) "java/lang/String" "hashIsZero" "Z") ∈ lw_all := lw_g (lw_at lw_m3 40 rfl) rfl
theorem q597 : (Jvm.Cond.laysFinal "java/lang/String" "java/lang/String" "value" "[B") ∈ lw_all := lw_g (lw_at lw_m3 41 rfl) rfl
theorem q598 : (Jvm.Cond.soleField "java/lang/String" "value") ∈ lw_all := lw_g (lw_at lw_m3 42 rfl) rfl
theorem q599 : (Jvm.Cond.laysFinal "java/lang/String" "java/lang/String" "coder" "B") ∈ lw_all := lw_g (lw_at lw_m3 43 rfl) rfl
theorem q600 : (Jvm.Cond.soleField "java/lang/String" "coder") ∈ lw_all := lw_g (lw_at lw_m3 44 rfl) rfl
theorem q601 : (Jvm.Cond.lays "java/lang/String" "java/lang/String" "hash" "I") ∈ lw_all := lw_g (lw_at lw_m3 45 rfl) rfl
theorem q602 : (Jvm.Cond.soleField "java/lang/String" "hash") ∈ lw_all := lw_g (lw_at lw_m3 46 rfl) rfl
theorem q603 : (Jvm.Cond.lays "java/lang/String" "java/lang/String" "hashIsZero" "Z") ∈ lw_all := lw_g (lw_at lw_m3 47 rfl) rfl
theorem q604 : (Jvm.Cond.soleField "java/lang/String" "hashIsZero") ∈ lw_all := lw_g (lw_at lw_m3 48 rfl) rfl
theorem q605 : (Jvm.Cond.superclass "java/lang/String" "java/lang/Object") ∈ lw_all := lw_g (lw_at lw_m3 49 rfl) rfl
theorem q695 : (Jvm.Cond.instanceMethod ({ cls := "java/lang/String", name := "length", desc := "()I" } : Jvm.MethodName)) ∈ lw_all := lw_g (lw_at lw_m3 139 rfl) rfl
theorem q696 : (Jvm.Cond.selects "java/lang/String" ({ cls := "java/lang/String", name := "length", desc := "()I" } : Jvm.MethodName) ({ cls := "java/lang/String", name := "length", desc := "()I" } : Jvm.MethodName)) ∈ lw_all := lw_g (lw_at lw_m3 140 rfl) rfl
theorem q697 : (Jvm.Cond.code ({ cls := "java/lang/String", name := "length", desc := "()I" } : Jvm.MethodName) prog_24_method_54_code (1 : Nat) (Option.some Jvm.ClassFile.FieldType.int)) ∈ lw_all := lw_g (lw_at lw_m3 141 rfl) rfl
theorem q698 : (Jvm.Cond.methodLink "java/lang/String" (335 : Nat) ({ cls := "java/lang/String", name := "coder", desc := "()B" } : Jvm.MethodName)) ∈ lw_all := lw_g (lw_at lw_m3 142 rfl) rfl
theorem q699 : (Jvm.Cond.instanceMethod ({ cls := "java/lang/String", name := "coder", desc := "()B" } : Jvm.MethodName)) ∈ lw_all := lw_g (lw_at lw_m3 143 rfl) rfl
theorem q700 : (Jvm.Cond.selects "java/lang/String" ({ cls := "java/lang/String", name := "coder", desc := "()B" } : Jvm.MethodName) ({ cls := "java/lang/String", name := "coder", desc := "()B" } : Jvm.MethodName)) ∈ lw_all := lw_g (lw_at lw_m3 144 rfl) rfl
theorem q701 : (Jvm.Cond.code ({ cls := "java/lang/String", name := "coder", desc := "()B" } : Jvm.MethodName) prog_24_method_152_code (1 : Nat) (Option.some Jvm.ClassFile.FieldType.byte)) ∈ lw_all := lw_g (lw_at lw_m3 145 rfl) rfl
theorem q706 : (Jvm.Cond.instanceMethod ({ cls := "java/lang/String", name := "charAt", desc := "(I)C" } : Jvm.MethodName)) ∈ lw_all := lw_g (lw_at lw_m3 150 rfl) rfl
theorem q707 : (Jvm.Cond.selects "java/lang/String" ({ cls := "java/lang/String", name := "charAt", desc := "(I)C" } : Jvm.MethodName) ({ cls := "java/lang/String", name := "charAt", desc := "(I)C" } : Jvm.MethodName)) ∈ lw_all := lw_g (lw_at lw_m3 151 rfl) rfl
theorem q708 : (Jvm.Cond.code ({ cls := "java/lang/String", name := "charAt", desc := "(I)C" } : Jvm.MethodName) prog_24_method_56_code (2 : Nat) (Option.some Jvm.ClassFile.FieldType.char)) ∈ lw_all := lw_g (lw_at lw_m3 152 rfl) rfl
theorem q709 : (Jvm.Cond.methodLink "java/lang/String" (492 : Nat) ({ cls := "java/lang/String", name := "isLatin1", desc := "()Z" } : Jvm.MethodName)) ∈ lw_all := lw_g (lw_at lw_m3 153 rfl) rfl
theorem q710 : (Jvm.Cond.instanceMethod ({ cls := "java/lang/String", name := "isLatin1", desc := "()Z" } : Jvm.MethodName)) ∈ lw_all := lw_g (lw_at lw_m3 154 rfl) rfl
theorem q711 : (Jvm.Cond.selects "java/lang/String" ({ cls := "java/lang/String", name := "isLatin1", desc := "()Z" } : Jvm.MethodName) ({ cls := "java/lang/String", name := "isLatin1", desc := "()Z" } : Jvm.MethodName)) ∈ lw_all := lw_g (lw_at lw_m3 155 rfl) rfl
theorem q712 : (Jvm.Cond.code ({ cls := "java/lang/String", name := "isLatin1", desc := "()Z" } : Jvm.MethodName) prog_24_method_154_code (1 : Nat) (Option.some Jvm.ClassFile.FieldType.boolean)) ∈ lw_all := lw_g (lw_at lw_m3 156 rfl) rfl
theorem q713 : (Jvm.Cond.methodLink "java/lang/String" (495 : Nat) ({ cls := "java/lang/StringLatin1", name := "charAt", desc := "([BI)C" } : Jvm.MethodName)) ∈ lw_all := lw_g (lw_at lw_m3 157 rfl) rfl
theorem q717 : (Jvm.Cond.methodLink "java/lang/String" (498 : Nat) ({ cls := "java/lang/StringUTF16", name := "charAt", desc := "([BI)C" } : Jvm.MethodName)) ∈ lw_all := lw_g (lw_at lw_m3 161 rfl) rfl
theorem q735 : (Jvm.Cond.instanceMethod ({ cls := "java/lang/String", name := "isEmpty", desc := "()Z" } : Jvm.MethodName)) ∈ lw_all := lw_g (lw_at lw_m3 179 rfl) rfl
theorem q736 : (Jvm.Cond.selects "java/lang/String" ({ cls := "java/lang/String", name := "isEmpty", desc := "()Z" } : Jvm.MethodName) ({ cls := "java/lang/String", name := "isEmpty", desc := "()Z" } : Jvm.MethodName)) ∈ lw_all := lw_g (lw_at lw_m3 180 rfl) rfl
theorem q737 : (Jvm.Cond.code ({ cls := "java/lang/String", name := "isEmpty", desc := "()Z" } : Jvm.MethodName) prog_24_method_55_code (1 : Nat) (Option.some Jvm.ClassFile.FieldType.boolean)) ∈ lw_all := lw_g (lw_at lw_m3 181 rfl) rfl
theorem q757 : (Jvm.Cond.instanceMethod ({ cls := "java/lang/String", name := "equals", desc := "(Ljava/lang/Object;)Z" } : Jvm.MethodName)) ∈ lw_all := lw_g (lw_at lw_m3 201 rfl) rfl
theorem q758 : (Jvm.Cond.selects "java/lang/String" ({ cls := "java/lang/String", name := "equals", desc := "(Ljava/lang/Object;)Z" } : Jvm.MethodName) ({ cls := "java/lang/String", name := "equals", desc := "(Ljava/lang/Object;)Z" } : Jvm.MethodName)) ∈ lw_all := lw_g (lw_at lw_m3 202 rfl) rfl
theorem q759 : (Jvm.Cond.code ({ cls := "java/lang/String", name := "equals", desc := "(Ljava/lang/Object;)Z" } : Jvm.MethodName) prog_24_method_66_code (3 : Nat) (Option.some Jvm.ClassFile.FieldType.boolean)) ∈ lw_all := lw_g (lw_at lw_m3 203 rfl) rfl
theorem q760 : (Jvm.Cond.classLink "java/lang/String" (10 : Nat) "java/lang/String") ∈ lw_all := lw_g (lw_at lw_m3 204 rfl) rfl
theorem q761 : (Jvm.Cond.methodLink "java/lang/String" (541 : Nat) ({ cls := "java/lang/StringLatin1", name := "equals", desc := "([B[B)Z" } : Jvm.MethodName)) ∈ lw_all := lw_g (lw_at lw_m3 205 rfl) rfl
theorem q929 : (Jvm.Cond.instanceMethod ({ cls := "java/lang/String", name := "hashCode", desc := "()I" } : Jvm.MethodName)) ∈ lw_all := lw_g (lw_at lw_m4 133 rfl) rfl
theorem q930 : (Jvm.Cond.selects "java/lang/String" ({ cls := "java/lang/String", name := "hashCode", desc := "()I" } : Jvm.MethodName) ({ cls := "java/lang/String", name := "hashCode", desc := "()I" } : Jvm.MethodName)) ∈ lw_all := lw_g (lw_at lw_m4 134 rfl) rfl
theorem q931 : (Jvm.Cond.code ({ cls := "java/lang/String", name := "hashCode", desc := "()I" } : Jvm.MethodName) prog_24_method_78_code (2 : Nat) (Option.some Jvm.ClassFile.FieldType.int)) ∈ lw_all := lw_g (lw_at lw_m4 135 rfl) rfl
theorem q932 : (Jvm.Cond.methodLink "java/lang/String" (628 : Nat) ({ cls := "java/lang/StringLatin1", name := "hashCode", desc := "([B)I" } : Jvm.MethodName)) ∈ lw_all := lw_g (lw_at lw_m4 136 rfl) rfl
theorem q973 : (Jvm.Cond.methodLink "java/lang/String" (632 : Nat) ({ cls := "java/lang/StringUTF16", name := "hashCode", desc := "([B)I" } : Jvm.MethodName)) ∈ lw_all := lw_g (lw_at lw_m4 177 rfl) rfl
theorem in_J2 : ∀ w ∈ wsJ20, w ∈ lw_all := lw_in wsJ20 [597, 599, 601, 603] (by decide +kernel) (by decide +kernel)
def RJ3 : String := "java/lang/StringUTF16"
abbrev cJ3_newBytesFor : ByteArray := prog_27_method_2_code
def yJ3_newBytesFor : MethodName := ⟨RJ3, "newBytesFor", "(I)[B"⟩
abbrev cJ3_newBytesLength : ByteArray := prog_27_method_3_code
def yJ3_newBytesLength : MethodName := ⟨RJ3, "newBytesLength", "(I)I"⟩
abbrev cJ3_fillNull : ByteArray := prog_27_method_70_code
def yJ3_fillNull : MethodName := ⟨RJ3, "fillNull", "([BII)V"⟩
abbrev cJ3_inflate : ByteArray := prog_27_method_86_code
def yJ3_inflate : MethodName := ⟨RJ3, "inflate", "([BI[BII)V"⟩
abbrev cJ3_checkBoundsOffCount : ByteArray := prog_27_method_94_code
def yJ3_checkBoundsOffCount : MethodName := ⟨RJ3, "checkBoundsOffCount", "(II[B)V"⟩
abbrev cJ3_length : ByteArray := prog_27_method_6_code
def yJ3_length : MethodName := ⟨RJ3, "length", "([B)I"⟩
abbrev cJ3_putChar : ByteArray := prog_27_method_4_code
def yJ3_putChar : MethodName := ⟨RJ3, "putChar", "([BII)V"⟩
abbrev cJ3_putCharSB : ByteArray := prog_27_method_71_code
def yJ3_putCharSB : MethodName := ⟨RJ3, "putCharSB", "([BII)V"⟩
abbrev cJ3_checkIndex : ByteArray := prog_27_method_91_code
def yJ3_checkIndex : MethodName := ⟨RJ3, "checkIndex", "(I[B)V"⟩
abbrev cJ3_compress : ByteArray := prog_27_method_17_code
def yJ3_compress : MethodName := ⟨RJ3, "compress", "([BII)[B"⟩
abbrev cJ3_compress_2 : ByteArray := prog_27_method_22_code
def yJ3_compress_2 : MethodName := ⟨RJ3, "compress", "([BI[BII)I"⟩
abbrev cJ3_getChar : ByteArray := prog_27_method_5_code
def yJ3_getChar : MethodName := ⟨RJ3, "getChar", "([BI)C"⟩
abbrev cJ3_coderFromArrayLen : ByteArray := prog_27_method_15_code
def yJ3_coderFromArrayLen : MethodName := ⟨RJ3, "coderFromArrayLen", "([BI)B"⟩
abbrev cJ3_charAt : ByteArray := prog_27_method_83_code
def yJ3_charAt : MethodName := ⟨RJ3, "charAt", "([BI)C"⟩
abbrev cJ3_hashCode : ByteArray := prog_27_method_39_code
def yJ3_hashCode : MethodName := ⟨RJ3, "hashCode", "([B)I"⟩
theorem q81 : (Jvm.Cond.initialized "java/lang/StringUTF16") ∈ lw_all := lw_g (lw_at lw_m1 5 rfl) rfl
theorem q129 : (Jvm.Cond.static ({ cls := "java/lang/StringUTF16", name := "newBytesFor", desc := "(I)[B" } : Jvm.MethodName)) ∈ lw_all := lw_g (lw_at lw_m1 53 rfl) rfl
theorem q130 : (Jvm.Cond.code ({ cls := "java/lang/StringUTF16", name := "newBytesFor", desc := "(I)[B" } : Jvm.MethodName) prog_27_method_2_code (1 : Nat) (Option.some (Jvm.ClassFile.FieldType.array Jvm.ClassFile.FieldType.byte))) ∈ lw_all := lw_g (lw_at lw_m1 54 rfl) rfl
theorem q131 : (Jvm.Cond.methodLink "java/lang/StringUTF16" (11 : Nat) ({ cls := "java/lang/StringUTF16", name := "newBytesLength", desc := "(I)I" } : Jvm.MethodName)) ∈ lw_all := lw_g (lw_at lw_m1 55 rfl) rfl
theorem q132 : (Jvm.Cond.static ({ cls := "java/lang/StringUTF16", name := "newBytesLength", desc := "(I)I" } : Jvm.MethodName)) ∈ lw_all := lw_g (lw_at lw_m1 56 rfl) rfl
theorem q133 : (Jvm.Cond.code ({ cls := "java/lang/StringUTF16", name := "newBytesLength", desc := "(I)I" } : Jvm.MethodName) prog_27_method_3_code (1 : Nat) (Option.some Jvm.ClassFile.FieldType.int)) ∈ lw_all := lw_g (lw_at lw_m1 57 rfl) rfl
theorem q134 : (Jvm.Cond.constant "java/lang/StringUTF16" (20 : Nat) (1073741823 : Int32)) ∈ lw_all := lw_g (lw_at lw_m1 58 rfl) rfl
theorem q483 : (Jvm.Cond.static ({ cls := "java/lang/StringUTF16", name := "fillNull", desc := "([BII)V" } : Jvm.MethodName)) ∈ lw_all := lw_g (lw_at lw_m2 167 rfl) rfl
theorem q484 : (Jvm.Cond.code ({ cls := "java/lang/StringUTF16", name := "fillNull", desc := "([BII)V" } : Jvm.MethodName) prog_27_method_70_code (3 : Nat) (Option.none : Option Jvm.ClassFile.FieldType)) ∈ lw_all := lw_g (lw_at lw_m2 168 rfl) rfl
theorem q485 : (Jvm.Cond.methodLink "java/lang/StringUTF16" (380 : Nat) ({ cls := "java/util/Arrays", name := "fill", desc := "([BIIB)V" } : Jvm.MethodName)) ∈ lw_all := lw_g (lw_at lw_m2 169 rfl) rfl
theorem q504 : (Jvm.Cond.static ({ cls := "java/lang/StringUTF16", name := "inflate", desc := "([BI[BII)V" } : Jvm.MethodName)) ∈ lw_all := lw_g (lw_at lw_m2 188 rfl) rfl
theorem q505 : (Jvm.Cond.code ({ cls := "java/lang/StringUTF16", name := "inflate", desc := "([BI[BII)V" } : Jvm.MethodName) prog_27_method_86_code (6 : Nat) (Option.none : Option Jvm.ClassFile.FieldType)) ∈ lw_all := lw_g (lw_at lw_m2 189 rfl) rfl
theorem q506 : (Jvm.Cond.methodLink "java/lang/StringUTF16" (173 : Nat) ({ cls := "java/lang/StringUTF16", name := "checkBoundsOffCount", desc := "(II[B)V" } : Jvm.MethodName)) ∈ lw_all := lw_g (lw_at lw_m2 190 rfl) rfl
theorem q507 : (Jvm.Cond.static ({ cls := "java/lang/StringUTF16", name := "checkBoundsOffCount", desc := "(II[B)V" } : Jvm.MethodName)) ∈ lw_all := lw_g (lw_at lw_m2 191 rfl) rfl
theorem q508 : (Jvm.Cond.code ({ cls := "java/lang/StringUTF16", name := "checkBoundsOffCount", desc := "(II[B)V" } : Jvm.MethodName) prog_27_method_94_code (3 : Nat) (Option.none : Option Jvm.ClassFile.FieldType)) ∈ lw_all := lw_g (lw_at lw_m2 192 rfl) rfl
theorem q509 : (Jvm.Cond.methodLink "java/lang/StringUTF16" (48 : Nat) ({ cls := "java/lang/StringUTF16", name := "length", desc := "([B)I" } : Jvm.MethodName)) ∈ lw_all := lw_g (lw_at lw_m2 193 rfl) rfl
theorem q510 : (Jvm.Cond.static ({ cls := "java/lang/StringUTF16", name := "length", desc := "([B)I" } : Jvm.MethodName)) ∈ lw_all := lw_g (lw_at lw_m2 194 rfl) rfl
theorem q511 : (Jvm.Cond.code ({ cls := "java/lang/StringUTF16", name := "length", desc := "([B)I" } : Jvm.MethodName) prog_27_method_6_code (1 : Nat) (Option.some Jvm.ClassFile.FieldType.int)) ∈ lw_all := lw_g (lw_at lw_m2 195 rfl) rfl
theorem q512 : (Jvm.Cond.methodLink "java/lang/StringUTF16" (419 : Nat) ({ cls := "java/lang/String", name := "checkBoundsOffCount", desc := "(III)I" } : Jvm.MethodName)) ∈ lw_all := lw_g (lw_at lw_m2 196 rfl) rfl
theorem q520 : (Jvm.Cond.methodLink "java/lang/StringUTF16" (111 : Nat) ({ cls := "java/lang/StringUTF16", name := "putChar", desc := "([BII)V" } : Jvm.MethodName)) ∈ lw_all := lw_g (lw_at lw_m2 204 rfl) rfl
theorem q521 : (Jvm.Cond.static ({ cls := "java/lang/StringUTF16", name := "putChar", desc := "([BII)V" } : Jvm.MethodName)) ∈ lw_all := lw_g (lw_at lw_m2 205 rfl) rfl
theorem q522 : (Jvm.Cond.code ({ cls := "java/lang/StringUTF16", name := "putChar", desc := "([BII)V" } : Jvm.MethodName) prog_27_method_4_code (3 : Nat) (Option.none : Option Jvm.ClassFile.FieldType)) ∈ lw_all := lw_g (lw_at lw_m2 206 rfl) rfl
theorem q523 : (Jvm.Cond.fieldLink "java/lang/StringUTF16" (44 : Nat) "java/lang/StringUTF16" "$assertionsDisabled" "Z") ∈ lw_all := lw_g (lw_at lw_m2 207 rfl) rfl
theorem q524 : (Jvm.Cond.laysStatic "java/lang/StringUTF16" "$assertionsDisabled" "Z") ∈ lw_tbl := lw_at lw_m2 208 rfl
theorem q525 : (Jvm.Cond.fieldLink "java/lang/StringUTF16" (59 : Nat) "java/lang/StringUTF16" "HI_BYTE_SHIFT" "I") ∈ lw_all := lw_g (lw_at lw_m2 209 rfl) rfl
theorem q526 : (Jvm.Cond.laysStatic "java/lang/StringUTF16" "HI_BYTE_SHIFT" "I") ∈ lw_tbl := lw_at lw_m2 210 rfl
theorem q527 : (Jvm.Cond.fieldLink "java/lang/StringUTF16" (63 : Nat) "java/lang/StringUTF16" "LO_BYTE_SHIFT" "I") ∈ lw_all := lw_g (lw_at lw_m2 211 rfl) rfl
theorem q528 : (Jvm.Cond.laysStatic "java/lang/StringUTF16" "LO_BYTE_SHIFT" "I") ∈ lw_tbl := lw_at lw_m2 212 rfl
theorem q530 : (Jvm.Cond.static ({ cls := "java/lang/StringUTF16", name := "putCharSB", desc := "([BII)V" } : Jvm.MethodName)) ∈ lw_all := lw_g (lw_at lw_m2 214 rfl) rfl
theorem q531 : (Jvm.Cond.code ({ cls := "java/lang/StringUTF16", name := "putCharSB", desc := "([BII)V" } : Jvm.MethodName) prog_27_method_71_code (3 : Nat) (Option.none : Option Jvm.ClassFile.FieldType)) ∈ lw_all := lw_g (lw_at lw_m2 215 rfl) rfl
theorem q532 : (Jvm.Cond.methodLink "java/lang/StringUTF16" (67 : Nat) ({ cls := "java/lang/StringUTF16", name := "checkIndex", desc := "(I[B)V" } : Jvm.MethodName)) ∈ lw_all := lw_g (lw_at lw_m2 216 rfl) rfl
theorem q533 : (Jvm.Cond.static ({ cls := "java/lang/StringUTF16", name := "checkIndex", desc := "(I[B)V" } : Jvm.MethodName)) ∈ lw_all := lw_g (lw_at lw_m2 217 rfl) rfl
theorem q534 : (Jvm.Cond.code ({ cls := "java/lang/StringUTF16", name := "checkIndex", desc := "(I[B)V" } : Jvm.MethodName) prog_27_method_91_code (2 : Nat) (Option.none : Option Jvm.ClassFile.FieldType)) ∈ lw_all := lw_g (lw_at lw_m2 218 rfl) rfl
theorem q535 : (Jvm.Cond.methodLink "java/lang/StringUTF16" (414 : Nat) ({ cls := "java/lang/String", name := "checkIndex", desc := "(II)V" } : Jvm.MethodName)) ∈ lw_all := lw_g (lw_at lw_m2 219 rfl) rfl
theorem q581 : (Jvm.Cond.static ({ cls := "java/lang/StringUTF16", name := "compress", desc := "([BII)[B" } : Jvm.MethodName)) ∈ lw_all := lw_g (lw_at lw_m3 25 rfl) rfl
theorem q582 : (Jvm.Cond.code ({ cls := "java/lang/StringUTF16", name := "compress", desc := "([BII)[B" } : Jvm.MethodName) prog_27_method_17_code (6 : Nat) (Option.some (Jvm.ClassFile.FieldType.array Jvm.ClassFile.FieldType.byte))) ∈ lw_all := lw_g (lw_at lw_m3 26 rfl) rfl
theorem q583 : (Jvm.Cond.methodLink "java/lang/StringUTF16" (123 : Nat) ({ cls := "java/lang/StringUTF16", name := "compress", desc := "([BI[BII)I" } : Jvm.MethodName)) ∈ lw_all := lw_g (lw_at lw_m3 27 rfl) rfl
theorem q584 : (Jvm.Cond.static ({ cls := "java/lang/StringUTF16", name := "compress", desc := "([BI[BII)I" } : Jvm.MethodName)) ∈ lw_all := lw_g (lw_at lw_m3 28 rfl) rfl
theorem q585 : (Jvm.Cond.code ({ cls := "java/lang/StringUTF16", name := "compress", desc := "([BI[BII)I" } : Jvm.MethodName) prog_27_method_22_code (7 : Nat) (Option.some Jvm.ClassFile.FieldType.int)) ∈ lw_all := lw_g (lw_at lw_m3 29 rfl) rfl
theorem q586 : (Jvm.Cond.methodLink "java/lang/StringUTF16" (71 : Nat) ({ cls := "java/lang/StringUTF16", name := "getChar", desc := "([BI)C" } : Jvm.MethodName)) ∈ lw_all := lw_g (lw_at lw_m3 30 rfl) rfl
theorem q587 : (Jvm.Cond.static ({ cls := "java/lang/StringUTF16", name := "getChar", desc := "([BI)C" } : Jvm.MethodName)) ∈ lw_all := lw_g (lw_at lw_m3 31 rfl) rfl
theorem q588 : (Jvm.Cond.code ({ cls := "java/lang/StringUTF16", name := "getChar", desc := "([BI)C" } : Jvm.MethodName) prog_27_method_5_code (2 : Nat) (Option.some Jvm.ClassFile.FieldType.char)) ∈ lw_all := lw_g (lw_at lw_m3 32 rfl) rfl
theorem q589 : (Jvm.Cond.methodLink "java/lang/StringUTF16" (126 : Nat) ({ cls := "java/util/Arrays", name := "copyOfRange", desc := "([BII)[B" } : Jvm.MethodName)) ∈ lw_all := lw_g (lw_at lw_m3 33 rfl) rfl
theorem q591 : (Jvm.Cond.static ({ cls := "java/lang/StringUTF16", name := "coderFromArrayLen", desc := "([BI)B" } : Jvm.MethodName)) ∈ lw_all := lw_g (lw_at lw_m3 35 rfl) rfl
theorem q592 : (Jvm.Cond.code ({ cls := "java/lang/StringUTF16", name := "coderFromArrayLen", desc := "([BI)B" } : Jvm.MethodName) prog_27_method_15_code (2 : Nat) (Option.some Jvm.ClassFile.FieldType.byte)) ∈ lw_all := lw_g (lw_at lw_m3 36 rfl) rfl
theorem q718 : (Jvm.Cond.static ({ cls := "java/lang/StringUTF16", name := "charAt", desc := "([BI)C" } : Jvm.MethodName)) ∈ lw_all := lw_g (lw_at lw_m3 162 rfl) rfl
theorem q719 : (Jvm.Cond.code ({ cls := "java/lang/StringUTF16", name := "charAt", desc := "([BI)C" } : Jvm.MethodName) prog_27_method_83_code (2 : Nat) (Option.some Jvm.ClassFile.FieldType.char)) ∈ lw_all := lw_g (lw_at lw_m3 163 rfl) rfl
theorem q974 : (Jvm.Cond.static ({ cls := "java/lang/StringUTF16", name := "hashCode", desc := "([B)I" } : Jvm.MethodName)) ∈ lw_all := lw_g (lw_at lw_m4 178 rfl) rfl
theorem q975 : (Jvm.Cond.code ({ cls := "java/lang/StringUTF16", name := "hashCode", desc := "([B)I" } : Jvm.MethodName) prog_27_method_39_code (1 : Nat) (Option.some Jvm.ClassFile.FieldType.int)) ∈ lw_all := lw_g (lw_at lw_m4 179 rfl) rfl
theorem q976 : (Jvm.Cond.methodLink "java/lang/StringUTF16" (220 : Nat) ({ cls := "jdk/internal/util/ArraysSupport", name := "vectorizedHashCode", desc := "(Ljava/lang/Object;IIII)I" } : Jvm.MethodName)) ∈ lw_all := lw_g (lw_at lw_m4 180 rfl) rfl
def RJ4 : String := "java/lang/Throwable"
def TJ4 : u_T := fun k => match k with
  | 0 => ("java/lang/Throwable", "cause", "Ljava/lang/Throwable;", false)
  | 1 => ("java/lang/Throwable", "stackTrace", "[Ljava/lang/StackTraceElement;", false)
  | 2 => ("java/lang/Throwable", "suppressedExceptions", "Ljava/util/List;", false)
  | 3 => ("java/lang/Throwable", "detailMessage", "Ljava/lang/String;", false)
  | _ => ("java/lang/Throwable", "backtrace", "Ljava/lang/Object;", false)
def tyJ4 : Nat → FieldType := fun k => match k with
  | 0 => .object "java/lang/Throwable"
  | 1 => .array (.object "java/lang/StackTraceElement")
  | 2 => .object "java/util/List"
  | 3 => .object "java/lang/String"
  | _ => .object "java/lang/Object"
abbrev wsJ40 : List Cond := u_ws RJ4 TJ4 5
theorem nmJ4 : ∀ a, a < 5 → ∀ b, b < 5 → a ≠ b → (TJ4 a).2.1 ≠ (TJ4 b).2.1 := by decide +kernel
theorem tyJ4_ok : ∀ k, k < 5 → parseFieldDescriptor (TJ4 k).2.2.1 = some (tyJ4 k) := by decide +kernel
abbrev cJ4_init : ByteArray := prog_30_method_1_code
def yJ4_init : MethodName := ⟨RJ4, "<init>", "()V"⟩
theorem q87 : (Jvm.Cond.initialized "java/lang/Throwable") ∈ lw_all := lw_g (lw_at lw_m1 11 rfl) rfl
theorem q338 : (Jvm.Cond.declares ({ cls := "java/lang/Throwable", name := "<init>", desc := "()V" } : Jvm.MethodName)) ∈ lw_tbl := lw_at lw_m2 22 rfl
theorem q339 : (Jvm.Cond.declares ({ cls := "java/lang/Throwable", name := "<init>", desc := "(Ljava/lang/String;)V" } : Jvm.MethodName)) ∈ lw_tbl := lw_at lw_m2 23 rfl
theorem q343 : (Jvm.Cond.lays "java/lang/Throwable" "java/lang/Throwable" "cause" "Ljava/lang/Throwable;") ∈ lw_all := lw_g (lw_at lw_m2 27 rfl) rfl
theorem q345 : (Jvm.Cond.lays "java/lang/Throwable" "java/lang/Throwable" "stackTrace" "[Ljava/lang/StackTraceElement;") ∈ lw_all := lw_g (lw_at lw_m2 29 rfl) rfl
theorem q347 : (Jvm.Cond.lays "java/lang/Throwable" "java/lang/Throwable" "suppressedExceptions" "Ljava/util/List;") ∈ lw_all := lw_g (lw_at lw_m2 31 rfl) rfl
theorem q349 : (Jvm.Cond.lays "java/lang/Throwable" "java/lang/Throwable" "detailMessage" "Ljava/lang/String;") ∈ lw_all := lw_g (lw_at lw_m2 33 rfl) rfl
theorem q351 : (Jvm.Cond.lays "java/lang/Throwable" "java/lang/Throwable" "backtrace" "Ljava/lang/Object;") ∈ lw_all := lw_g (lw_at lw_m2 35 rfl) rfl
theorem q352 : (Jvm.Cond.fieldLink "java/lang/Throwable" (198 : Nat) "java/lang/Throwable" "backtrace" "Ljava/lang/Object;") ∈ lw_all := lw_g (lw_at lw_m2 36 rfl) rfl
theorem q353 : (Jvm.Cond.superclass "java/lang/Throwable" "java/lang/Object") ∈ lw_all := lw_g (lw_at lw_m2 37 rfl) rfl
theorem q354 : (Jvm.Cond.instanceMethod ({ cls := "java/lang/Throwable", name := "<init>", desc := "()V" } : Jvm.MethodName)) ∈ lw_all := lw_g (lw_at lw_m2 38 rfl) rfl
theorem q355 : (Jvm.Cond.code ({ cls := "java/lang/Throwable", name := "<init>", desc := "()V" } : Jvm.MethodName) prog_30_method_1_code (1 : Nat) (Option.none : Option Jvm.ClassFile.FieldType)) ∈ lw_all := lw_g (lw_at lw_m2 39 rfl) rfl
theorem q356 : (Jvm.Cond.methodLink "java/lang/Throwable" (1 : Nat) ({ cls := "java/lang/Object", name := "<init>", desc := "()V" } : Jvm.MethodName)) ∈ lw_all := lw_g (lw_at lw_m2 40 rfl) rfl
theorem q357 : (Jvm.Cond.fieldLink "java/lang/Throwable" (13 : Nat) "java/lang/Throwable" "UNASSIGNED_STACK" "[Ljava/lang/StackTraceElement;") ∈ lw_all := lw_g (lw_at lw_m2 41 rfl) rfl
theorem q358 : (Jvm.Cond.laysStatic "java/lang/Throwable" "UNASSIGNED_STACK" "[Ljava/lang/StackTraceElement;") ∈ lw_tbl := lw_at lw_m2 42 rfl
theorem q359 : (Jvm.Cond.fieldLink "java/lang/Throwable" (20 : Nat) "java/lang/Throwable" "SUPPRESSED_SENTINEL" "Ljava/util/List;") ∈ lw_all := lw_g (lw_at lw_m2 43 rfl) rfl
theorem q360 : (Jvm.Cond.laysStatic "java/lang/Throwable" "SUPPRESSED_SENTINEL" "Ljava/util/List;") ∈ lw_tbl := lw_at lw_m2 44 rfl
theorem q361 : (Jvm.Cond.methodLink "java/lang/Throwable" (27 : Nat) ({ cls := "java/lang/Throwable", name := "fillInStackTrace", desc := "()Ljava/lang/Throwable;" } : Jvm.MethodName)) ∈ lw_all := lw_g (lw_at lw_m2 45 rfl) rfl
theorem q362 : (Jvm.Cond.instanceMethod ({ cls := "java/lang/Throwable", name := "fillInStackTrace", desc := "()Ljava/lang/Throwable;" } : Jvm.MethodName)) ∈ lw_all := lw_g (lw_at lw_m2 46 rfl) rfl
theorem q363 : (Jvm.Cond.sameMethod "java/lang/Throwable" "java/lang/Throwable" "fillInStackTrace" "()Ljava/lang/Throwable;") ∈ lw_all := lw_g (lw_at lw_m2 47 rfl) rfl
theorem q364 : (Jvm.Cond.codeSync ({ cls := "java/lang/Throwable", name := "fillInStackTrace", desc := "()Ljava/lang/Throwable;" } : Jvm.MethodName) prog_30_method_18_code (1 : Nat) (Option.some (Jvm.ClassFile.FieldType.object "java/lang/Throwable"))) ∈ lw_all := lw_g (lw_at lw_m2 48 rfl) rfl
theorem q365 : (Jvm.Cond.methodLink "java/lang/Throwable" (202 : Nat) ({ cls := "java/lang/Throwable", name := "fillInStackTrace", desc := "(I)Ljava/lang/Throwable;" } : Jvm.MethodName)) ∈ lw_all := lw_g (lw_at lw_m2 49 rfl) rfl
theorem q366 : (Jvm.Cond.privateMethod ({ cls := "java/lang/Throwable", name := "fillInStackTrace", desc := "(I)Ljava/lang/Throwable;" } : Jvm.MethodName)) ∈ lw_tbl := lw_at lw_m2 50 rfl
theorem q367 : (Jvm.Cond.instanceMethod ({ cls := "java/lang/Throwable", name := "fillInStackTrace", desc := "(I)Ljava/lang/Throwable;" } : Jvm.MethodName)) ∈ lw_all := lw_g (lw_at lw_m2 51 rfl) rfl
theorem q368 : (Jvm.Cond.instantiable "java/lang/Throwable" (6 : Nat)) ∈ lw_all := lw_g (lw_at lw_m2 52 rfl) rfl
theorem q369 : (Jvm.Cond.native ({ cls := "java/lang/Throwable", name := "fillInStackTrace", desc := "(I)Ljava/lang/Throwable;" } : Jvm.MethodName)) ∈ lw_all := lw_g (lw_at lw_m2 53 rfl) rfl
theorem q384 : (Jvm.Cond.fieldLink "java/lang/Throwable" (198 : Nat) "java/lang/Throwable" "backtrace" "Ljava/lang/Object;") ∈ lw_all := lw_g (lw_at lw_m2 68 rfl) rfl
theorem q385 : (Jvm.Cond.fieldLink "java/lang/Throwable" (7 : Nat) "java/lang/Throwable" "cause" "Ljava/lang/Throwable;") ∈ lw_all := lw_g (lw_at lw_m2 69 rfl) rfl
theorem q386 : (Jvm.Cond.fieldLink "java/lang/Throwable" (17 : Nat) "java/lang/Throwable" "stackTrace" "[Ljava/lang/StackTraceElement;") ∈ lw_all := lw_g (lw_at lw_m2 70 rfl) rfl
theorem q387 : (Jvm.Cond.fieldLink "java/lang/Throwable" (24 : Nat) "java/lang/Throwable" "suppressedExceptions" "Ljava/util/List;") ∈ lw_all := lw_g (lw_at lw_m2 71 rfl) rfl
theorem q392 : (Jvm.Cond.soleField "java/lang/Throwable" "backtrace") ∈ lw_all := lw_g (lw_at lw_m2 76 rfl) rfl
theorem q393 : (Jvm.Cond.soleField "java/lang/Throwable" "detailMessage") ∈ lw_all := lw_g (lw_at lw_m2 77 rfl) rfl
theorem q394 : (Jvm.Cond.soleField "java/lang/Throwable" "cause") ∈ lw_all := lw_g (lw_at lw_m2 78 rfl) rfl
theorem q395 : (Jvm.Cond.soleField "java/lang/Throwable" "stackTrace") ∈ lw_all := lw_g (lw_at lw_m2 79 rfl) rfl
theorem q397 : (Jvm.Cond.soleField "java/lang/Throwable" "depth") ∈ lw_all := lw_g (lw_at lw_m2 81 rfl) rfl
theorem q398 : (Jvm.Cond.soleField "java/lang/Throwable" "suppressedExceptions") ∈ lw_all := lw_g (lw_at lw_m2 82 rfl) rfl
theorem q1425 : (Jvm.Cond.sameMethod "java/lang/Throwable" "java/lang/Throwable" "fillInStackTrace" "(I)Ljava/lang/Throwable;") ∈ lw_all := lw_g (lw_at lw_m6 149 rfl) rfl
theorem in_J4 : ∀ w ∈ wsJ40, w ∈ lw_all := lw_in wsJ40 [343, 345, 347, 349, 351] (by decide +kernel) (by decide +kernel)
def RJ5 : String := "java/lang/Exception"
abbrev cJ5_init : ByteArray := prog_20_method_1_code
def yJ5_init : MethodName := ⟨RJ5, "<init>", "()V"⟩
theorem q88 : (Jvm.Cond.initialized "java/lang/Exception") ∈ lw_all := lw_g (lw_at lw_m1 12 rfl) rfl
theorem q336 : (Jvm.Cond.declares ({ cls := "java/lang/Exception", name := "<init>", desc := "()V" } : Jvm.MethodName)) ∈ lw_tbl := lw_at lw_m2 20 rfl
theorem q337 : (Jvm.Cond.declares ({ cls := "java/lang/Exception", name := "<init>", desc := "(Ljava/lang/String;)V" } : Jvm.MethodName)) ∈ lw_tbl := lw_at lw_m2 21 rfl
theorem q377 : (Jvm.Cond.instanceMethod ({ cls := "java/lang/Exception", name := "<init>", desc := "()V" } : Jvm.MethodName)) ∈ lw_all := lw_g (lw_at lw_m2 61 rfl) rfl
theorem q378 : (Jvm.Cond.code ({ cls := "java/lang/Exception", name := "<init>", desc := "()V" } : Jvm.MethodName) prog_20_method_1_code (1 : Nat) (Option.none : Option Jvm.ClassFile.FieldType)) ∈ lw_all := lw_g (lw_at lw_m2 62 rfl) rfl
theorem q379 : (Jvm.Cond.methodLink "java/lang/Exception" (1 : Nat) ({ cls := "java/lang/Throwable", name := "<init>", desc := "()V" } : Jvm.MethodName)) ∈ lw_all := lw_g (lw_at lw_m2 63 rfl) rfl
def RJ6 : String := "java/lang/RuntimeException"
abbrev cJ6_init : ByteArray := prog_23_method_1_code
def yJ6_init : MethodName := ⟨RJ6, "<init>", "()V"⟩
theorem q89 : (Jvm.Cond.initialized "java/lang/RuntimeException") ∈ lw_all := lw_g (lw_at lw_m1 13 rfl) rfl
theorem q334 : (Jvm.Cond.declares ({ cls := "java/lang/RuntimeException", name := "<init>", desc := "()V" } : Jvm.MethodName)) ∈ lw_tbl := lw_at lw_m2 18 rfl
theorem q335 : (Jvm.Cond.declares ({ cls := "java/lang/RuntimeException", name := "<init>", desc := "(Ljava/lang/String;)V" } : Jvm.MethodName)) ∈ lw_tbl := lw_at lw_m2 19 rfl
theorem q374 : (Jvm.Cond.instanceMethod ({ cls := "java/lang/RuntimeException", name := "<init>", desc := "()V" } : Jvm.MethodName)) ∈ lw_all := lw_g (lw_at lw_m2 58 rfl) rfl
theorem q375 : (Jvm.Cond.code ({ cls := "java/lang/RuntimeException", name := "<init>", desc := "()V" } : Jvm.MethodName) prog_23_method_1_code (1 : Nat) (Option.none : Option Jvm.ClassFile.FieldType)) ∈ lw_all := lw_g (lw_at lw_m2 59 rfl) rfl
theorem q376 : (Jvm.Cond.methodLink "java/lang/RuntimeException" (1 : Nat) ({ cls := "java/lang/Exception", name := "<init>", desc := "()V" } : Jvm.MethodName)) ∈ lw_all := lw_g (lw_at lw_m2 60 rfl) rfl
def RJ7 : String := "jdk/internal/util/ArraysSupport"
abbrev cJ7_newLength : ByteArray := prog_33_method_27_code
def yJ7_newLength : MethodName := ⟨RJ7, "newLength", "(III)I"⟩
abbrev cJ7_hugeLength : ByteArray := prog_33_method_28_code
def yJ7_hugeLength : MethodName := ⟨RJ7, "hugeLength", "(II)I"⟩
abbrev cJ7_vectorizedHashCode : ByteArray := prog_33_method_4_code
def yJ7_vectorizedHashCode : MethodName := ⟨RJ7, "vectorizedHashCode", "(Ljava/lang/Object;IIII)I"⟩
abbrev cJ7_signedHashCode : ByteArray := prog_33_method_5_code
def yJ7_signedHashCode : MethodName := ⟨RJ7, "signedHashCode", "(I[BII)I"⟩
abbrev cJ7_utf16hashCode : ByteArray := prog_33_method_10_code
def yJ7_utf16hashCode : MethodName := ⟨RJ7, "utf16hashCode", "(I[BII)I"⟩
abbrev cJ7_hashCode : ByteArray := prog_33_method_7_code
def yJ7_hashCode : MethodName := ⟨RJ7, "hashCode", "(I[CII)I"⟩
abbrev cJ7_hashCode_2 : ByteArray := prog_33_method_6_code
def yJ7_hashCode_2 : MethodName := ⟨RJ7, "hashCode", "(I[BII)I"⟩
abbrev cJ7_hashCode_3 : ByteArray := prog_33_method_8_code
def yJ7_hashCode_3 : MethodName := ⟨RJ7, "hashCode", "(I[SII)I"⟩
abbrev cJ7_hashCode_4 : ByteArray := prog_33_method_9_code
def yJ7_hashCode_4 : MethodName := ⟨RJ7, "hashCode", "(I[III)I"⟩
theorem q91 : (Jvm.Cond.initialized "jdk/internal/util/ArraysSupport") ∈ lw_all := lw_g (lw_at lw_m1 15 rfl) rfl
theorem q442 : (Jvm.Cond.static ({ cls := "jdk/internal/util/ArraysSupport", name := "newLength", desc := "(III)I" } : Jvm.MethodName)) ∈ lw_all := lw_g (lw_at lw_m2 126 rfl) rfl
theorem q443 : (Jvm.Cond.code ({ cls := "jdk/internal/util/ArraysSupport", name := "newLength", desc := "(III)I" } : Jvm.MethodName) prog_33_method_27_code (4 : Nat) (Option.some Jvm.ClassFile.FieldType.int)) ∈ lw_all := lw_g (lw_at lw_m2 127 rfl) rfl
theorem q444 : (Jvm.Cond.methodLink "jdk/internal/util/ArraysSupport" (194 : Nat) ({ cls := "java/lang/Math", name := "max", desc := "(II)I" } : Jvm.MethodName)) ∈ lw_all := lw_g (lw_at lw_m2 128 rfl) rfl
theorem q447 : (Jvm.Cond.constant "jdk/internal/util/ArraysSupport" (200 : Nat) (2147483639 : Int32)) ∈ lw_all := lw_g (lw_at lw_m2 131 rfl) rfl
theorem q448 : (Jvm.Cond.methodLink "jdk/internal/util/ArraysSupport" (201 : Nat) ({ cls := "jdk/internal/util/ArraysSupport", name := "hugeLength", desc := "(II)I" } : Jvm.MethodName)) ∈ lw_all := lw_g (lw_at lw_m2 132 rfl) rfl
theorem q449 : (Jvm.Cond.static ({ cls := "jdk/internal/util/ArraysSupport", name := "hugeLength", desc := "(II)I" } : Jvm.MethodName)) ∈ lw_all := lw_g (lw_at lw_m2 133 rfl) rfl
theorem q450 : (Jvm.Cond.code ({ cls := "jdk/internal/util/ArraysSupport", name := "hugeLength", desc := "(II)I" } : Jvm.MethodName) prog_33_method_28_code (3 : Nat) (Option.some Jvm.ClassFile.FieldType.int)) ∈ lw_all := lw_g (lw_at lw_m2 134 rfl) rfl
theorem q936 : (Jvm.Cond.static ({ cls := "jdk/internal/util/ArraysSupport", name := "vectorizedHashCode", desc := "(Ljava/lang/Object;IIII)I" } : Jvm.MethodName)) ∈ lw_all := lw_g (lw_at lw_m4 140 rfl) rfl
theorem q937 : (Jvm.Cond.code ({ cls := "jdk/internal/util/ArraysSupport", name := "vectorizedHashCode", desc := "(Ljava/lang/Object;IIII)I" } : Jvm.MethodName) prog_33_method_4_code (5 : Nat) (Option.some Jvm.ClassFile.FieldType.int)) ∈ lw_all := lw_g (lw_at lw_m4 141 rfl) rfl
theorem q938 : (Jvm.Cond.classLink "jdk/internal/util/ArraysSupport" (60 : Nat) "[B") ∈ lw_all := lw_g (lw_at lw_m4 142 rfl) rfl
theorem q939 : (Jvm.Cond.methodLink "jdk/internal/util/ArraysSupport" (62 : Nat) ({ cls := "jdk/internal/util/ArraysSupport", name := "signedHashCode", desc := "(I[BII)I" } : Jvm.MethodName)) ∈ lw_all := lw_g (lw_at lw_m4 143 rfl) rfl
theorem q940 : (Jvm.Cond.static ({ cls := "jdk/internal/util/ArraysSupport", name := "signedHashCode", desc := "(I[BII)I" } : Jvm.MethodName)) ∈ lw_all := lw_g (lw_at lw_m4 144 rfl) rfl
theorem q941 : (Jvm.Cond.code ({ cls := "jdk/internal/util/ArraysSupport", name := "signedHashCode", desc := "(I[BII)I" } : Jvm.MethodName) prog_33_method_5_code (6 : Nat) (Option.some Jvm.ClassFile.FieldType.int)) ∈ lw_all := lw_g (lw_at lw_m4 145 rfl) rfl
theorem q942 : (Jvm.Cond.methodLink "jdk/internal/util/ArraysSupport" (66 : Nat) ({ cls := "jdk/internal/util/ArraysSupport", name := "utf16hashCode", desc := "(I[BII)I" } : Jvm.MethodName)) ∈ lw_all := lw_g (lw_at lw_m4 146 rfl) rfl
theorem q943 : (Jvm.Cond.static ({ cls := "jdk/internal/util/ArraysSupport", name := "utf16hashCode", desc := "(I[BII)I" } : Jvm.MethodName)) ∈ lw_all := lw_g (lw_at lw_m4 147 rfl) rfl
theorem q944 : (Jvm.Cond.code ({ cls := "jdk/internal/util/ArraysSupport", name := "utf16hashCode", desc := "(I[BII)I" } : Jvm.MethodName) prog_33_method_10_code (6 : Nat) (Option.some Jvm.ClassFile.FieldType.int)) ∈ lw_all := lw_g (lw_at lw_m4 148 rfl) rfl
theorem q945 : (Jvm.Cond.fieldLink "jdk/internal/util/ArraysSupport" (106 : Nat) "jdk/internal/util/ArraysSupport" "JLA" "Ljdk/internal/access/JavaLangAccess;") ∈ lw_all := lw_g (lw_at lw_m4 149 rfl) rfl
theorem q946 : (Jvm.Cond.laysStatic "jdk/internal/util/ArraysSupport" "JLA" "Ljdk/internal/access/JavaLangAccess;") ∈ lw_tbl := lw_at lw_m4 150 rfl
theorem q947 : (Jvm.Cond.interfaceEntry "jdk/internal/util/ArraysSupport" (110 : Nat)) ∈ lw_tbl := lw_at lw_m4 151 rfl
theorem q948 : (Jvm.Cond.methodLink "jdk/internal/util/ArraysSupport" (110 : Nat) ({ cls := "jdk/internal/access/JavaLangAccess", name := "getUTF16Char", desc := "([BI)C" } : Jvm.MethodName)) ∈ lw_all := lw_g (lw_at lw_m4 152 rfl) rfl
theorem q958 : (Jvm.Cond.classLink "jdk/internal/util/ArraysSupport" (69 : Nat) "[C") ∈ lw_all := lw_g (lw_at lw_m4 162 rfl) rfl
theorem q959 : (Jvm.Cond.methodLink "jdk/internal/util/ArraysSupport" (71 : Nat) ({ cls := "jdk/internal/util/ArraysSupport", name := "hashCode", desc := "(I[CII)I" } : Jvm.MethodName)) ∈ lw_all := lw_g (lw_at lw_m4 163 rfl) rfl
theorem q960 : (Jvm.Cond.static ({ cls := "jdk/internal/util/ArraysSupport", name := "hashCode", desc := "(I[CII)I" } : Jvm.MethodName)) ∈ lw_all := lw_g (lw_at lw_m4 164 rfl) rfl
theorem q961 : (Jvm.Cond.code ({ cls := "jdk/internal/util/ArraysSupport", name := "hashCode", desc := "(I[CII)I" } : Jvm.MethodName) prog_33_method_7_code (6 : Nat) (Option.some Jvm.ClassFile.FieldType.int)) ∈ lw_all := lw_g (lw_at lw_m4 165 rfl) rfl
theorem q962 : (Jvm.Cond.methodLink "jdk/internal/util/ArraysSupport" (75 : Nat) ({ cls := "jdk/internal/util/ArraysSupport", name := "hashCode", desc := "(I[BII)I" } : Jvm.MethodName)) ∈ lw_all := lw_g (lw_at lw_m4 166 rfl) rfl
theorem q963 : (Jvm.Cond.static ({ cls := "jdk/internal/util/ArraysSupport", name := "hashCode", desc := "(I[BII)I" } : Jvm.MethodName)) ∈ lw_all := lw_g (lw_at lw_m4 167 rfl) rfl
theorem q964 : (Jvm.Cond.code ({ cls := "jdk/internal/util/ArraysSupport", name := "hashCode", desc := "(I[BII)I" } : Jvm.MethodName) prog_33_method_6_code (6 : Nat) (Option.some Jvm.ClassFile.FieldType.int)) ∈ lw_all := lw_g (lw_at lw_m4 168 rfl) rfl
theorem q965 : (Jvm.Cond.classLink "jdk/internal/util/ArraysSupport" (77 : Nat) "[S") ∈ lw_all := lw_g (lw_at lw_m4 169 rfl) rfl
theorem q966 : (Jvm.Cond.methodLink "jdk/internal/util/ArraysSupport" (79 : Nat) ({ cls := "jdk/internal/util/ArraysSupport", name := "hashCode", desc := "(I[SII)I" } : Jvm.MethodName)) ∈ lw_all := lw_g (lw_at lw_m4 170 rfl) rfl
theorem q967 : (Jvm.Cond.static ({ cls := "jdk/internal/util/ArraysSupport", name := "hashCode", desc := "(I[SII)I" } : Jvm.MethodName)) ∈ lw_all := lw_g (lw_at lw_m4 171 rfl) rfl
theorem q968 : (Jvm.Cond.code ({ cls := "jdk/internal/util/ArraysSupport", name := "hashCode", desc := "(I[SII)I" } : Jvm.MethodName) prog_33_method_8_code (6 : Nat) (Option.some Jvm.ClassFile.FieldType.int)) ∈ lw_all := lw_g (lw_at lw_m4 172 rfl) rfl
theorem q969 : (Jvm.Cond.classLink "jdk/internal/util/ArraysSupport" (82 : Nat) "[I") ∈ lw_all := lw_g (lw_at lw_m4 173 rfl) rfl
theorem q970 : (Jvm.Cond.methodLink "jdk/internal/util/ArraysSupport" (84 : Nat) ({ cls := "jdk/internal/util/ArraysSupport", name := "hashCode", desc := "(I[III)I" } : Jvm.MethodName)) ∈ lw_all := lw_g (lw_at lw_m4 174 rfl) rfl
theorem q971 : (Jvm.Cond.static ({ cls := "jdk/internal/util/ArraysSupport", name := "hashCode", desc := "(I[III)I" } : Jvm.MethodName)) ∈ lw_all := lw_g (lw_at lw_m4 175 rfl) rfl
theorem q972 : (Jvm.Cond.code ({ cls := "jdk/internal/util/ArraysSupport", name := "hashCode", desc := "(I[III)I" } : Jvm.MethodName) prog_33_method_9_code (6 : Nat) (Option.some Jvm.ClassFile.FieldType.int)) ∈ lw_all := lw_g (lw_at lw_m4 176 rfl) rfl
def RJ8 : String := "java/lang/Math"
abbrev cJ8_max : ByteArray := prog_22_method_65_code
def yJ8_max : MethodName := ⟨RJ8, "max", "(II)I"⟩
abbrev cJ8_min : ByteArray := prog_22_method_69_code
def yJ8_min : MethodName := ⟨RJ8, "min", "(II)I"⟩
theorem q92 : (Jvm.Cond.initialized "java/lang/Math") ∈ lw_all := lw_g (lw_at lw_m1 16 rfl) rfl
theorem q445 : (Jvm.Cond.static ({ cls := "java/lang/Math", name := "max", desc := "(II)I" } : Jvm.MethodName)) ∈ lw_all := lw_g (lw_at lw_m2 129 rfl) rfl
theorem q446 : (Jvm.Cond.code ({ cls := "java/lang/Math", name := "max", desc := "(II)I" } : Jvm.MethodName) prog_22_method_65_code (2 : Nat) (Option.some Jvm.ClassFile.FieldType.int)) ∈ lw_all := lw_g (lw_at lw_m2 130 rfl) rfl
theorem q463 : (Jvm.Cond.static ({ cls := "java/lang/Math", name := "min", desc := "(II)I" } : Jvm.MethodName)) ∈ lw_all := lw_g (lw_at lw_m2 147 rfl) rfl
theorem q464 : (Jvm.Cond.code ({ cls := "java/lang/Math", name := "min", desc := "(II)I" } : Jvm.MethodName) prog_22_method_69_code (2 : Nat) (Option.some Jvm.ClassFile.FieldType.int)) ∈ lw_all := lw_g (lw_at lw_m2 148 rfl) rfl
def RJ9 : String := "java/util/Arrays"
abbrev cJ9_copyOf : ByteArray := prog_31_method_121_code
def yJ9_copyOf : MethodName := ⟨RJ9, "copyOf", "([BI)[B"⟩
abbrev cJ9_fill : ByteArray := prog_31_method_110_code
def yJ9_fill : MethodName := ⟨RJ9, "fill", "([BIIB)V"⟩
abbrev cJ9_rangeCheck : ByteArray := prog_31_method_30_code
def yJ9_rangeCheck : MethodName := ⟨RJ9, "rangeCheck", "(III)V"⟩
abbrev cJ9_copyOfRange : ByteArray := prog_31_method_132_code
def yJ9_copyOfRange : MethodName := ⟨RJ9, "copyOfRange", "([BII)[B"⟩
abbrev cJ9_copyOfRangeByte : ByteArray := prog_31_method_133_code
def yJ9_copyOfRangeByte : MethodName := ⟨RJ9, "copyOfRangeByte", "([BII)[B"⟩
abbrev cJ9_checkLength : ByteArray := prog_31_method_131_code
def yJ9_checkLength : MethodName := ⟨RJ9, "checkLength", "(II)V"⟩
theorem q93 : (Jvm.Cond.initialized "java/util/Arrays") ∈ lw_all := lw_g (lw_at lw_m1 17 rfl) rfl
theorem q453 : (Jvm.Cond.static ({ cls := "java/util/Arrays", name := "copyOf", desc := "([BI)[B" } : Jvm.MethodName)) ∈ lw_all := lw_g (lw_at lw_m2 137 rfl) rfl
theorem q454 : (Jvm.Cond.code ({ cls := "java/util/Arrays", name := "copyOf", desc := "([BI)[B" } : Jvm.MethodName) prog_31_method_121_code (3 : Nat) (Option.some (Jvm.ClassFile.FieldType.array Jvm.ClassFile.FieldType.byte))) ∈ lw_all := lw_g (lw_at lw_m2 138 rfl) rfl
theorem q455 : (Jvm.Cond.methodLink "java/util/Arrays" (310 : Nat) ({ cls := "[B", name := "clone", desc := "()Ljava/lang/Object;" } : Jvm.MethodName)) ∈ lw_all := lw_g (lw_at lw_m2 139 rfl) rfl
theorem q461 : (Jvm.Cond.classLink "java/util/Arrays" (311 : Nat) "[B") ∈ lw_all := lw_g (lw_at lw_m2 145 rfl) rfl
theorem q462 : (Jvm.Cond.methodLink "java/util/Arrays" (304 : Nat) ({ cls := "java/lang/Math", name := "min", desc := "(II)I" } : Jvm.MethodName)) ∈ lw_all := lw_g (lw_at lw_m2 146 rfl) rfl
theorem q465 : (Jvm.Cond.methodLink "java/util/Arrays" (150 : Nat) ({ cls := "java/lang/System", name := "arraycopy", desc := "(Ljava/lang/Object;ILjava/lang/Object;II)V" } : Jvm.MethodName)) ∈ lw_all := lw_g (lw_at lw_m2 149 rfl) rfl
theorem q477 : (Jvm.Cond.static ({ cls := "java/util/Arrays", name := "fill", desc := "([BIIB)V" } : Jvm.MethodName)) ∈ lw_all := lw_g (lw_at lw_m2 161 rfl) rfl
theorem q478 : (Jvm.Cond.code ({ cls := "java/util/Arrays", name := "fill", desc := "([BIIB)V" } : Jvm.MethodName) prog_31_method_110_code (5 : Nat) (Option.none : Option Jvm.ClassFile.FieldType)) ∈ lw_all := lw_g (lw_at lw_m2 162 rfl) rfl
theorem q479 : (Jvm.Cond.methodLink "java/util/Arrays" (13 : Nat) ({ cls := "java/util/Arrays", name := "rangeCheck", desc := "(III)V" } : Jvm.MethodName)) ∈ lw_all := lw_g (lw_at lw_m2 163 rfl) rfl
theorem q480 : (Jvm.Cond.static ({ cls := "java/util/Arrays", name := "rangeCheck", desc := "(III)V" } : Jvm.MethodName)) ∈ lw_all := lw_g (lw_at lw_m2 164 rfl) rfl
theorem q481 : (Jvm.Cond.code ({ cls := "java/util/Arrays", name := "rangeCheck", desc := "(III)V" } : Jvm.MethodName) prog_31_method_30_code (3 : Nat) (Option.none : Option Jvm.ClassFile.FieldType)) ∈ lw_all := lw_g (lw_at lw_m2 165 rfl) rfl
theorem q571 : (Jvm.Cond.static ({ cls := "java/util/Arrays", name := "copyOfRange", desc := "([BII)[B" } : Jvm.MethodName)) ∈ lw_all := lw_g (lw_at lw_m3 15 rfl) rfl
theorem q572 : (Jvm.Cond.code ({ cls := "java/util/Arrays", name := "copyOfRange", desc := "([BII)[B" } : Jvm.MethodName) prog_31_method_132_code (3 : Nat) (Option.some (Jvm.ClassFile.FieldType.array Jvm.ClassFile.FieldType.byte))) ∈ lw_all := lw_g (lw_at lw_m3 16 rfl) rfl
theorem q573 : (Jvm.Cond.methodLink "java/util/Arrays" (339 : Nat) ({ cls := "java/util/Arrays", name := "copyOfRangeByte", desc := "([BII)[B" } : Jvm.MethodName)) ∈ lw_all := lw_g (lw_at lw_m3 17 rfl) rfl
theorem q574 : (Jvm.Cond.static ({ cls := "java/util/Arrays", name := "copyOfRangeByte", desc := "([BII)[B" } : Jvm.MethodName)) ∈ lw_all := lw_g (lw_at lw_m3 18 rfl) rfl
theorem q575 : (Jvm.Cond.code ({ cls := "java/util/Arrays", name := "copyOfRangeByte", desc := "([BII)[B" } : Jvm.MethodName) prog_31_method_133_code (5 : Nat) (Option.some (Jvm.ClassFile.FieldType.array Jvm.ClassFile.FieldType.byte))) ∈ lw_all := lw_g (lw_at lw_m3 19 rfl) rfl
theorem q576 : (Jvm.Cond.methodLink "java/util/Arrays" (343 : Nat) ({ cls := "java/util/Arrays", name := "checkLength", desc := "(II)V" } : Jvm.MethodName)) ∈ lw_all := lw_g (lw_at lw_m3 20 rfl) rfl
theorem q577 : (Jvm.Cond.static ({ cls := "java/util/Arrays", name := "checkLength", desc := "(II)V" } : Jvm.MethodName)) ∈ lw_all := lw_g (lw_at lw_m3 21 rfl) rfl
theorem q578 : (Jvm.Cond.code ({ cls := "java/util/Arrays", name := "checkLength", desc := "(II)V" } : Jvm.MethodName) prog_31_method_131_code (2 : Nat) (Option.none : Option Jvm.ClassFile.FieldType)) ∈ lw_all := lw_g (lw_at lw_m3 22 rfl) rfl
abbrev cL_law : ByteArray := code
def RX0 : String := "ClassFileReader"
def TX0 : u_T := fun k => match k with
  | 0 => ("ClassFileReader", "bytes", "[I", true)
  | 1 => ("ClassFileReader", "size", "I", false)
  | 2 => ("ClassFileReader", "at", "I", false)
  | 3 => ("ClassFileReader", "pool", "[LClassFileReader$Entry;", true)
  | 4 => ("ClassFileReader", "poolCount", "I", false)
  | 5 => ("ClassFileReader", "builder", "Ljava/lang/StringBuilder;", true)
  | 6 => ("ClassFileReader", "mirror", "LClassFileReader$Mirror;", false)
  | 7 => ("ClassFileReader", "fresh", "LClassFileReader$Mirror;", false)
  | _ => ("ClassFileReader", "place", "I", false)
def tyX0 : Nat → FieldType := fun k => match k with
  | 0 => .array .int
  | 1 => .int
  | 2 => .int
  | 3 => .array (.object "ClassFileReader$Entry")
  | 4 => .int
  | 5 => .object "java/lang/StringBuilder"
  | 6 => .object "ClassFileReader$Mirror"
  | 7 => .object "ClassFileReader$Mirror"
  | _ => .int
abbrev wsX00 : List Cond := u_ws RX0 TX0 9
theorem nmX0 : ∀ a, a < 9 → ∀ b, b < 9 → a ≠ b → (TX0 a).2.1 ≠ (TX0 b).2.1 := by decide +kernel
theorem tyX0_ok : ∀ k, k < 9 → parseFieldDescriptor (TX0 k).2.2.1 = some (tyX0 k) := by decide +kernel
abbrev cX0_init : ByteArray := prog_1_method_1_code
def yX0_init : MethodName := ⟨RX0, "<init>", "()V"⟩
abbrev cX0_put : ByteArray := prog_1_method_2_code
def yX0_put : MethodName := ⟨RX0, "put", "(JI)I"⟩
abbrev cX0_patch : ByteArray := prog_1_method_3_code
def yX0_patch : MethodName := ⟨RX0, "patch", "(II)I"⟩
abbrev cX0_drop : ByteArray := prog_1_method_4_code
def yX0_drop : MethodName := ⟨RX0, "drop", "()I"⟩
abbrev cX0_read : ByteArray := prog_1_method_41_code
def yX0_read : MethodName := ⟨RX0, "read", "()I"⟩
abbrev cX0_file : ByteArray := prog_1_method_40_code
def yX0_file : MethodName := ⟨RX0, "file", "()V"⟩
abbrev cX0_u4 : ByteArray := prog_1_method_15_code
def yX0_u4 : MethodName := ⟨RX0, "u4", "()J"⟩
abbrev cX0_left : ByteArray := prog_1_method_13_code
def yX0_left : MethodName := ⟨RX0, "left", "(J)V"⟩
abbrev cX0_u2 : ByteArray := prog_1_method_14_code
def yX0_u2 : MethodName := ⟨RX0, "u2", "()I"⟩
abbrev cX0_u1 : ByteArray := prog_1_method_12_code
def yX0_u1 : MethodName := ⟨RX0, "u1", "()I"⟩
abbrev cX0_must : ByteArray := prog_1_method_25_code
def yX0_must : MethodName := ⟨RX0, "must", "(ZII)V"⟩
abbrev cX0_readPool : ByteArray := prog_1_method_24_code
def yX0_readPool : MethodName := ⟨RX0, "readPool", "()V"⟩
abbrev cX0_readEntry : ByteArray := prog_1_method_23_code
def yX0_readEntry : MethodName := ⟨RX0, "readEntry", "(I)LClassFileReader$Entry;"⟩
abbrev cX0_textEntry : ByteArray := prog_1_method_22_code
def yX0_textEntry : MethodName := ⟨RX0, "textEntry", "(I)LClassFileReader$Entry;"⟩
abbrev cX0_textAt : ByteArray := prog_1_method_17_code
def yX0_textAt : MethodName := ⟨RX0, "textAt", "(II)Ljava/lang/String;"⟩
abbrev cX0_entry : ByteArray := prog_1_method_16_code
def yX0_entry : MethodName := ⟨RX0, "entry", "(I)LClassFileReader$Entry;"⟩
abbrev cX0_className : ByteArray := prog_1_method_6_code
def yX0_className : MethodName := ⟨RX0, "className", "(Ljava/lang/String;II)Z"⟩
abbrev cX0_plain : ByteArray := prog_1_method_5_code
def yX0_plain : MethodName := ⟨RX0, "plain", "(C)Z"⟩
abbrev cX0_arrayName : ByteArray := prog_1_method_10_code
def yX0_arrayName : MethodName := ⟨RX0, "arrayName", "(Ljava/lang/String;)Z"⟩
abbrev cX0_fieldType : ByteArray := prog_1_method_9_code
def yX0_fieldType : MethodName := ⟨RX0, "fieldType", "(Ljava/lang/String;)Z"⟩
abbrev cX0_typeEnd : ByteArray := prog_1_method_8_code
def yX0_typeEnd : MethodName := ⟨RX0, "typeEnd", "(Ljava/lang/String;I)I"⟩
abbrev cX0_classAt : ByteArray := prog_1_method_18_code
def yX0_classAt : MethodName := ⟨RX0, "classAt", "(II)LClassFileReader$Named;"⟩
abbrev cX0_memberName : ByteArray := prog_1_method_7_code
def yX0_memberName : MethodName := ⟨RX0, "memberName", "(Ljava/lang/String;)Z"⟩
abbrev cX0_methodType : ByteArray := prog_1_method_11_code
def yX0_methodType : MethodName := ⟨RX0, "methodType", "(Ljava/lang/String;)Z"⟩
abbrev cX0_fileFlags : ByteArray := prog_1_method_34_code
def yX0_fileFlags : MethodName := ⟨RX0, "fileFlags", "(I)Z"⟩
abbrev cX0_has : ByteArray := prog_1_method_33_code
def yX0_has : MethodName := ⟨RX0, "has", "(II)Z"⟩
abbrev cX0_plainClass : ByteArray := prog_1_method_21_code
def yX0_plainClass : MethodName := ⟨RX0, "plainClass", "(Z)Ljava/lang/String;"⟩
abbrev cX0_interfaces : ByteArray := prog_1_method_39_code
def yX0_interfaces : MethodName := ⟨RX0, "interfaces", "()V"⟩
abbrev cX0_members : ByteArray := prog_1_method_38_code
def yX0_members : MethodName := ⟨RX0, "members", "(Z)V"⟩
abbrev cX0_member : ByteArray := prog_1_method_37_code
def yX0_member : MethodName := ⟨RX0, "member", "(Z)V"⟩
abbrev cX0_methodFlags : ByteArray := prog_1_method_36_code
def yX0_methodFlags : MethodName := ⟨RX0, "methodFlags", "(ILjava/lang/String;Z)Z"⟩
abbrev cX0_fieldFlags : ByteArray := prog_1_method_35_code
def yX0_fieldFlags : MethodName := ⟨RX0, "fieldFlags", "(IZ)Z"⟩
abbrev cX0_table : ByteArray := prog_1_method_26_code
def yX0_table : MethodName := ⟨RX0, "table", "(LClassFileReader$Holder;)V"⟩
abbrev cX0_textItem : ByteArray := prog_1_method_19_code
def yX0_textItem : MethodName := ⟨RX0, "textItem", "()Ljava/lang/String;"⟩
abbrev cX0_content : ByteArray := prog_1_method_27_code
def yX0_content : MethodName := ⟨RX0, "content", "(LClassFileReader$Holder;IIJ)V"⟩
abbrev cX0_constantItem : ByteArray := prog_1_method_28_code
def yX0_constantItem : MethodName := ⟨RX0, "constantItem", "(LClassFileReader$Field;)V"⟩
abbrev cX0_classes : ByteArray := prog_1_method_30_code
def yX0_classes : MethodName := ⟨RX0, "classes", "(LClassFileReader$Links;IJ)V"⟩
abbrev cX0_elements : ByteArray := prog_1_method_29_code
def yX0_elements : MethodName := ⟨RX0, "elements", "(IJI)I"⟩
abbrev cX0_classItem : ByteArray := prog_1_method_20_code
def yX0_classItem : MethodName := ⟨RX0, "classItem", "()Ljava/lang/String;"⟩
abbrev cX0_innerClasses : ByteArray := prog_1_method_31_code
def yX0_innerClasses : MethodName := ⟨RX0, "innerClasses", "(LClassFileReader$Mirror;IJ)V"⟩
abbrev cX0_record : ByteArray := prog_1_method_32_code
def yX0_record : MethodName := ⟨RX0, "record", "(LClassFileReader$Mirror;IJ)V"⟩
abbrev cX0_place : ByteArray := prog_1_method_42_code
def yX0_place : MethodName := ⟨RX0, "place", "()I"⟩
abbrev cX0_number : ByteArray := prog_1_method_43_code
def yX0_number : MethodName := ⟨RX0, "number", "(I)I"⟩
abbrev cX0_flags : ByteArray := prog_1_method_44_code
def yX0_flags : MethodName := ⟨RX0, "flags", "(II)I"⟩
abbrev cX0_text : ByteArray := prog_1_method_48_code
def yX0_text : MethodName := ⟨RX0, "text", "(III)I"⟩
abbrev cX0_find : ByteArray := prog_1_method_46_code
def yX0_find : MethodName := ⟨RX0, "find", "(II)Ljava/lang/String;"⟩
abbrev cX0_of : ByteArray := prog_1_method_45_code
def yX0_of : MethodName := ⟨RX0, "of", "(LClassFileReader$Member;I)Ljava/lang/String;"⟩
abbrev cX0_character : ByteArray := prog_1_method_47_code
def yX0_character : MethodName := ⟨RX0, "character", "(Ljava/lang/String;I)I"⟩
abbrev cX0_exceptions : ByteArray := prog_1_method_50_code
def yX0_exceptions : MethodName := ⟨RX0, "exceptions", "(I)I"⟩
abbrev cX0_method : ByteArray := prog_1_method_49_code
def yX0_method : MethodName := ⟨RX0, "method", "(I)LClassFileReader$Method;"⟩
abbrev cX0_exception : ByteArray := prog_1_method_51_code
def yX0_exception : MethodName := ⟨RX0, "exception", "(III)I"⟩
abbrev cX0_constant : ByteArray := prog_1_method_52_code
def yX0_constant : MethodName := ⟨RX0, "constant", "(I)J"⟩
abbrev cX0_deprecated : ByteArray := prog_1_method_53_code
def yX0_deprecated : MethodName := ⟨RX0, "deprecated", "(II)I"⟩
theorem q77 : (Jvm.Cond.initialized "ClassFileReader") ∈ lw_all := lw_g (lw_at lw_m1 1 rfl) rfl
theorem q108 : (Jvm.Cond.instantiable "ClassFileReader" (9 : Nat)) ∈ lw_all := lw_g (lw_at lw_m1 32 rfl) rfl
theorem q110 : (Jvm.Cond.instanceMethod ({ cls := "ClassFileReader", name := "<init>", desc := "()V" } : Jvm.MethodName)) ∈ lw_all := lw_g (lw_at lw_m1 34 rfl) rfl
theorem q111 : (Jvm.Cond.code ({ cls := "ClassFileReader", name := "<init>", desc := "()V" } : Jvm.MethodName) prog_1_method_1_code (1 : Nat) (Option.none : Option Jvm.ClassFile.FieldType)) ∈ lw_all := lw_g (lw_at lw_m1 35 rfl) rfl
theorem q112 : (Jvm.Cond.methodLink "ClassFileReader" (1 : Nat) ({ cls := "java/lang/Object", name := "<init>", desc := "()V" } : Jvm.MethodName)) ∈ lw_all := lw_g (lw_at lw_m1 36 rfl) rfl
theorem q115 : (Jvm.Cond.classLink "ClassFileReader" (13 : Nat) "ClassFileReader$Entry") ∈ lw_all := lw_g (lw_at lw_m1 39 rfl) rfl
theorem q117 : (Jvm.Cond.classLink "ClassFileReader" (19 : Nat) "java/lang/StringBuilder") ∈ lw_all := lw_g (lw_at lw_m1 41 rfl) rfl
theorem q119 : (Jvm.Cond.methodLink "ClassFileReader" (21 : Nat) ({ cls := "java/lang/StringBuilder", name := "<init>", desc := "(I)V" } : Jvm.MethodName)) ∈ lw_all := lw_g (lw_at lw_m1 43 rfl) rfl
theorem q151 : (Jvm.Cond.fieldLink "ClassFileReader" (7 : Nat) "ClassFileReader" "bytes" "[I") ∈ lw_all := lw_g (lw_at lw_m1 75 rfl) rfl
theorem q152 : (Jvm.Cond.fieldLink "ClassFileReader" (32 : Nat) "ClassFileReader" "size" "I") ∈ lw_all := lw_g (lw_at lw_m1 76 rfl) rfl
theorem q153 : (Jvm.Cond.fieldLink "ClassFileReader" (65 : Nat) "ClassFileReader" "at" "I") ∈ lw_all := lw_g (lw_at lw_m1 77 rfl) rfl
theorem q154 : (Jvm.Cond.fieldLink "ClassFileReader" (15 : Nat) "ClassFileReader" "pool" "[LClassFileReader$Entry;") ∈ lw_all := lw_g (lw_at lw_m1 78 rfl) rfl
theorem q155 : (Jvm.Cond.fieldLink "ClassFileReader" (87 : Nat) "ClassFileReader" "poolCount" "I") ∈ lw_all := lw_g (lw_at lw_m1 79 rfl) rfl
theorem q156 : (Jvm.Cond.fieldLink "ClassFileReader" (24 : Nat) "ClassFileReader" "builder" "Ljava/lang/StringBuilder;") ∈ lw_all := lw_g (lw_at lw_m1 80 rfl) rfl
theorem q157 : (Jvm.Cond.fieldLink "ClassFileReader" (396 : Nat) "ClassFileReader" "mirror" "LClassFileReader$Mirror;") ∈ lw_all := lw_g (lw_at lw_m1 81 rfl) rfl
theorem q158 : (Jvm.Cond.fieldLink "ClassFileReader" (322 : Nat) "ClassFileReader" "fresh" "LClassFileReader$Mirror;") ∈ lw_all := lw_g (lw_at lw_m1 82 rfl) rfl
theorem q159 : (Jvm.Cond.fieldLink "ClassFileReader" (28 : Nat) "ClassFileReader" "place" "I") ∈ lw_all := lw_g (lw_at lw_m1 83 rfl) rfl
theorem q160 : (Jvm.Cond.laysFinal "ClassFileReader" "ClassFileReader" "bytes" "[I") ∈ lw_all := lw_g (lw_at lw_m1 84 rfl) rfl
theorem q161 : (Jvm.Cond.soleField "ClassFileReader" "bytes") ∈ lw_all := lw_g (lw_at lw_m1 85 rfl) rfl
theorem q162 : (Jvm.Cond.lays "ClassFileReader" "ClassFileReader" "size" "I") ∈ lw_all := lw_g (lw_at lw_m1 86 rfl) rfl
theorem q163 : (Jvm.Cond.soleField "ClassFileReader" "size") ∈ lw_all := lw_g (lw_at lw_m1 87 rfl) rfl
theorem q164 : (Jvm.Cond.lays "ClassFileReader" "ClassFileReader" "at" "I") ∈ lw_all := lw_g (lw_at lw_m1 88 rfl) rfl
theorem q165 : (Jvm.Cond.soleField "ClassFileReader" "at") ∈ lw_all := lw_g (lw_at lw_m1 89 rfl) rfl
theorem q166 : (Jvm.Cond.laysFinal "ClassFileReader" "ClassFileReader" "pool" "[LClassFileReader$Entry;") ∈ lw_all := lw_g (lw_at lw_m1 90 rfl) rfl
theorem q167 : (Jvm.Cond.soleField "ClassFileReader" "pool") ∈ lw_all := lw_g (lw_at lw_m1 91 rfl) rfl
theorem q168 : (Jvm.Cond.lays "ClassFileReader" "ClassFileReader" "poolCount" "I") ∈ lw_all := lw_g (lw_at lw_m1 92 rfl) rfl
theorem q169 : (Jvm.Cond.soleField "ClassFileReader" "poolCount") ∈ lw_all := lw_g (lw_at lw_m1 93 rfl) rfl
theorem q170 : (Jvm.Cond.laysFinal "ClassFileReader" "ClassFileReader" "builder" "Ljava/lang/StringBuilder;") ∈ lw_all := lw_g (lw_at lw_m1 94 rfl) rfl
theorem q171 : (Jvm.Cond.soleField "ClassFileReader" "builder") ∈ lw_all := lw_g (lw_at lw_m1 95 rfl) rfl
theorem q172 : (Jvm.Cond.lays "ClassFileReader" "ClassFileReader" "mirror" "LClassFileReader$Mirror;") ∈ lw_all := lw_g (lw_at lw_m1 96 rfl) rfl
theorem q173 : (Jvm.Cond.soleField "ClassFileReader" "mirror") ∈ lw_all := lw_g (lw_at lw_m1 97 rfl) rfl
theorem q174 : (Jvm.Cond.lays "ClassFileReader" "ClassFileReader" "fresh" "LClassFileReader$Mirror;") ∈ lw_all := lw_g (lw_at lw_m1 98 rfl) rfl
theorem q175 : (Jvm.Cond.soleField "ClassFileReader" "fresh") ∈ lw_all := lw_g (lw_at lw_m1 99 rfl) rfl
theorem q176 : (Jvm.Cond.lays "ClassFileReader" "ClassFileReader" "place" "I") ∈ lw_all := lw_g (lw_at lw_m1 100 rfl) rfl
theorem q177 : (Jvm.Cond.soleField "ClassFileReader" "place") ∈ lw_all := lw_g (lw_at lw_m1 101 rfl) rfl
theorem q178 : (Jvm.Cond.superclass "ClassFileReader" "java/lang/Object") ∈ lw_all := lw_g (lw_at lw_m1 102 rfl) rfl
theorem q180 : (Jvm.Cond.instanceMethod ({ cls := "ClassFileReader", name := "put", desc := "(JI)I" } : Jvm.MethodName)) ∈ lw_all := lw_g (lw_at lw_m1 104 rfl) rfl
theorem q181 : (Jvm.Cond.selects "ClassFileReader" ({ cls := "ClassFileReader", name := "put", desc := "(JI)I" } : Jvm.MethodName) ({ cls := "ClassFileReader", name := "put", desc := "(JI)I" } : Jvm.MethodName)) ∈ lw_all := lw_g (lw_at lw_m1 105 rfl) rfl
theorem q182 : (Jvm.Cond.code ({ cls := "ClassFileReader", name := "put", desc := "(JI)I" } : Jvm.MethodName) prog_1_method_2_code (5 : Nat) (Option.some Jvm.ClassFile.FieldType.int)) ∈ lw_all := lw_g (lw_at lw_m1 106 rfl) rfl
theorem q184 : (Jvm.Cond.instanceMethod ({ cls := "ClassFileReader", name := "patch", desc := "(II)I" } : Jvm.MethodName)) ∈ lw_all := lw_g (lw_at lw_m1 108 rfl) rfl
theorem q185 : (Jvm.Cond.selects "ClassFileReader" ({ cls := "ClassFileReader", name := "patch", desc := "(II)I" } : Jvm.MethodName) ({ cls := "ClassFileReader", name := "patch", desc := "(II)I" } : Jvm.MethodName)) ∈ lw_all := lw_g (lw_at lw_m1 109 rfl) rfl
theorem q186 : (Jvm.Cond.code ({ cls := "ClassFileReader", name := "patch", desc := "(II)I" } : Jvm.MethodName) prog_1_method_3_code (4 : Nat) (Option.some Jvm.ClassFile.FieldType.int)) ∈ lw_all := lw_g (lw_at lw_m1 110 rfl) rfl
theorem q188 : (Jvm.Cond.instanceMethod ({ cls := "ClassFileReader", name := "drop", desc := "()I" } : Jvm.MethodName)) ∈ lw_all := lw_g (lw_at lw_m1 112 rfl) rfl
theorem q189 : (Jvm.Cond.selects "ClassFileReader" ({ cls := "ClassFileReader", name := "drop", desc := "()I" } : Jvm.MethodName) ({ cls := "ClassFileReader", name := "drop", desc := "()I" } : Jvm.MethodName)) ∈ lw_all := lw_g (lw_at lw_m1 113 rfl) rfl
theorem q190 : (Jvm.Cond.code ({ cls := "ClassFileReader", name := "drop", desc := "()I" } : Jvm.MethodName) prog_1_method_4_code (2 : Nat) (Option.some Jvm.ClassFile.FieldType.int)) ∈ lw_all := lw_g (lw_at lw_m1 114 rfl) rfl
theorem q192 : (Jvm.Cond.instanceMethod ({ cls := "ClassFileReader", name := "read", desc := "()I" } : Jvm.MethodName)) ∈ lw_all := lw_g (lw_at lw_m1 116 rfl) rfl
theorem q193 : (Jvm.Cond.selects "ClassFileReader" ({ cls := "ClassFileReader", name := "read", desc := "()I" } : Jvm.MethodName) ({ cls := "ClassFileReader", name := "read", desc := "()I" } : Jvm.MethodName)) ∈ lw_all := lw_g (lw_at lw_m1 117 rfl) rfl
theorem q194 : (Jvm.Cond.codeWith ({ cls := "ClassFileReader", name := "read", desc := "()I" } : Jvm.MethodName) prog_1_method_41_code (4 : Nat) (Option.some Jvm.ClassFile.FieldType.int) [((21 : Nat), (35 : Nat), (47 : Nat), (68 : Nat)), ((21 : Nat), (35 : Nat), (73 : Nat), (0 : Nat)), ((47 : Nat), (61 : Nat), (73 : Nat), (0 : Nat))]) ∈ lw_all := lw_g (lw_at lw_m1 118 rfl) rfl
theorem q195 : (Jvm.Cond.classLink "ClassFileReader" (68 : Nat) "ClassFileReader$Malformed") ∈ lw_all := lw_g (lw_at lw_m1 119 rfl) rfl
theorem q196 : (Jvm.Cond.classLink "ClassFileReader" (202 : Nat) "ClassFileReader$Mirror") ∈ lw_all := lw_g (lw_at lw_m1 120 rfl) rfl
theorem q198 : (Jvm.Cond.methodLinkNest "ClassFileReader" (392 : Nat) ({ cls := "ClassFileReader$Mirror", name := "<init>", desc := "()V" } : Jvm.MethodName) "ClassFileReader") ∈ lw_tbl := lw_at lw_m1 122 rfl
theorem q212 : (Jvm.Cond.fieldLinkNest "ClassFileReader" (360 : Nat) "ClassFileReader$Links" "first" "LClassFileReader$Link;" "ClassFileReader") ∈ lw_tbl := lw_at lw_m1 136 rfl
theorem q215 : (Jvm.Cond.fieldLinkNest "ClassFileReader" (403 : Nat) "ClassFileReader$Links" "count" "I" "ClassFileReader") ∈ lw_tbl := lw_at lw_m1 139 rfl
theorem q232 : (Jvm.Cond.fieldLinkNest "ClassFileReader" (406 : Nat) "ClassFileReader$Members" "count" "I" "ClassFileReader") ∈ lw_tbl := lw_at lw_m1 156 rfl
theorem q240 : (Jvm.Cond.fieldLinkNest "ClassFileReader" (372 : Nat) "ClassFileReader$Mirror" "major" "I" "ClassFileReader") ∈ lw_tbl := lw_at lw_m1 164 rfl
theorem q241 : (Jvm.Cond.fieldLinkNest "ClassFileReader" (326 : Nat) "ClassFileReader$Mirror" "flags" "I" "ClassFileReader") ∈ lw_tbl := lw_at lw_m1 165 rfl
theorem q242 : (Jvm.Cond.fieldLinkNest "ClassFileReader" (378 : Nat) "ClassFileReader$Mirror" "pool" "I" "ClassFileReader") ∈ lw_tbl := lw_at lw_m1 166 rfl
theorem q243 : (Jvm.Cond.fieldLinkNest "ClassFileReader" (383 : Nat) "ClassFileReader$Mirror" "name" "Ljava/lang/String;" "ClassFileReader") ∈ lw_tbl := lw_at lw_m1 167 rfl
theorem q244 : (Jvm.Cond.fieldLinkNest "ClassFileReader" (384 : Nat) "ClassFileReader$Mirror" "parent" "Ljava/lang/String;" "ClassFileReader") ∈ lw_tbl := lw_at lw_m1 168 rfl
theorem q245 : (Jvm.Cond.fieldLinkNest "ClassFileReader" (217 : Nat) "ClassFileReader$Mirror" "host" "Ljava/lang/String;" "ClassFileReader") ∈ lw_tbl := lw_at lw_m1 169 rfl
theorem q246 : (Jvm.Cond.fieldLinkNest "ClassFileReader" (279 : Nat) "ClassFileReader$Mirror" "record" "Z" "ClassFileReader") ∈ lw_tbl := lw_at lw_m1 170 rfl
theorem q248 : (Jvm.Cond.fieldLinkNest "ClassFileReader" (357 : Nat) "ClassFileReader$Mirror" "interfaces" "LClassFileReader$Links;" "ClassFileReader") ∈ lw_tbl := lw_at lw_m1 172 rfl
theorem q250 : (Jvm.Cond.fieldLinkNest "ClassFileReader" (340 : Nat) "ClassFileReader$Mirror" "fields" "LClassFileReader$Members;" "ClassFileReader") ∈ lw_tbl := lw_at lw_m1 174 rfl
theorem q252 : (Jvm.Cond.fieldLinkNest "ClassFileReader" (337 : Nat) "ClassFileReader$Mirror" "methods" "LClassFileReader$Members;" "ClassFileReader") ∈ lw_tbl := lw_at lw_m1 176 rfl
theorem q254 : (Jvm.Cond.fieldLinkNest "ClassFileReader" (293 : Nat) "ClassFileReader$Mirror" "components" "LClassFileReader$Members;" "ClassFileReader") ∈ lw_tbl := lw_at lw_m1 178 rfl
theorem q256 : (Jvm.Cond.fieldLinkNest "ClassFileReader" (267 : Nat) "ClassFileReader$Mirror" "inner" "LClassFileReader$Links;" "ClassFileReader") ∈ lw_tbl := lw_at lw_m1 180 rfl
theorem q258 : (Jvm.Cond.fieldLinkNest "ClassFileReader" (270 : Nat) "ClassFileReader$Mirror" "outer" "LClassFileReader$Links;" "ClassFileReader") ∈ lw_tbl := lw_at lw_m1 182 rfl
theorem q260 : (Jvm.Cond.fieldLinkNest "ClassFileReader" (273 : Nat) "ClassFileReader$Mirror" "simple" "LClassFileReader$Links;" "ClassFileReader") ∈ lw_tbl := lw_at lw_m1 184 rfl
theorem q262 : (Jvm.Cond.fieldLinkNest "ClassFileReader" (276 : Nat) "ClassFileReader$Mirror" "innerFlags" "[I" "ClassFileReader") ∈ lw_tbl := lw_at lw_m1 186 rfl
theorem q264 : (Jvm.Cond.fieldLinkNest "ClassFileReader" (208 : Nat) "ClassFileReader$Mirror" "mates" "LClassFileReader$Links;" "ClassFileReader") ∈ lw_tbl := lw_at lw_m1 188 rfl
theorem q266 : (Jvm.Cond.fieldLinkNest "ClassFileReader" (211 : Nat) "ClassFileReader$Mirror" "permitted" "LClassFileReader$Links;" "ClassFileReader") ∈ lw_tbl := lw_at lw_m1 190 rfl
theorem q267 : (Jvm.Cond.fieldLink "ClassFileReader" (180 : Nat) "ClassFileReader$Holder" "signature" "Ljava/lang/String;") ∈ lw_all := lw_g (lw_at lw_m1 191 rfl) rfl
theorem q268 : (Jvm.Cond.fieldLink "ClassFileReader" (412 : Nat) "ClassFileReader$Member" "signature" "Ljava/lang/String;") ∈ lw_all := lw_g (lw_at lw_m1 192 rfl) rfl
theorem q270 : (Jvm.Cond.fieldLink "ClassFileReader" (420 : Nat) "ClassFileReader$Mirror" "signature" "Ljava/lang/String;") ∈ lw_all := lw_g (lw_at lw_m1 194 rfl) rfl
theorem q272 : (Jvm.Cond.fieldLink "ClassFileReader" (183 : Nat) "ClassFileReader$Holder" "deprecated" "Z") ∈ lw_all := lw_g (lw_at lw_m1 196 rfl) rfl
theorem q273 : (Jvm.Cond.fieldLink "ClassFileReader" (407 : Nat) "ClassFileReader$Mirror" "deprecated" "Z") ∈ lw_all := lw_g (lw_at lw_m1 197 rfl) rfl
theorem q275 : (Jvm.Cond.fieldLink "ClassFileReader" (430 : Nat) "ClassFileReader$Member" "deprecated" "Z") ∈ lw_all := lw_g (lw_at lw_m1 199 rfl) rfl
theorem q319 : (Jvm.Cond.methodLink "ClassFileReader" (393 : Nat) ({ cls := "ClassFileReader", name := "file", desc := "()V" } : Jvm.MethodName)) ∈ lw_all := lw_g (lw_at lw_m2 3 rfl) rfl
theorem q320 : (Jvm.Cond.privateMethod ({ cls := "ClassFileReader", name := "file", desc := "()V" } : Jvm.MethodName)) ∈ lw_tbl := lw_at lw_m2 4 rfl
theorem q321 : (Jvm.Cond.instanceMethod ({ cls := "ClassFileReader", name := "file", desc := "()V" } : Jvm.MethodName)) ∈ lw_all := lw_g (lw_at lw_m2 5 rfl) rfl
theorem q322 : (Jvm.Cond.code ({ cls := "ClassFileReader", name := "file", desc := "()V" } : Jvm.MethodName) prog_1_method_40_code (2 : Nat) (Option.none : Option Jvm.ClassFile.FieldType)) ∈ lw_all := lw_g (lw_at lw_m2 6 rfl) rfl
theorem q323 : (Jvm.Cond.methodLink "ClassFileReader" (134 : Nat) ({ cls := "ClassFileReader", name := "u4", desc := "()J" } : Jvm.MethodName)) ∈ lw_all := lw_g (lw_at lw_m2 7 rfl) rfl
theorem q324 : (Jvm.Cond.privateMethod ({ cls := "ClassFileReader", name := "u4", desc := "()J" } : Jvm.MethodName)) ∈ lw_tbl := lw_at lw_m2 8 rfl
theorem q325 : (Jvm.Cond.instanceMethod ({ cls := "ClassFileReader", name := "u4", desc := "()J" } : Jvm.MethodName)) ∈ lw_all := lw_g (lw_at lw_m2 9 rfl) rfl
theorem q326 : (Jvm.Cond.code ({ cls := "ClassFileReader", name := "u4", desc := "()J" } : Jvm.MethodName) prog_1_method_15_code (3 : Nat) (Option.some Jvm.ClassFile.FieldType.long)) ∈ lw_all := lw_g (lw_at lw_m2 10 rfl) rfl
theorem q327 : (Jvm.Cond.constantLong "ClassFileReader" (82 : Nat) (4 : Int64)) ∈ lw_all := lw_g (lw_at lw_m2 11 rfl) rfl
theorem q328 : (Jvm.Cond.methodLink "ClassFileReader" (75 : Nat) ({ cls := "ClassFileReader", name := "left", desc := "(J)V" } : Jvm.MethodName)) ∈ lw_all := lw_g (lw_at lw_m2 12 rfl) rfl
theorem q329 : (Jvm.Cond.privateMethod ({ cls := "ClassFileReader", name := "left", desc := "(J)V" } : Jvm.MethodName)) ∈ lw_tbl := lw_at lw_m2 13 rfl
theorem q330 : (Jvm.Cond.instanceMethod ({ cls := "ClassFileReader", name := "left", desc := "(J)V" } : Jvm.MethodName)) ∈ lw_all := lw_g (lw_at lw_m2 14 rfl) rfl
theorem q331 : (Jvm.Cond.code ({ cls := "ClassFileReader", name := "left", desc := "(J)V" } : Jvm.MethodName) prog_1_method_13_code (3 : Nat) (Option.none : Option Jvm.ClassFile.FieldType)) ∈ lw_all := lw_g (lw_at lw_m2 15 rfl) rfl
theorem q370 : (Jvm.Cond.methodLink "ClassFileReader" (70 : Nat) ({ cls := "ClassFileReader$Malformed", name := "<init>", desc := "(II)V" } : Jvm.MethodName)) ∈ lw_all := lw_g (lw_at lw_m2 54 rfl) rfl
theorem q381 : (Jvm.Cond.fieldLinkNest "ClassFileReader" (400 : Nat) "ClassFileReader$Malformed" "code" "I" "ClassFileReader") ∈ lw_tbl := lw_at lw_m2 65 rfl
theorem q383 : (Jvm.Cond.fieldLinkNest "ClassFileReader" (399 : Nat) "ClassFileReader$Malformed" "place" "I" "ClassFileReader") ∈ lw_tbl := lw_at lw_m2 67 rfl
theorem q400 : (Jvm.Cond.methodLink "ClassFileReader" (84 : Nat) ({ cls := "ClassFileReader", name := "u2", desc := "()I" } : Jvm.MethodName)) ∈ lw_all := lw_g (lw_at lw_m2 84 rfl) rfl
theorem q401 : (Jvm.Cond.privateMethod ({ cls := "ClassFileReader", name := "u2", desc := "()I" } : Jvm.MethodName)) ∈ lw_tbl := lw_at lw_m2 85 rfl
theorem q402 : (Jvm.Cond.instanceMethod ({ cls := "ClassFileReader", name := "u2", desc := "()I" } : Jvm.MethodName)) ∈ lw_all := lw_g (lw_at lw_m2 86 rfl) rfl
theorem q403 : (Jvm.Cond.code ({ cls := "ClassFileReader", name := "u2", desc := "()I" } : Jvm.MethodName) prog_1_method_14_code (2 : Nat) (Option.some Jvm.ClassFile.FieldType.int)) ∈ lw_all := lw_g (lw_at lw_m2 87 rfl) rfl
theorem q404 : (Jvm.Cond.constantLong "ClassFileReader" (73 : Nat) (2 : Int64)) ∈ lw_all := lw_g (lw_at lw_m2 88 rfl) rfl
theorem q405 : (Jvm.Cond.methodLink "ClassFileReader" (79 : Nat) ({ cls := "ClassFileReader", name := "u1", desc := "()I" } : Jvm.MethodName)) ∈ lw_all := lw_g (lw_at lw_m2 89 rfl) rfl
theorem q406 : (Jvm.Cond.privateMethod ({ cls := "ClassFileReader", name := "u1", desc := "()I" } : Jvm.MethodName)) ∈ lw_tbl := lw_at lw_m2 90 rfl
theorem q407 : (Jvm.Cond.instanceMethod ({ cls := "ClassFileReader", name := "u1", desc := "()I" } : Jvm.MethodName)) ∈ lw_all := lw_g (lw_at lw_m2 91 rfl) rfl
theorem q408 : (Jvm.Cond.code ({ cls := "ClassFileReader", name := "u1", desc := "()I" } : Jvm.MethodName) prog_1_method_12_code (2 : Nat) (Option.some Jvm.ClassFile.FieldType.int)) ∈ lw_all := lw_g (lw_at lw_m2 92 rfl) rfl
theorem q409 : (Jvm.Cond.constantLong "ClassFileReader" (370 : Nat) (3405691582 : Int64)) ∈ lw_all := lw_g (lw_at lw_m2 93 rfl) rfl
theorem q410 : (Jvm.Cond.methodLink "ClassFileReader" (172 : Nat) ({ cls := "ClassFileReader", name := "must", desc := "(ZII)V" } : Jvm.MethodName)) ∈ lw_all := lw_g (lw_at lw_m2 94 rfl) rfl
theorem q411 : (Jvm.Cond.privateMethod ({ cls := "ClassFileReader", name := "must", desc := "(ZII)V" } : Jvm.MethodName)) ∈ lw_tbl := lw_at lw_m2 95 rfl
theorem q412 : (Jvm.Cond.instanceMethod ({ cls := "ClassFileReader", name := "must", desc := "(ZII)V" } : Jvm.MethodName)) ∈ lw_all := lw_g (lw_at lw_m2 96 rfl) rfl
theorem q413 : (Jvm.Cond.code ({ cls := "ClassFileReader", name := "must", desc := "(ZII)V" } : Jvm.MethodName) prog_1_method_25_code (4 : Nat) (Option.none : Option Jvm.ClassFile.FieldType)) ∈ lw_all := lw_g (lw_at lw_m2 97 rfl) rfl
theorem q414 : (Jvm.Cond.methodLink "ClassFileReader" (375 : Nat) ({ cls := "ClassFileReader", name := "readPool", desc := "()V" } : Jvm.MethodName)) ∈ lw_all := lw_g (lw_at lw_m2 98 rfl) rfl
theorem q415 : (Jvm.Cond.privateMethod ({ cls := "ClassFileReader", name := "readPool", desc := "()V" } : Jvm.MethodName)) ∈ lw_tbl := lw_at lw_m2 99 rfl
theorem q416 : (Jvm.Cond.instanceMethod ({ cls := "ClassFileReader", name := "readPool", desc := "()V" } : Jvm.MethodName)) ∈ lw_all := lw_g (lw_at lw_m2 100 rfl) rfl
theorem q417 : (Jvm.Cond.code ({ cls := "ClassFileReader", name := "readPool", desc := "()V" } : Jvm.MethodName) prog_1_method_24_code (4 : Nat) (Option.none : Option Jvm.ClassFile.FieldType)) ∈ lw_all := lw_g (lw_at lw_m2 101 rfl) rfl
theorem q418 : (Jvm.Cond.methodLink "ClassFileReader" (149 : Nat) ({ cls := "ClassFileReader", name := "readEntry", desc := "(I)LClassFileReader$Entry;" } : Jvm.MethodName)) ∈ lw_all := lw_g (lw_at lw_m2 102 rfl) rfl
theorem q419 : (Jvm.Cond.privateMethod ({ cls := "ClassFileReader", name := "readEntry", desc := "(I)LClassFileReader$Entry;" } : Jvm.MethodName)) ∈ lw_tbl := lw_at lw_m2 103 rfl
theorem q420 : (Jvm.Cond.instanceMethod ({ cls := "ClassFileReader", name := "readEntry", desc := "(I)LClassFileReader$Entry;" } : Jvm.MethodName)) ∈ lw_all := lw_g (lw_at lw_m2 104 rfl) rfl
theorem q421 : (Jvm.Cond.code ({ cls := "ClassFileReader", name := "readEntry", desc := "(I)LClassFileReader$Entry;" } : Jvm.MethodName) prog_1_method_23_code (7 : Nat) (Option.some (Jvm.ClassFile.FieldType.object "ClassFileReader$Entry"))) ∈ lw_all := lw_g (lw_at lw_m2 105 rfl) rfl
theorem q422 : (Jvm.Cond.methodLink "ClassFileReader" (129 : Nat) ({ cls := "ClassFileReader", name := "textEntry", desc := "(I)LClassFileReader$Entry;" } : Jvm.MethodName)) ∈ lw_all := lw_g (lw_at lw_m2 106 rfl) rfl
theorem q423 : (Jvm.Cond.privateMethod ({ cls := "ClassFileReader", name := "textEntry", desc := "(I)LClassFileReader$Entry;" } : Jvm.MethodName)) ∈ lw_tbl := lw_at lw_m2 107 rfl
theorem q424 : (Jvm.Cond.instanceMethod ({ cls := "ClassFileReader", name := "textEntry", desc := "(I)LClassFileReader$Entry;" } : Jvm.MethodName)) ∈ lw_all := lw_g (lw_at lw_m2 108 rfl) rfl
theorem q425 : (Jvm.Cond.code ({ cls := "ClassFileReader", name := "textEntry", desc := "(I)LClassFileReader$Entry;" } : Jvm.MethodName) prog_1_method_22_code (6 : Nat) (Option.some (Jvm.ClassFile.FieldType.object "ClassFileReader$Entry"))) ∈ lw_all := lw_g (lw_at lw_m2 109 rfl) rfl
theorem q426 : (Jvm.Cond.methodLink "ClassFileReader" (115 : Nat) ({ cls := "java/lang/StringBuilder", name := "setLength", desc := "(I)V" } : Jvm.MethodName)) ∈ lw_all := lw_g (lw_at lw_m2 110 rfl) rfl
theorem q486 : (Jvm.Cond.methodLink "ClassFileReader" (118 : Nat) ({ cls := "java/lang/StringBuilder", name := "append", desc := "(C)Ljava/lang/StringBuilder;" } : Jvm.MethodName)) ∈ lw_all := lw_g (lw_at lw_m2 170 rfl) rfl
theorem q541 : (Jvm.Cond.classLink "ClassFileReader" (94 : Nat) "ClassFileReader$Text") ∈ lw_all := lw_g (lw_at lw_m2 225 rfl) rfl
theorem q543 : (Jvm.Cond.methodLink "ClassFileReader" (122 : Nat) ({ cls := "java/lang/StringBuilder", name := "toString", desc := "()Ljava/lang/String;" } : Jvm.MethodName)) ∈ lw_all := lw_g (lw_at lw_m2 227 rfl) rfl
theorem q606 : (Jvm.Cond.methodLink "ClassFileReader" (126 : Nat) ({ cls := "ClassFileReader$Text", name := "<init>", desc := "(ILjava/lang/String;)V" } : Jvm.MethodName)) ∈ lw_all := lw_g (lw_at lw_m3 50 rfl) rfl
theorem q614 : (Jvm.Cond.fieldLinkNest "ClassFileReader" (96 : Nat) "ClassFileReader$Text" "text" "Ljava/lang/String;" "ClassFileReader") ∈ lw_tbl := lw_at lw_m3 58 rfl
theorem q625 : (Jvm.Cond.classLink "ClassFileReader" (132 : Nat) "ClassFileReader$Constant") ∈ lw_all := lw_g (lw_at lw_m3 69 rfl) rfl
theorem q627 : (Jvm.Cond.methodLink "ClassFileReader" (138 : Nat) ({ cls := "ClassFileReader$Constant", name := "<init>", desc := "(IIJ)V" } : Jvm.MethodName)) ∈ lw_all := lw_g (lw_at lw_m3 71 rfl) rfl
theorem q632 : (Jvm.Cond.fieldLinkNest "ClassFileReader" (152 : Nat) "ClassFileReader$Constant" "tag" "I" "ClassFileReader") ∈ lw_tbl := lw_at lw_m3 76 rfl
theorem q634 : (Jvm.Cond.fieldLinkNest "ClassFileReader" (247 : Nat) "ClassFileReader$Constant" "value" "J" "ClassFileReader") ∈ lw_tbl := lw_at lw_m3 78 rfl
theorem q641 : (Jvm.Cond.classLink "ClassFileReader" (100 : Nat) "ClassFileReader$Named") ∈ lw_all := lw_g (lw_at lw_m3 85 rfl) rfl
theorem q643 : (Jvm.Cond.methodLink "ClassFileReader" (141 : Nat) ({ cls := "ClassFileReader$Named", name := "<init>", desc := "(IZI)V" } : Jvm.MethodName)) ∈ lw_all := lw_g (lw_at lw_m3 87 rfl) rfl
theorem q648 : (Jvm.Cond.fieldLinkNest "ClassFileReader" (102 : Nat) "ClassFileReader$Named" "type" "Z" "ClassFileReader") ∈ lw_tbl := lw_at lw_m3 92 rfl
theorem q651 : (Jvm.Cond.fieldLinkNest "ClassFileReader" (114 : Nat) "ClassFileReader$Named" "text" "Ljava/lang/String;" "ClassFileReader") ∈ lw_tbl := lw_at lw_m3 95 rfl
theorem q660 : (Jvm.Cond.classLink "ClassFileReader" (144 : Nat) "ClassFileReader$Pair") ∈ lw_all := lw_g (lw_at lw_m3 104 rfl) rfl
theorem q662 : (Jvm.Cond.methodLink "ClassFileReader" (146 : Nat) ({ cls := "ClassFileReader$Pair", name := "<init>", desc := "(IZII)V" } : Jvm.MethodName)) ∈ lw_all := lw_g (lw_at lw_m3 106 rfl) rfl
theorem q677 : (Jvm.Cond.methodLink "ClassFileReader" (155 : Nat) ({ cls := "ClassFileReader$Entry", name := "check", desc := "(LClassFileReader;)V" } : Jvm.MethodName)) ∈ lw_all := lw_g (lw_at lw_m3 121 rfl) rfl
theorem q687 : (Jvm.Cond.privateMethod ({ cls := "ClassFileReader", name := "textAt", desc := "(II)Ljava/lang/String;" } : Jvm.MethodName)) ∈ lw_tbl := lw_at lw_m3 131 rfl
theorem q688 : (Jvm.Cond.instanceMethod ({ cls := "ClassFileReader", name := "textAt", desc := "(II)Ljava/lang/String;" } : Jvm.MethodName)) ∈ lw_all := lw_g (lw_at lw_m3 132 rfl) rfl
theorem q689 : (Jvm.Cond.code ({ cls := "ClassFileReader", name := "textAt", desc := "(II)Ljava/lang/String;" } : Jvm.MethodName) prog_1_method_17_code (4 : Nat) (Option.some (Jvm.ClassFile.FieldType.object "java/lang/String"))) ∈ lw_all := lw_g (lw_at lw_m3 133 rfl) rfl
theorem q690 : (Jvm.Cond.methodLink "ClassFileReader" (90 : Nat) ({ cls := "ClassFileReader", name := "entry", desc := "(I)LClassFileReader$Entry;" } : Jvm.MethodName)) ∈ lw_all := lw_g (lw_at lw_m3 134 rfl) rfl
theorem q691 : (Jvm.Cond.privateMethod ({ cls := "ClassFileReader", name := "entry", desc := "(I)LClassFileReader$Entry;" } : Jvm.MethodName)) ∈ lw_tbl := lw_at lw_m3 135 rfl
theorem q692 : (Jvm.Cond.instanceMethod ({ cls := "ClassFileReader", name := "entry", desc := "(I)LClassFileReader$Entry;" } : Jvm.MethodName)) ∈ lw_all := lw_g (lw_at lw_m3 136 rfl) rfl
theorem q693 : (Jvm.Cond.code ({ cls := "ClassFileReader", name := "entry", desc := "(I)LClassFileReader$Entry;" } : Jvm.MethodName) prog_1_method_16_code (2 : Nat) (Option.some (Jvm.ClassFile.FieldType.object "ClassFileReader$Entry"))) ∈ lw_all := lw_g (lw_at lw_m3 137 rfl) rfl
theorem q703 : (Jvm.Cond.static ({ cls := "ClassFileReader", name := "className", desc := "(Ljava/lang/String;II)Z" } : Jvm.MethodName)) ∈ lw_all := lw_g (lw_at lw_m3 147 rfl) rfl
theorem q704 : (Jvm.Cond.code ({ cls := "ClassFileReader", name := "className", desc := "(Ljava/lang/String;II)Z" } : Jvm.MethodName) prog_1_method_6_code (6 : Nat) (Option.some Jvm.ClassFile.FieldType.boolean)) ∈ lw_all := lw_g (lw_at lw_m3 148 rfl) rfl
theorem q705 : (Jvm.Cond.methodLink "ClassFileReader" (35 : Nat) ({ cls := "java/lang/String", name := "charAt", desc := "(I)C" } : Jvm.MethodName)) ∈ lw_all := lw_g (lw_at lw_m3 149 rfl) rfl
theorem q720 : (Jvm.Cond.methodLink "ClassFileReader" (41 : Nat) ({ cls := "ClassFileReader", name := "plain", desc := "(C)Z" } : Jvm.MethodName)) ∈ lw_all := lw_g (lw_at lw_m3 164 rfl) rfl
theorem q721 : (Jvm.Cond.static ({ cls := "ClassFileReader", name := "plain", desc := "(C)Z" } : Jvm.MethodName)) ∈ lw_all := lw_g (lw_at lw_m3 165 rfl) rfl
theorem q722 : (Jvm.Cond.code ({ cls := "ClassFileReader", name := "plain", desc := "(C)Z" } : Jvm.MethodName) prog_1_method_5_code (1 : Nat) (Option.some Jvm.ClassFile.FieldType.boolean)) ∈ lw_all := lw_g (lw_at lw_m3 166 rfl) rfl
theorem q724 : (Jvm.Cond.static ({ cls := "ClassFileReader", name := "arrayName", desc := "(Ljava/lang/String;)Z" } : Jvm.MethodName)) ∈ lw_all := lw_g (lw_at lw_m3 168 rfl) rfl
theorem q725 : (Jvm.Cond.code ({ cls := "ClassFileReader", name := "arrayName", desc := "(Ljava/lang/String;)Z" } : Jvm.MethodName) prog_1_method_10_code (1 : Nat) (Option.some Jvm.ClassFile.FieldType.boolean)) ∈ lw_all := lw_g (lw_at lw_m3 169 rfl) rfl
theorem q726 : (Jvm.Cond.methodLink "ClassFileReader" (61 : Nat) ({ cls := "ClassFileReader", name := "fieldType", desc := "(Ljava/lang/String;)Z" } : Jvm.MethodName)) ∈ lw_all := lw_g (lw_at lw_m3 170 rfl) rfl
theorem q727 : (Jvm.Cond.static ({ cls := "ClassFileReader", name := "fieldType", desc := "(Ljava/lang/String;)Z" } : Jvm.MethodName)) ∈ lw_all := lw_g (lw_at lw_m3 171 rfl) rfl
theorem q728 : (Jvm.Cond.code ({ cls := "ClassFileReader", name := "fieldType", desc := "(Ljava/lang/String;)Z" } : Jvm.MethodName) prog_1_method_9_code (1 : Nat) (Option.some Jvm.ClassFile.FieldType.boolean)) ∈ lw_all := lw_g (lw_at lw_m3 172 rfl) rfl
theorem q729 : (Jvm.Cond.methodLink "ClassFileReader" (57 : Nat) ({ cls := "ClassFileReader", name := "typeEnd", desc := "(Ljava/lang/String;I)I" } : Jvm.MethodName)) ∈ lw_all := lw_g (lw_at lw_m3 173 rfl) rfl
theorem q730 : (Jvm.Cond.static ({ cls := "ClassFileReader", name := "typeEnd", desc := "(Ljava/lang/String;I)I" } : Jvm.MethodName)) ∈ lw_all := lw_g (lw_at lw_m3 174 rfl) rfl
theorem q731 : (Jvm.Cond.code ({ cls := "ClassFileReader", name := "typeEnd", desc := "(Ljava/lang/String;I)I" } : Jvm.MethodName) prog_1_method_8_code (4 : Nat) (Option.some Jvm.ClassFile.FieldType.int)) ∈ lw_all := lw_g (lw_at lw_m3 175 rfl) rfl
theorem q732 : (Jvm.Cond.methodLink "ClassFileReader" (45 : Nat) ({ cls := "java/lang/String", name := "length", desc := "()I" } : Jvm.MethodName)) ∈ lw_all := lw_g (lw_at lw_m3 176 rfl) rfl
theorem q733 : (Jvm.Cond.methodLink "ClassFileReader" (53 : Nat) ({ cls := "ClassFileReader", name := "className", desc := "(Ljava/lang/String;II)Z" } : Jvm.MethodName)) ∈ lw_all := lw_g (lw_at lw_m3 177 rfl) rfl
theorem q734 : (Jvm.Cond.methodLink "ClassFileReader" (49 : Nat) ({ cls := "java/lang/String", name := "isEmpty", desc := "()Z" } : Jvm.MethodName)) ∈ lw_all := lw_g (lw_at lw_m3 178 rfl) rfl
theorem q744 : (Jvm.Cond.privateMethod ({ cls := "ClassFileReader", name := "classAt", desc := "(II)LClassFileReader$Named;" } : Jvm.MethodName)) ∈ lw_tbl := lw_at lw_m3 188 rfl
theorem q745 : (Jvm.Cond.instanceMethod ({ cls := "ClassFileReader", name := "classAt", desc := "(II)LClassFileReader$Named;" } : Jvm.MethodName)) ∈ lw_all := lw_g (lw_at lw_m3 189 rfl) rfl
theorem q746 : (Jvm.Cond.code ({ cls := "ClassFileReader", name := "classAt", desc := "(II)LClassFileReader$Named;" } : Jvm.MethodName) prog_1_method_18_code (4 : Nat) (Option.some (Jvm.ClassFile.FieldType.object "ClassFileReader$Named"))) ∈ lw_all := lw_g (lw_at lw_m3 190 rfl) rfl
theorem q753 : (Jvm.Cond.static ({ cls := "ClassFileReader", name := "memberName", desc := "(Ljava/lang/String;)Z" } : Jvm.MethodName)) ∈ lw_all := lw_g (lw_at lw_m3 197 rfl) rfl
theorem q754 : (Jvm.Cond.code ({ cls := "ClassFileReader", name := "memberName", desc := "(Ljava/lang/String;)Z" } : Jvm.MethodName) prog_1_method_7_code (3 : Nat) (Option.some Jvm.ClassFile.FieldType.boolean)) ∈ lw_all := lw_g (lw_at lw_m3 198 rfl) rfl
theorem q766 : (Jvm.Cond.static ({ cls := "ClassFileReader", name := "methodType", desc := "(Ljava/lang/String;)Z" } : Jvm.MethodName)) ∈ lw_all := lw_g (lw_at lw_m3 210 rfl) rfl
theorem q767 : (Jvm.Cond.code ({ cls := "ClassFileReader", name := "methodType", desc := "(Ljava/lang/String;)Z" } : Jvm.MethodName) prog_1_method_11_code (3 : Nat) (Option.some Jvm.ClassFile.FieldType.boolean)) ∈ lw_all := lw_g (lw_at lw_m3 211 rfl) rfl
theorem q771 : (Jvm.Cond.methodLink "ClassFileReader" (380 : Nat) ({ cls := "ClassFileReader", name := "fileFlags", desc := "(I)Z" } : Jvm.MethodName)) ∈ lw_all := lw_g (lw_at lw_m3 215 rfl) rfl
theorem q772 : (Jvm.Cond.static ({ cls := "ClassFileReader", name := "fileFlags", desc := "(I)Z" } : Jvm.MethodName)) ∈ lw_all := lw_g (lw_at lw_m3 216 rfl) rfl
theorem q773 : (Jvm.Cond.code ({ cls := "ClassFileReader", name := "fileFlags", desc := "(I)Z" } : Jvm.MethodName) prog_1_method_34_code (1 : Nat) (Option.some Jvm.ClassFile.FieldType.boolean)) ∈ lw_all := lw_g (lw_at lw_m3 217 rfl) rfl
theorem q774 : (Jvm.Cond.methodLink "ClassFileReader" (306 : Nat) ({ cls := "ClassFileReader", name := "has", desc := "(II)Z" } : Jvm.MethodName)) ∈ lw_all := lw_g (lw_at lw_m3 218 rfl) rfl
theorem q775 : (Jvm.Cond.static ({ cls := "ClassFileReader", name := "has", desc := "(II)Z" } : Jvm.MethodName)) ∈ lw_all := lw_g (lw_at lw_m3 219 rfl) rfl
theorem q776 : (Jvm.Cond.code ({ cls := "ClassFileReader", name := "has", desc := "(II)Z" } : Jvm.MethodName) prog_1_method_33_code (2 : Nat) (Option.some Jvm.ClassFile.FieldType.boolean)) ∈ lw_all := lw_g (lw_at lw_m3 220 rfl) rfl
theorem q777 : (Jvm.Cond.methodLink "ClassFileReader" (353 : Nat) ({ cls := "ClassFileReader", name := "plainClass", desc := "(Z)Ljava/lang/String;" } : Jvm.MethodName)) ∈ lw_all := lw_g (lw_at lw_m3 221 rfl) rfl
theorem q778 : (Jvm.Cond.privateMethod ({ cls := "ClassFileReader", name := "plainClass", desc := "(Z)Ljava/lang/String;" } : Jvm.MethodName)) ∈ lw_tbl := lw_at lw_m3 222 rfl
theorem q779 : (Jvm.Cond.instanceMethod ({ cls := "ClassFileReader", name := "plainClass", desc := "(Z)Ljava/lang/String;" } : Jvm.MethodName)) ∈ lw_all := lw_g (lw_at lw_m3 223 rfl) rfl
theorem q780 : (Jvm.Cond.code ({ cls := "ClassFileReader", name := "plainClass", desc := "(Z)Ljava/lang/String;" } : Jvm.MethodName) prog_1_method_21_code (5 : Nat) (Option.some (Jvm.ClassFile.FieldType.object "java/lang/String"))) ∈ lw_all := lw_g (lw_at lw_m3 224 rfl) rfl
theorem q781 : (Jvm.Cond.methodLink "ClassFileReader" (110 : Nat) ({ cls := "ClassFileReader", name := "classAt", desc := "(II)LClassFileReader$Named;" } : Jvm.MethodName)) ∈ lw_all := lw_g (lw_at lw_m3 225 rfl) rfl
theorem q782 : (Jvm.Cond.methodLink "ClassFileReader" (387 : Nat) ({ cls := "ClassFileReader", name := "interfaces", desc := "()V" } : Jvm.MethodName)) ∈ lw_all := lw_g (lw_at lw_m3 226 rfl) rfl
theorem q783 : (Jvm.Cond.privateMethod ({ cls := "ClassFileReader", name := "interfaces", desc := "()V" } : Jvm.MethodName)) ∈ lw_tbl := lw_at lw_m3 227 rfl
theorem q784 : (Jvm.Cond.instanceMethod ({ cls := "ClassFileReader", name := "interfaces", desc := "()V" } : Jvm.MethodName)) ∈ lw_all := lw_g (lw_at lw_m3 228 rfl) rfl
theorem q785 : (Jvm.Cond.code ({ cls := "ClassFileReader", name := "interfaces", desc := "()V" } : Jvm.MethodName) prog_1_method_39_code (6 : Nat) (Option.none : Option Jvm.ClassFile.FieldType)) ∈ lw_all := lw_g (lw_at lw_m3 229 rfl) rfl
theorem q786 : (Jvm.Cond.methodLink "ClassFileReader" (229 : Nat) ({ cls := "java/lang/String", name := "equals", desc := "(Ljava/lang/Object;)Z" } : Jvm.MethodName)) ∈ lw_all := lw_g (lw_at lw_m3 230 rfl) rfl
theorem q787 : (Jvm.Cond.methodLink "ClassFileReader" (261 : Nat) ({ cls := "ClassFileReader$Links", name := "add", desc := "(Ljava/lang/String;)V" } : Jvm.MethodName)) ∈ lw_all := lw_g (lw_at lw_m3 231 rfl) rfl
theorem q799 : (Jvm.Cond.fieldLinkNest "ClassFileReader" (364 : Nat) "ClassFileReader$Link" "text" "Ljava/lang/String;" "ClassFileReader") ∈ lw_tbl := lw_at lw_m4 3 rfl
theorem q801 : (Jvm.Cond.fieldLinkNest "ClassFileReader" (367 : Nat) "ClassFileReader$Link" "next" "LClassFileReader$Link;" "ClassFileReader") ∈ lw_tbl := lw_at lw_m4 5 rfl
theorem q807 : (Jvm.Cond.methodLink "ClassFileReader" (389 : Nat) ({ cls := "ClassFileReader", name := "members", desc := "(Z)V" } : Jvm.MethodName)) ∈ lw_all := lw_g (lw_at lw_m4 11 rfl) rfl
theorem q808 : (Jvm.Cond.privateMethod ({ cls := "ClassFileReader", name := "members", desc := "(Z)V" } : Jvm.MethodName)) ∈ lw_tbl := lw_at lw_m4 12 rfl
theorem q809 : (Jvm.Cond.instanceMethod ({ cls := "ClassFileReader", name := "members", desc := "(Z)V" } : Jvm.MethodName)) ∈ lw_all := lw_g (lw_at lw_m4 13 rfl) rfl
theorem q810 : (Jvm.Cond.code ({ cls := "ClassFileReader", name := "members", desc := "(Z)V" } : Jvm.MethodName) prog_1_method_38_code (5 : Nat) (Option.none : Option Jvm.ClassFile.FieldType)) ∈ lw_all := lw_g (lw_at lw_m4 14 rfl) rfl
theorem q811 : (Jvm.Cond.methodLink "ClassFileReader" (349 : Nat) ({ cls := "ClassFileReader", name := "member", desc := "(Z)V" } : Jvm.MethodName)) ∈ lw_all := lw_g (lw_at lw_m4 15 rfl) rfl
theorem q812 : (Jvm.Cond.privateMethod ({ cls := "ClassFileReader", name := "member", desc := "(Z)V" } : Jvm.MethodName)) ∈ lw_tbl := lw_at lw_m4 16 rfl
theorem q813 : (Jvm.Cond.instanceMethod ({ cls := "ClassFileReader", name := "member", desc := "(Z)V" } : Jvm.MethodName)) ∈ lw_all := lw_g (lw_at lw_m4 17 rfl) rfl
theorem q814 : (Jvm.Cond.code ({ cls := "ClassFileReader", name := "member", desc := "(Z)V" } : Jvm.MethodName) prog_1_method_37_code (12 : Nat) (Option.none : Option Jvm.ClassFile.FieldType)) ∈ lw_all := lw_g (lw_at lw_m4 18 rfl) rfl
theorem q815 : (Jvm.Cond.methodLink "ClassFileReader" (106 : Nat) ({ cls := "ClassFileReader", name := "textAt", desc := "(II)Ljava/lang/String;" } : Jvm.MethodName)) ∈ lw_all := lw_g (lw_at lw_m4 19 rfl) rfl
theorem q816 : (Jvm.Cond.stringRef "ClassFileReader" (318 : Nat) "<init>") ∈ lw_tbl := lw_at lw_m4 20 rfl
theorem q817 : (Jvm.Cond.stringRef "ClassFileReader" (316 : Nat) "<clinit>") ∈ lw_tbl := lw_at lw_m4 21 rfl
theorem q818 : (Jvm.Cond.methodLink "ClassFileReader" (289 : Nat) ({ cls := "ClassFileReader", name := "memberName", desc := "(Ljava/lang/String;)Z" } : Jvm.MethodName)) ∈ lw_all := lw_g (lw_at lw_m4 22 rfl) rfl
theorem q819 : (Jvm.Cond.methodLink "ClassFileReader" (319 : Nat) ({ cls := "ClassFileReader", name := "methodType", desc := "(Ljava/lang/String;)Z" } : Jvm.MethodName)) ∈ lw_all := lw_g (lw_at lw_m4 23 rfl) rfl
theorem q820 : (Jvm.Cond.methodLink "ClassFileReader" (329 : Nat) ({ cls := "ClassFileReader", name := "methodFlags", desc := "(ILjava/lang/String;Z)Z" } : Jvm.MethodName)) ∈ lw_all := lw_g (lw_at lw_m4 24 rfl) rfl
theorem q821 : (Jvm.Cond.static ({ cls := "ClassFileReader", name := "methodFlags", desc := "(ILjava/lang/String;Z)Z" } : Jvm.MethodName)) ∈ lw_all := lw_g (lw_at lw_m4 25 rfl) rfl
theorem q822 : (Jvm.Cond.code ({ cls := "ClassFileReader", name := "methodFlags", desc := "(ILjava/lang/String;Z)Z" } : Jvm.MethodName) prog_1_method_36_code (3 : Nat) (Option.some Jvm.ClassFile.FieldType.boolean)) ∈ lw_all := lw_g (lw_at lw_m4 26 rfl) rfl
theorem q823 : (Jvm.Cond.methodLink "ClassFileReader" (310 : Nat) ({ cls := "java/lang/Integer", name := "bitCount", desc := "(I)I" } : Jvm.MethodName)) ∈ lw_all := lw_g (lw_at lw_m4 27 rfl) rfl
theorem q829 : (Jvm.Cond.methodLink "ClassFileReader" (333 : Nat) ({ cls := "ClassFileReader", name := "fieldFlags", desc := "(IZ)Z" } : Jvm.MethodName)) ∈ lw_all := lw_g (lw_at lw_m4 33 rfl) rfl
theorem q830 : (Jvm.Cond.static ({ cls := "ClassFileReader", name := "fieldFlags", desc := "(IZ)Z" } : Jvm.MethodName)) ∈ lw_all := lw_g (lw_at lw_m4 34 rfl) rfl
theorem q831 : (Jvm.Cond.code ({ cls := "ClassFileReader", name := "fieldFlags", desc := "(IZ)Z" } : Jvm.MethodName) prog_1_method_35_code (2 : Nat) (Option.some Jvm.ClassFile.FieldType.boolean)) ∈ lw_all := lw_g (lw_at lw_m4 35 rfl) rfl
theorem q832 : (Jvm.Cond.methodLink "ClassFileReader" (343 : Nat) ({ cls := "ClassFileReader$Members", name := "find", desc := "(Ljava/lang/String;Ljava/lang/String;)LClassFileReader$Member;" } : Jvm.MethodName)) ∈ lw_all := lw_g (lw_at lw_m4 36 rfl) rfl
theorem q837 : (Jvm.Cond.classLink "ClassFileReader" (192 : Nat) "ClassFileReader$Method") ∈ lw_all := lw_g (lw_at lw_m4 41 rfl) rfl
theorem q839 : (Jvm.Cond.methodLink "ClassFileReader" (347 : Nat) ({ cls := "ClassFileReader$Method", name := "<init>", desc := "(ILjava/lang/String;Ljava/lang/String;)V" } : Jvm.MethodName)) ∈ lw_all := lw_g (lw_at lw_m4 43 rfl) rfl
theorem q849 : (Jvm.Cond.fieldLinkNest "ClassFileReader" (194 : Nat) "ClassFileReader$Method" "exceptions" "LClassFileReader$Links;" "ClassFileReader") ∈ lw_tbl := lw_at lw_m4 53 rfl
theorem q851 : (Jvm.Cond.fieldLink "ClassFileReader" (411 : Nat) "ClassFileReader$Member" "flags" "I") ∈ lw_all := lw_g (lw_at lw_m4 55 rfl) rfl
theorem q854 : (Jvm.Cond.fieldLink "ClassFileReader" (286 : Nat) "ClassFileReader$Member" "name" "Ljava/lang/String;") ∈ lw_all := lw_g (lw_at lw_m4 58 rfl) rfl
theorem q857 : (Jvm.Cond.fieldLink "ClassFileReader" (223 : Nat) "ClassFileReader$Field" "type" "Ljava/lang/String;") ∈ lw_all := lw_g (lw_at lw_m4 61 rfl) rfl
theorem q859 : (Jvm.Cond.fieldLink "ClassFileReader" (292 : Nat) "ClassFileReader$Member" "type" "Ljava/lang/String;") ∈ lw_all := lw_g (lw_at lw_m4 63 rfl) rfl
theorem q875 : (Jvm.Cond.classLink "ClassFileReader" (186 : Nat) "ClassFileReader$Field") ∈ lw_all := lw_g (lw_at lw_m4 79 rfl) rfl
theorem q877 : (Jvm.Cond.methodLink "ClassFileReader" (348 : Nat) ({ cls := "ClassFileReader$Field", name := "<init>", desc := "(ILjava/lang/String;Ljava/lang/String;)V" } : Jvm.MethodName)) ∈ lw_all := lw_g (lw_at lw_m4 81 rfl) rfl
theorem q883 : (Jvm.Cond.fieldLinkNest "ClassFileReader" (254 : Nat) "ClassFileReader$Field" "constant" "J" "ClassFileReader") ∈ lw_tbl := lw_at lw_m4 87 rfl
theorem q894 : (Jvm.Cond.methodLink "ClassFileReader" (297 : Nat) ({ cls := "ClassFileReader$Members", name := "add", desc := "(LClassFileReader$Member;)V" } : Jvm.MethodName)) ∈ lw_all := lw_g (lw_at lw_m4 98 rfl) rfl
theorem q898 : (Jvm.Cond.methodLink "ClassFileReader" (302 : Nat) ({ cls := "ClassFileReader", name := "table", desc := "(LClassFileReader$Holder;)V" } : Jvm.MethodName)) ∈ lw_all := lw_g (lw_at lw_m4 102 rfl) rfl
theorem q899 : (Jvm.Cond.privateMethod ({ cls := "ClassFileReader", name := "table", desc := "(LClassFileReader$Holder;)V" } : Jvm.MethodName)) ∈ lw_tbl := lw_at lw_m4 103 rfl
theorem q900 : (Jvm.Cond.instanceMethod ({ cls := "ClassFileReader", name := "table", desc := "(LClassFileReader$Holder;)V" } : Jvm.MethodName)) ∈ lw_all := lw_g (lw_at lw_m4 104 rfl) rfl
theorem q901 : (Jvm.Cond.code ({ cls := "ClassFileReader", name := "table", desc := "(LClassFileReader$Holder;)V" } : Jvm.MethodName) prog_1_method_26_code (10 : Nat) (Option.none : Option Jvm.ClassFile.FieldType)) ∈ lw_all := lw_g (lw_at lw_m4 105 rfl) rfl
theorem q902 : (Jvm.Cond.methodLink "ClassFileReader" (159 : Nat) ({ cls := "ClassFileReader", name := "textItem", desc := "()Ljava/lang/String;" } : Jvm.MethodName)) ∈ lw_all := lw_g (lw_at lw_m4 106 rfl) rfl
theorem q903 : (Jvm.Cond.privateMethod ({ cls := "ClassFileReader", name := "textItem", desc := "()Ljava/lang/String;" } : Jvm.MethodName)) ∈ lw_tbl := lw_at lw_m4 107 rfl
theorem q904 : (Jvm.Cond.instanceMethod ({ cls := "ClassFileReader", name := "textItem", desc := "()Ljava/lang/String;" } : Jvm.MethodName)) ∈ lw_all := lw_g (lw_at lw_m4 108 rfl) rfl
theorem q905 : (Jvm.Cond.code ({ cls := "ClassFileReader", name := "textItem", desc := "()Ljava/lang/String;" } : Jvm.MethodName) prog_1_method_19_code (3 : Nat) (Option.some (Jvm.ClassFile.FieldType.object "java/lang/String"))) ∈ lw_all := lw_g (lw_at lw_m4 109 rfl) rfl
theorem q906 : (Jvm.Cond.methodLink "ClassFileReader" (162 : Nat) ({ cls := "ClassFileReader$Holder", name := "known", desc := "(Ljava/lang/String;)I" } : Jvm.MethodName)) ∈ lw_all := lw_g (lw_at lw_m4 110 rfl) rfl
theorem q989 : (Jvm.Cond.methodLink "ClassFileReader" (168 : Nat) ({ cls := "ClassFileReader$Holder", name := "again", desc := "(I)Z" } : Jvm.MethodName)) ∈ lw_all := lw_g (lw_at lw_m4 193 rfl) rfl
theorem q997 : (Jvm.Cond.methodLink "ClassFileReader" (176 : Nat) ({ cls := "ClassFileReader", name := "content", desc := "(LClassFileReader$Holder;IIJ)V" } : Jvm.MethodName)) ∈ lw_all := lw_g (lw_at lw_m4 201 rfl) rfl
theorem q998 : (Jvm.Cond.privateMethod ({ cls := "ClassFileReader", name := "content", desc := "(LClassFileReader$Holder;IIJ)V" } : Jvm.MethodName)) ∈ lw_tbl := lw_at lw_m4 202 rfl
theorem q999 : (Jvm.Cond.instanceMethod ({ cls := "ClassFileReader", name := "content", desc := "(LClassFileReader$Holder;IIJ)V" } : Jvm.MethodName)) ∈ lw_all := lw_g (lw_at lw_m4 203 rfl) rfl
theorem q1000 : (Jvm.Cond.code ({ cls := "ClassFileReader", name := "content", desc := "(LClassFileReader$Holder;IIJ)V" } : Jvm.MethodName) prog_1_method_27_code (6 : Nat) (Option.none : Option Jvm.ClassFile.FieldType)) ∈ lw_all := lw_g (lw_at lw_m4 204 rfl) rfl
theorem q1001 : (Jvm.Cond.methodLink "ClassFileReader" (188 : Nat) ({ cls := "ClassFileReader", name := "constantItem", desc := "(LClassFileReader$Field;)V" } : Jvm.MethodName)) ∈ lw_all := lw_g (lw_at lw_m4 205 rfl) rfl
theorem q1002 : (Jvm.Cond.privateMethod ({ cls := "ClassFileReader", name := "constantItem", desc := "(LClassFileReader$Field;)V" } : Jvm.MethodName)) ∈ lw_tbl := lw_at lw_m4 206 rfl
theorem q1003 : (Jvm.Cond.instanceMethod ({ cls := "ClassFileReader", name := "constantItem", desc := "(LClassFileReader$Field;)V" } : Jvm.MethodName)) ∈ lw_all := lw_g (lw_at lw_m4 207 rfl) rfl
theorem q1004 : (Jvm.Cond.code ({ cls := "ClassFileReader", name := "constantItem", desc := "(LClassFileReader$Field;)V" } : Jvm.MethodName) prog_1_method_28_code (7 : Nat) (Option.none : Option Jvm.ClassFile.FieldType)) ∈ lw_all := lw_g (lw_at lw_m4 208 rfl) rfl
theorem q1005 : (Jvm.Cond.methodLink "ClassFileReader" (225 : Nat) ({ cls := "java/lang/String", name := "hashCode", desc := "()I" } : Jvm.MethodName)) ∈ lw_all := lw_g (lw_at lw_m4 209 rfl) rfl
theorem q1006 : (Jvm.Cond.stringRef "ClassFileReader" (228 : Nat) "I") ∈ lw_tbl := lw_at lw_m4 210 rfl
theorem q1007 : (Jvm.Cond.stringRef "ClassFileReader" (233 : Nat) "S") ∈ lw_tbl := lw_at lw_m4 211 rfl
theorem q1008 : (Jvm.Cond.stringRef "ClassFileReader" (235 : Nat) "C") ∈ lw_tbl := lw_at lw_m4 212 rfl
theorem q1009 : (Jvm.Cond.stringRef "ClassFileReader" (237 : Nat) "B") ∈ lw_tbl := lw_at lw_m4 213 rfl
theorem q1010 : (Jvm.Cond.stringRef "ClassFileReader" (239 : Nat) "Z") ∈ lw_tbl := lw_at lw_m4 214 rfl
theorem q1011 : (Jvm.Cond.stringRef "ClassFileReader" (240 : Nat) "F") ∈ lw_tbl := lw_at lw_m4 215 rfl
theorem q1012 : (Jvm.Cond.stringRef "ClassFileReader" (242 : Nat) "J") ∈ lw_tbl := lw_at lw_m4 216 rfl
theorem q1013 : (Jvm.Cond.stringRef "ClassFileReader" (244 : Nat) "D") ∈ lw_tbl := lw_at lw_m4 217 rfl
theorem q1014 : (Jvm.Cond.stringRef "ClassFileReader" (246 : Nat) "Ljava/lang/String;") ∈ lw_tbl := lw_at lw_m4 218 rfl
theorem q1015 : (Jvm.Cond.constantLong "ClassFileReader" (250 : Nat) (1000000000000000000 : Int64)) ∈ lw_all := lw_g (lw_at lw_m4 219 rfl) rfl
theorem q1016 : (Jvm.Cond.constantLong "ClassFileReader" (252 : Nat) (-1000000000000000000 : Int64)) ∈ lw_all := lw_g (lw_at lw_m4 220 rfl) rfl
theorem q1017 : (Jvm.Cond.methodLink "ClassFileReader" (198 : Nat) ({ cls := "ClassFileReader", name := "classes", desc := "(LClassFileReader$Links;IJ)V" } : Jvm.MethodName)) ∈ lw_all := lw_g (lw_at lw_m4 221 rfl) rfl
theorem q1018 : (Jvm.Cond.privateMethod ({ cls := "ClassFileReader", name := "classes", desc := "(LClassFileReader$Links;IJ)V" } : Jvm.MethodName)) ∈ lw_tbl := lw_at lw_m4 222 rfl
theorem q1019 : (Jvm.Cond.instanceMethod ({ cls := "ClassFileReader", name := "classes", desc := "(LClassFileReader$Links;IJ)V" } : Jvm.MethodName)) ∈ lw_all := lw_g (lw_at lw_m4 223 rfl) rfl
theorem q1020 : (Jvm.Cond.code ({ cls := "ClassFileReader", name := "classes", desc := "(LClassFileReader$Links;IJ)V" } : Jvm.MethodName) prog_1_method_30_code (7 : Nat) (Option.none : Option Jvm.ClassFile.FieldType)) ∈ lw_all := lw_g (lw_at lw_m4 224 rfl) rfl
theorem q1021 : (Jvm.Cond.methodLink "ClassFileReader" (257 : Nat) ({ cls := "ClassFileReader", name := "elements", desc := "(IJI)I" } : Jvm.MethodName)) ∈ lw_all := lw_g (lw_at lw_m4 225 rfl) rfl
theorem q1022 : (Jvm.Cond.privateMethod ({ cls := "ClassFileReader", name := "elements", desc := "(IJI)I" } : Jvm.MethodName)) ∈ lw_tbl := lw_at lw_m4 226 rfl
theorem q1023 : (Jvm.Cond.instanceMethod ({ cls := "ClassFileReader", name := "elements", desc := "(IJI)I" } : Jvm.MethodName)) ∈ lw_all := lw_g (lw_at lw_m4 227 rfl) rfl
theorem q1024 : (Jvm.Cond.code ({ cls := "ClassFileReader", name := "elements", desc := "(IJI)I" } : Jvm.MethodName) prog_1_method_29_code (6 : Nat) (Option.some Jvm.ClassFile.FieldType.int)) ∈ lw_all := lw_g (lw_at lw_m4 228 rfl) rfl
theorem q1025 : (Jvm.Cond.methodLink "ClassFileReader" (214 : Nat) ({ cls := "ClassFileReader", name := "classItem", desc := "()Ljava/lang/String;" } : Jvm.MethodName)) ∈ lw_all := lw_g (lw_at lw_m4 229 rfl) rfl
theorem q1026 : (Jvm.Cond.privateMethod ({ cls := "ClassFileReader", name := "classItem", desc := "()Ljava/lang/String;" } : Jvm.MethodName)) ∈ lw_tbl := lw_at lw_m4 230 rfl
theorem q1027 : (Jvm.Cond.instanceMethod ({ cls := "ClassFileReader", name := "classItem", desc := "()Ljava/lang/String;" } : Jvm.MethodName)) ∈ lw_all := lw_g (lw_at lw_m4 231 rfl) rfl
theorem q1028 : (Jvm.Cond.code ({ cls := "ClassFileReader", name := "classItem", desc := "()Ljava/lang/String;" } : Jvm.MethodName) prog_1_method_20_code (3 : Nat) (Option.some (Jvm.ClassFile.FieldType.object "java/lang/String"))) ∈ lw_all := lw_g (lw_at lw_m4 232 rfl) rfl
theorem q1029 : (Jvm.Cond.methodLink "ClassFileReader" (204 : Nat) ({ cls := "ClassFileReader", name := "innerClasses", desc := "(LClassFileReader$Mirror;IJ)V" } : Jvm.MethodName)) ∈ lw_all := lw_g (lw_at lw_m4 233 rfl) rfl
theorem q1030 : (Jvm.Cond.privateMethod ({ cls := "ClassFileReader", name := "innerClasses", desc := "(LClassFileReader$Mirror;IJ)V" } : Jvm.MethodName)) ∈ lw_tbl := lw_at lw_m4 234 rfl
theorem q1031 : (Jvm.Cond.instanceMethod ({ cls := "ClassFileReader", name := "innerClasses", desc := "(LClassFileReader$Mirror;IJ)V" } : Jvm.MethodName)) ∈ lw_all := lw_g (lw_at lw_m4 235 rfl) rfl
theorem q1032 : (Jvm.Cond.code ({ cls := "ClassFileReader", name := "innerClasses", desc := "(LClassFileReader$Mirror;IJ)V" } : Jvm.MethodName) prog_1_method_31_code (11 : Nat) (Option.none : Option Jvm.ClassFile.FieldType)) ∈ lw_all := lw_g (lw_at lw_m4 236 rfl) rfl
theorem q1033 : (Jvm.Cond.methodLink "ClassFileReader" (220 : Nat) ({ cls := "ClassFileReader", name := "record", desc := "(LClassFileReader$Mirror;IJ)V" } : Jvm.MethodName)) ∈ lw_all := lw_g (lw_at lw_m4 237 rfl) rfl
theorem q1034 : (Jvm.Cond.privateMethod ({ cls := "ClassFileReader", name := "record", desc := "(LClassFileReader$Mirror;IJ)V" } : Jvm.MethodName)) ∈ lw_tbl := lw_at lw_m4 238 rfl
theorem q1035 : (Jvm.Cond.instanceMethod ({ cls := "ClassFileReader", name := "record", desc := "(LClassFileReader$Mirror;IJ)V" } : Jvm.MethodName)) ∈ lw_all := lw_g (lw_at lw_m4 239 rfl) rfl
theorem q1036 : (Jvm.Cond.code ({ cls := "ClassFileReader", name := "record", desc := "(LClassFileReader$Mirror;IJ)V" } : Jvm.MethodName) prog_1_method_32_code (12 : Nat) (Option.none : Option Jvm.ClassFile.FieldType)) ∈ lw_all := lw_g (lw_at lw_m5 0 rfl) rfl
theorem q1037 : (Jvm.Cond.classLink "ClassFileReader" (281 : Nat) "ClassFileReader$Member") ∈ lw_all := lw_g (lw_at lw_m5 1 rfl) rfl
theorem q1039 : (Jvm.Cond.methodLink "ClassFileReader" (283 : Nat) ({ cls := "ClassFileReader$Member", name := "<init>", desc := "(ILjava/lang/String;Ljava/lang/String;)V" } : Jvm.MethodName)) ∈ lw_all := lw_g (lw_at lw_m5 3 rfl) rfl
theorem q1048 : (Jvm.Cond.instanceMethod ({ cls := "ClassFileReader", name := "place", desc := "()I" } : Jvm.MethodName)) ∈ lw_all := lw_g (lw_at lw_m5 12 rfl) rfl
theorem q1049 : (Jvm.Cond.selects "ClassFileReader" ({ cls := "ClassFileReader", name := "place", desc := "()I" } : Jvm.MethodName) ({ cls := "ClassFileReader", name := "place", desc := "()I" } : Jvm.MethodName)) ∈ lw_all := lw_g (lw_at lw_m5 13 rfl) rfl
theorem q1050 : (Jvm.Cond.code ({ cls := "ClassFileReader", name := "place", desc := "()I" } : Jvm.MethodName) prog_1_method_42_code (1 : Nat) (Option.some Jvm.ClassFile.FieldType.int)) ∈ lw_all := lw_g (lw_at lw_m5 14 rfl) rfl
theorem q1052 : (Jvm.Cond.instanceMethod ({ cls := "ClassFileReader", name := "number", desc := "(I)I" } : Jvm.MethodName)) ∈ lw_all := lw_g (lw_at lw_m5 16 rfl) rfl
theorem q1053 : (Jvm.Cond.selects "ClassFileReader" ({ cls := "ClassFileReader", name := "number", desc := "(I)I" } : Jvm.MethodName) ({ cls := "ClassFileReader", name := "number", desc := "(I)I" } : Jvm.MethodName)) ∈ lw_all := lw_g (lw_at lw_m5 17 rfl) rfl
theorem q1054 : (Jvm.Cond.code ({ cls := "ClassFileReader", name := "number", desc := "(I)I" } : Jvm.MethodName) prog_1_method_43_code (2 : Nat) (Option.some Jvm.ClassFile.FieldType.int)) ∈ lw_all := lw_g (lw_at lw_m5 18 rfl) rfl
theorem q1056 : (Jvm.Cond.instanceMethod ({ cls := "ClassFileReader", name := "flags", desc := "(II)I" } : Jvm.MethodName)) ∈ lw_all := lw_g (lw_at lw_m5 20 rfl) rfl
theorem q1057 : (Jvm.Cond.selects "ClassFileReader" ({ cls := "ClassFileReader", name := "flags", desc := "(II)I" } : Jvm.MethodName) ({ cls := "ClassFileReader", name := "flags", desc := "(II)I" } : Jvm.MethodName)) ∈ lw_all := lw_g (lw_at lw_m5 21 rfl) rfl
theorem q1058 : (Jvm.Cond.code ({ cls := "ClassFileReader", name := "flags", desc := "(II)I" } : Jvm.MethodName) prog_1_method_44_code (4 : Nat) (Option.some Jvm.ClassFile.FieldType.int)) ∈ lw_all := lw_g (lw_at lw_m5 22 rfl) rfl
theorem q1059 : (Jvm.Cond.methodLink "ClassFileReader" (408 : Nat) ({ cls := "ClassFileReader$Members", name := "at", desc := "(I)LClassFileReader$Member;" } : Jvm.MethodName)) ∈ lw_all := lw_g (lw_at lw_m5 23 rfl) rfl
theorem q1064 : (Jvm.Cond.instanceMethod ({ cls := "ClassFileReader", name := "text", desc := "(III)I" } : Jvm.MethodName)) ∈ lw_all := lw_g (lw_at lw_m5 28 rfl) rfl
theorem q1065 : (Jvm.Cond.selects "ClassFileReader" ({ cls := "ClassFileReader", name := "text", desc := "(III)I" } : Jvm.MethodName) ({ cls := "ClassFileReader", name := "text", desc := "(III)I" } : Jvm.MethodName)) ∈ lw_all := lw_g (lw_at lw_m5 29 rfl) rfl
theorem q1066 : (Jvm.Cond.code ({ cls := "ClassFileReader", name := "text", desc := "(III)I" } : Jvm.MethodName) prog_1_method_48_code (4 : Nat) (Option.some Jvm.ClassFile.FieldType.int)) ∈ lw_all := lw_g (lw_at lw_m5 30 rfl) rfl
theorem q1067 : (Jvm.Cond.methodLink "ClassFileReader" (421 : Nat) ({ cls := "ClassFileReader", name := "find", desc := "(II)Ljava/lang/String;" } : Jvm.MethodName)) ∈ lw_all := lw_g (lw_at lw_m5 31 rfl) rfl
theorem q1068 : (Jvm.Cond.privateMethod ({ cls := "ClassFileReader", name := "find", desc := "(II)Ljava/lang/String;" } : Jvm.MethodName)) ∈ lw_tbl := lw_at lw_m5 32 rfl
theorem q1069 : (Jvm.Cond.instanceMethod ({ cls := "ClassFileReader", name := "find", desc := "(II)Ljava/lang/String;" } : Jvm.MethodName)) ∈ lw_all := lw_g (lw_at lw_m5 33 rfl) rfl
theorem q1070 : (Jvm.Cond.code ({ cls := "ClassFileReader", name := "find", desc := "(II)Ljava/lang/String;" } : Jvm.MethodName) prog_1_method_46_code (3 : Nat) (Option.some (Jvm.ClassFile.FieldType.object "java/lang/String"))) ∈ lw_all := lw_g (lw_at lw_m5 34 rfl) rfl
theorem q1071 : (Jvm.Cond.methodLink "ClassFileReader" (413 : Nat) ({ cls := "ClassFileReader$Links", name := "at", desc := "(I)Ljava/lang/String;" } : Jvm.MethodName)) ∈ lw_all := lw_g (lw_at lw_m5 35 rfl) rfl
theorem q1075 : (Jvm.Cond.methodLink "ClassFileReader" (416 : Nat) ({ cls := "ClassFileReader", name := "of", desc := "(LClassFileReader$Member;I)Ljava/lang/String;" } : Jvm.MethodName)) ∈ lw_all := lw_g (lw_at lw_m5 39 rfl) rfl
theorem q1076 : (Jvm.Cond.static ({ cls := "ClassFileReader", name := "of", desc := "(LClassFileReader$Member;I)Ljava/lang/String;" } : Jvm.MethodName)) ∈ lw_all := lw_g (lw_at lw_m5 40 rfl) rfl
theorem q1077 : (Jvm.Cond.code ({ cls := "ClassFileReader", name := "of", desc := "(LClassFileReader$Member;I)Ljava/lang/String;" } : Jvm.MethodName) prog_1_method_45_code (2 : Nat) (Option.some (Jvm.ClassFile.FieldType.object "java/lang/String"))) ∈ lw_all := lw_g (lw_at lw_m5 41 rfl) rfl
theorem q1078 : (Jvm.Cond.methodLink "ClassFileReader" (423 : Nat) ({ cls := "ClassFileReader", name := "character", desc := "(Ljava/lang/String;I)I" } : Jvm.MethodName)) ∈ lw_all := lw_g (lw_at lw_m5 42 rfl) rfl
theorem q1079 : (Jvm.Cond.static ({ cls := "ClassFileReader", name := "character", desc := "(Ljava/lang/String;I)I" } : Jvm.MethodName)) ∈ lw_all := lw_g (lw_at lw_m5 43 rfl) rfl
theorem q1080 : (Jvm.Cond.code ({ cls := "ClassFileReader", name := "character", desc := "(Ljava/lang/String;I)I" } : Jvm.MethodName) prog_1_method_47_code (2 : Nat) (Option.some Jvm.ClassFile.FieldType.int)) ∈ lw_all := lw_g (lw_at lw_m5 44 rfl) rfl
theorem q1082 : (Jvm.Cond.instanceMethod ({ cls := "ClassFileReader", name := "exceptions", desc := "(I)I" } : Jvm.MethodName)) ∈ lw_all := lw_g (lw_at lw_m5 46 rfl) rfl
theorem q1083 : (Jvm.Cond.selects "ClassFileReader" ({ cls := "ClassFileReader", name := "exceptions", desc := "(I)I" } : Jvm.MethodName) ({ cls := "ClassFileReader", name := "exceptions", desc := "(I)I" } : Jvm.MethodName)) ∈ lw_all := lw_g (lw_at lw_m5 47 rfl) rfl
theorem q1084 : (Jvm.Cond.code ({ cls := "ClassFileReader", name := "exceptions", desc := "(I)I" } : Jvm.MethodName) prog_1_method_50_code (3 : Nat) (Option.some Jvm.ClassFile.FieldType.int)) ∈ lw_all := lw_g (lw_at lw_m5 48 rfl) rfl
theorem q1085 : (Jvm.Cond.methodLink "ClassFileReader" (426 : Nat) ({ cls := "ClassFileReader", name := "method", desc := "(I)LClassFileReader$Method;" } : Jvm.MethodName)) ∈ lw_all := lw_g (lw_at lw_m5 49 rfl) rfl
theorem q1086 : (Jvm.Cond.privateMethod ({ cls := "ClassFileReader", name := "method", desc := "(I)LClassFileReader$Method;" } : Jvm.MethodName)) ∈ lw_tbl := lw_at lw_m5 50 rfl
theorem q1087 : (Jvm.Cond.instanceMethod ({ cls := "ClassFileReader", name := "method", desc := "(I)LClassFileReader$Method;" } : Jvm.MethodName)) ∈ lw_all := lw_g (lw_at lw_m5 51 rfl) rfl
theorem q1088 : (Jvm.Cond.code ({ cls := "ClassFileReader", name := "method", desc := "(I)LClassFileReader$Method;" } : Jvm.MethodName) prog_1_method_49_code (3 : Nat) (Option.some (Jvm.ClassFile.FieldType.object "ClassFileReader$Method"))) ∈ lw_all := lw_g (lw_at lw_m5 52 rfl) rfl
theorem q1090 : (Jvm.Cond.instanceMethod ({ cls := "ClassFileReader", name := "exception", desc := "(III)I" } : Jvm.MethodName)) ∈ lw_all := lw_g (lw_at lw_m5 54 rfl) rfl
theorem q1091 : (Jvm.Cond.selects "ClassFileReader" ({ cls := "ClassFileReader", name := "exception", desc := "(III)I" } : Jvm.MethodName) ({ cls := "ClassFileReader", name := "exception", desc := "(III)I" } : Jvm.MethodName)) ∈ lw_all := lw_g (lw_at lw_m5 55 rfl) rfl
theorem q1092 : (Jvm.Cond.code ({ cls := "ClassFileReader", name := "exception", desc := "(III)I" } : Jvm.MethodName) prog_1_method_51_code (5 : Nat) (Option.some Jvm.ClassFile.FieldType.int)) ∈ lw_all := lw_g (lw_at lw_m5 56 rfl) rfl
theorem q1094 : (Jvm.Cond.instanceMethod ({ cls := "ClassFileReader", name := "constant", desc := "(I)J" } : Jvm.MethodName)) ∈ lw_all := lw_g (lw_at lw_m5 58 rfl) rfl
theorem q1095 : (Jvm.Cond.selects "ClassFileReader" ({ cls := "ClassFileReader", name := "constant", desc := "(I)J" } : Jvm.MethodName) ({ cls := "ClassFileReader", name := "constant", desc := "(I)J" } : Jvm.MethodName)) ∈ lw_all := lw_g (lw_at lw_m5 59 rfl) rfl
theorem q1096 : (Jvm.Cond.code ({ cls := "ClassFileReader", name := "constant", desc := "(I)J" } : Jvm.MethodName) prog_1_method_52_code (3 : Nat) (Option.some Jvm.ClassFile.FieldType.long)) ∈ lw_all := lw_g (lw_at lw_m5 60 rfl) rfl
theorem q1098 : (Jvm.Cond.instanceMethod ({ cls := "ClassFileReader", name := "deprecated", desc := "(II)I" } : Jvm.MethodName)) ∈ lw_all := lw_g (lw_at lw_m5 62 rfl) rfl
theorem q1099 : (Jvm.Cond.selects "ClassFileReader" ({ cls := "ClassFileReader", name := "deprecated", desc := "(II)I" } : Jvm.MethodName) ({ cls := "ClassFileReader", name := "deprecated", desc := "(II)I" } : Jvm.MethodName)) ∈ lw_all := lw_g (lw_at lw_m5 63 rfl) rfl
theorem q1100 : (Jvm.Cond.code ({ cls := "ClassFileReader", name := "deprecated", desc := "(II)I" } : Jvm.MethodName) prog_1_method_53_code (4 : Nat) (Option.some Jvm.ClassFile.FieldType.int)) ∈ lw_all := lw_g (lw_at lw_m5 64 rfl) rfl
theorem in_X0 : ∀ w ∈ wsX00, w ∈ lw_all := lw_in wsX00 [160, 162, 164, 166, 168, 170, 172, 174, 176] (by decide +kernel) (by decide +kernel)
def RX1 : String := "ClassFileReaderModel"
def TX1 : u_T := fun k => match k with
  | 0 => ("ClassFileReaderModel", "bytes", "[I", true)
  | 1 => ("ClassFileReaderModel", "size", "I", false)
  | 2 => ("ClassFileReaderModel", "notes", "[I", true)
  | 3 => ("ClassFileReaderModel", "mirror", "[I", true)
  | 4 => ("ClassFileReaderModel", "kept", "[I", true)
  | 5 => ("ClassFileReaderModel", "any", "Z", false)
  | 6 => ("ClassFileReaderModel", "mirrored", "Z", false)
  | 7 => ("ClassFileReaderModel", "at", "I", false)
  | 8 => ("ClassFileReaderModel", "code", "I", false)
  | _ => ("ClassFileReaderModel", "wrong", "I", false)
def tyX1 : Nat → FieldType := fun k => match k with
  | 0 => .array .int
  | 1 => .int
  | 2 => .array .int
  | 3 => .array .int
  | 4 => .array .int
  | 5 => .boolean
  | 6 => .boolean
  | 7 => .int
  | 8 => .int
  | _ => .int
abbrev wsX10 : List Cond := u_ws RX1 TX1 10
theorem nmX1 : ∀ a, a < 10 → ∀ b, b < 10 → a ≠ b → (TX1 a).2.1 ≠ (TX1 b).2.1 := by decide +kernel
theorem tyX1_ok : ∀ k, k < 10 → parseFieldDescriptor (TX1 k).2.2.1 = some (tyX1 k) := by decide +kernel
abbrev cX1_init : ByteArray := prog_17_method_1_code
def yX1_init : MethodName := ⟨RX1, "<init>", "()V"⟩
abbrev cX1_put : ByteArray := prog_17_method_2_code
def yX1_put : MethodName := ⟨RX1, "put", "(JI)I"⟩
abbrev cX1_patch : ByteArray := prog_17_method_3_code
def yX1_patch : MethodName := ⟨RX1, "patch", "(II)I"⟩
abbrev cX1_drop : ByteArray := prog_17_method_4_code
def yX1_drop : MethodName := ⟨RX1, "drop", "()I"⟩
abbrev cX1_read : ByteArray := prog_17_method_51_code
def yX1_read : MethodName := ⟨RX1, "read", "()I"⟩
abbrev cX1_file : ByteArray := prog_17_method_50_code
def yX1_file : MethodName := ⟨RX1, "file", "()V"⟩
abbrev cX1_u4 : ByteArray := prog_17_method_27_code
def yX1_u4 : MethodName := ⟨RX1, "u4", "()J"⟩
abbrev cX1_room : ByteArray := prog_17_method_24_code
def yX1_room : MethodName := ⟨RX1, "room", "(J)Z"⟩
abbrev cX1_fail : ByteArray := prog_17_method_23_code
def yX1_fail : MethodName := ⟨RX1, "fail", "(II)V"⟩
abbrev cX1_u2 : ByteArray := prog_17_method_26_code
def yX1_u2 : MethodName := ⟨RX1, "u2", "()I"⟩
abbrev cX1_pool : ByteArray := prog_17_method_31_code
def yX1_pool : MethodName := ⟨RX1, "pool", "()V"⟩
abbrev cX1_entry : ByteArray := prog_17_method_29_code
def yX1_entry : MethodName := ⟨RX1, "entry", "(I)I"⟩
abbrev cX1_u1 : ByteArray := prog_17_method_25_code
def yX1_u1 : MethodName := ⟨RX1, "u1", "()I"⟩
abbrev cX1_look : ByteArray := prog_17_method_30_code
def yX1_look : MethodName := ⟨RX1, "look", "(I)V"⟩
abbrev cX1_tag : ByteArray := prog_17_method_8_code
def yX1_tag : MethodName := ⟨RX1, "tag", "(I)I"⟩
abbrev cX1_note : ByteArray := prog_17_method_7_code
def yX1_note : MethodName := ⟨RX1, "note", "(I)I"⟩
abbrev cX1_byteAt : ByteArray := prog_17_method_5_code
def yX1_byteAt : MethodName := ⟨RX1, "byteAt", "(I)I"⟩
abbrev cX1_operand : ByteArray := prog_17_method_12_code
def yX1_operand : MethodName := ⟨RX1, "operand", "(I)I"⟩
abbrev cX1_two : ByteArray := prog_17_method_6_code
def yX1_two : MethodName := ⟨RX1, "two", "(I)I"⟩
abbrev cX1_isClassName : ByteArray := prog_17_method_21_code
def yX1_isClassName : MethodName := ⟨RX1, "isClassName", "(I)Z"⟩
abbrev cX1_start : ByteArray := prog_17_method_9_code
def yX1_start : MethodName := ⟨RX1, "start", "(I)I"⟩
abbrev cX1_count : ByteArray := prog_17_method_10_code
def yX1_count : MethodName := ⟨RX1, "count", "(I)I"⟩
abbrev cX1_className : ByteArray := prog_17_method_17_code
def yX1_className : MethodName := ⟨RX1, "className", "(II)Z"⟩
abbrev cX1_plain : ByteArray := prog_17_method_16_code
def yX1_plain : MethodName := ⟨RX1, "plain", "(I)Z"⟩
abbrev cX1_character : ByteArray := prog_17_method_11_code
def yX1_character : MethodName := ⟨RX1, "character", "(II)I"⟩
abbrev cX1_isField : ByteArray := prog_17_method_19_code
def yX1_isField : MethodName := ⟨RX1, "isField", "(I)Z"⟩
abbrev cX1_fieldType : ByteArray := prog_17_method_18_code
def yX1_fieldType : MethodName := ⟨RX1, "fieldType", "(II)I"⟩
abbrev cX1_isMember : ByteArray := prog_17_method_22_code
def yX1_isMember : MethodName := ⟨RX1, "isMember", "(I)Z"⟩
abbrev cX1_known : ByteArray := prog_17_method_14_code
def yX1_known : MethodName := ⟨RX1, "known", "(I)I"⟩
abbrev cX1_same : ByteArray := prog_17_method_13_code
def yX1_same : MethodName := ⟨RX1, "same", "(IIJJJ)Z"⟩
abbrev cX1_isMethod : ByteArray := prog_17_method_20_code
def yX1_isMethod : MethodName := ⟨RX1, "isMethod", "(I)Z"⟩
abbrev cX1_badFile : ByteArray := prog_17_method_37_code
def yX1_badFile : MethodName := ⟨RX1, "badFile", "(I)Z"⟩
abbrev cX1_has : ByteArray := prog_17_method_35_code
def yX1_has : MethodName := ⟨RX1, "has", "(II)Z"⟩
abbrev cX1_named : ByteArray := prog_17_method_34_code
def yX1_named : MethodName := ⟨RX1, "named", "()I"⟩
abbrev cX1_classRef : ByteArray := prog_17_method_32_code
def yX1_classRef : MethodName := ⟨RX1, "classRef", "(Z)I"⟩
abbrev cX1_index : ByteArray := prog_17_method_28_code
def yX1_index : MethodName := ⟨RX1, "index", "(IZ)I"⟩
abbrev cX1_interfaces : ByteArray := prog_17_method_33_code
def yX1_interfaces : MethodName := ⟨RX1, "interfaces", "()V"⟩
abbrev cX1_alike : ByteArray := prog_17_method_15_code
def yX1_alike : MethodName := ⟨RX1, "alike", "(II)Z"⟩
abbrev cX1_members : ByteArray := prog_17_method_42_code
def yX1_members : MethodName := ⟨RX1, "members", "(II)V"⟩
abbrev cX1_few : ByteArray := prog_17_method_41_code
def yX1_few : MethodName := ⟨RX1, "few", "()I"⟩
abbrev cX1_member : ByteArray := prog_17_method_40_code
def yX1_member : MethodName := ⟨RX1, "member", "(II)V"⟩
abbrev cX1_judge : ByteArray := prog_17_method_39_code
def yX1_judge : MethodName := ⟨RX1, "judge", "(IIII)V"⟩
abbrev cX1_badFlags : ByteArray := prog_17_method_38_code
def yX1_badFlags : MethodName := ⟨RX1, "badFlags", "(III)Z"⟩
abbrev cX1_single : ByteArray := prog_17_method_36_code
def yX1_single : MethodName := ⟨RX1, "single", "(I)Z"⟩
abbrev cX1_table : ByteArray := prog_17_method_44_code
def yX1_table : MethodName := ⟨RX1, "table", "(II)V"⟩
abbrev cX1_knows : ByteArray := prog_17_method_43_code
def yX1_knows : MethodName := ⟨RX1, "knows", "(II)Z"⟩
abbrev cX1_parts : ByteArray := prog_17_method_48_code
def yX1_parts : MethodName := ⟨RX1, "parts", "(JI)V"⟩
abbrev cX1_part : ByteArray := prog_17_method_49_code
def yX1_part : MethodName := ⟨RX1, "part", "(I)V"⟩
abbrev cX1_fixed : ByteArray := prog_17_method_45_code
def yX1_fixed : MethodName := ⟨RX1, "fixed", "(IIJI)V"⟩
abbrev cX1_constantKind : ByteArray := prog_17_method_46_code
def yX1_constantKind : MethodName := ⟨RX1, "constantKind", "(I)I"⟩
abbrev cX1_list : ByteArray := prog_17_method_47_code
def yX1_list : MethodName := ⟨RX1, "list", "(IIJI)V"⟩
abbrev cX1_place : ByteArray := prog_17_method_52_code
def yX1_place : MethodName := ⟨RX1, "place", "()I"⟩
abbrev cX1_number : ByteArray := prog_17_method_53_code
def yX1_number : MethodName := ⟨RX1, "number", "(I)I"⟩
abbrev cX1_flags : ByteArray := prog_17_method_56_code
def yX1_flags : MethodName := ⟨RX1, "flags", "(II)I"⟩
abbrev cX1_element : ByteArray := prog_17_method_55_code
def yX1_element : MethodName := ⟨RX1, "element", "(III)I"⟩
abbrev cX1_member2 : ByteArray := prog_17_method_54_code
def yX1_member2 : MethodName := ⟨RX1, "member2", "(II)I"⟩
abbrev cX1_text : ByteArray := prog_17_method_61_code
def yX1_text : MethodName := ⟨RX1, "text", "(III)I"⟩
abbrev cX1_textIndex : ByteArray := prog_17_method_59_code
def yX1_textIndex : MethodName := ⟨RX1, "textIndex", "(II)I"⟩
abbrev cX1_classText : ByteArray := prog_17_method_57_code
def yX1_classText : MethodName := ⟨RX1, "classText", "(I)I"⟩
abbrev cX1_elementText : ByteArray := prog_17_method_58_code
def yX1_elementText : MethodName := ⟨RX1, "elementText", "(IIII)I"⟩
abbrev cX1_characterOf : ByteArray := prog_17_method_60_code
def yX1_characterOf : MethodName := ⟨RX1, "characterOf", "(II)I"⟩
abbrev cX1_exceptions : ByteArray := prog_17_method_62_code
def yX1_exceptions : MethodName := ⟨RX1, "exceptions", "(I)I"⟩
abbrev cX1_exception : ByteArray := prog_17_method_63_code
def yX1_exception : MethodName := ⟨RX1, "exception", "(III)I"⟩
abbrev cX1_constant : ByteArray := prog_17_method_65_code
def yX1_constant : MethodName := ⟨RX1, "constant", "(I)J"⟩
abbrev cX1_four : ByteArray := prog_17_method_64_code
def yX1_four : MethodName := ⟨RX1, "four", "(I)J"⟩
abbrev cX1_deprecated : ByteArray := prog_17_method_66_code
def yX1_deprecated : MethodName := ⟨RX1, "deprecated", "(II)I"⟩
theorem q82 : (Jvm.Cond.initialized "ClassFileReaderModel") ∈ lw_all := lw_g (lw_at lw_m1 6 rfl) rfl
theorem q1102 : (Jvm.Cond.instantiable "ClassFileReaderModel" (10 : Nat)) ∈ lw_all := lw_g (lw_at lw_m5 66 rfl) rfl
theorem q1104 : (Jvm.Cond.instanceMethod ({ cls := "ClassFileReaderModel", name := "<init>", desc := "()V" } : Jvm.MethodName)) ∈ lw_all := lw_g (lw_at lw_m5 68 rfl) rfl
theorem q1105 : (Jvm.Cond.code ({ cls := "ClassFileReaderModel", name := "<init>", desc := "()V" } : Jvm.MethodName) prog_17_method_1_code (1 : Nat) (Option.none : Option Jvm.ClassFile.FieldType)) ∈ lw_all := lw_g (lw_at lw_m5 69 rfl) rfl
theorem q1106 : (Jvm.Cond.methodLink "ClassFileReaderModel" (1 : Nat) ({ cls := "java/lang/Object", name := "<init>", desc := "()V" } : Jvm.MethodName)) ∈ lw_all := lw_g (lw_at lw_m5 70 rfl) rfl
theorem q1107 : (Jvm.Cond.fieldLink "ClassFileReaderModel" (7 : Nat) "ClassFileReaderModel" "bytes" "[I") ∈ lw_all := lw_g (lw_at lw_m5 71 rfl) rfl
theorem q1108 : (Jvm.Cond.fieldLink "ClassFileReaderModel" (26 : Nat) "ClassFileReaderModel" "size" "I") ∈ lw_all := lw_g (lw_at lw_m5 72 rfl) rfl
theorem q1109 : (Jvm.Cond.fieldLink "ClassFileReaderModel" (13 : Nat) "ClassFileReaderModel" "notes" "[I") ∈ lw_all := lw_g (lw_at lw_m5 73 rfl) rfl
theorem q1110 : (Jvm.Cond.fieldLink "ClassFileReaderModel" (16 : Nat) "ClassFileReaderModel" "mirror" "[I") ∈ lw_all := lw_g (lw_at lw_m5 74 rfl) rfl
theorem q1111 : (Jvm.Cond.fieldLink "ClassFileReaderModel" (19 : Nat) "ClassFileReaderModel" "kept" "[I") ∈ lw_all := lw_g (lw_at lw_m5 75 rfl) rfl
theorem q1112 : (Jvm.Cond.fieldLink "ClassFileReaderModel" (249 : Nat) "ClassFileReaderModel" "any" "Z") ∈ lw_all := lw_g (lw_at lw_m5 76 rfl) rfl
theorem q1113 : (Jvm.Cond.fieldLink "ClassFileReaderModel" (31 : Nat) "ClassFileReaderModel" "mirrored" "Z") ∈ lw_all := lw_g (lw_at lw_m5 77 rfl) rfl
theorem q1114 : (Jvm.Cond.fieldLink "ClassFileReaderModel" (119 : Nat) "ClassFileReaderModel" "at" "I") ∈ lw_all := lw_g (lw_at lw_m5 78 rfl) rfl
theorem q1115 : (Jvm.Cond.fieldLink "ClassFileReaderModel" (116 : Nat) "ClassFileReaderModel" "code" "I") ∈ lw_all := lw_g (lw_at lw_m5 79 rfl) rfl
theorem q1116 : (Jvm.Cond.fieldLink "ClassFileReaderModel" (22 : Nat) "ClassFileReaderModel" "wrong" "I") ∈ lw_all := lw_g (lw_at lw_m5 80 rfl) rfl
theorem q1117 : (Jvm.Cond.laysFinal "ClassFileReaderModel" "ClassFileReaderModel" "bytes" "[I") ∈ lw_all := lw_g (lw_at lw_m5 81 rfl) rfl
theorem q1118 : (Jvm.Cond.soleField "ClassFileReaderModel" "bytes") ∈ lw_all := lw_g (lw_at lw_m5 82 rfl) rfl
theorem q1119 : (Jvm.Cond.lays "ClassFileReaderModel" "ClassFileReaderModel" "size" "I") ∈ lw_all := lw_g (lw_at lw_m5 83 rfl) rfl
theorem q1120 : (Jvm.Cond.soleField "ClassFileReaderModel" "size") ∈ lw_all := lw_g (lw_at lw_m5 84 rfl) rfl
theorem q1121 : (Jvm.Cond.laysFinal "ClassFileReaderModel" "ClassFileReaderModel" "notes" "[I") ∈ lw_all := lw_g (lw_at lw_m5 85 rfl) rfl
theorem q1122 : (Jvm.Cond.soleField "ClassFileReaderModel" "notes") ∈ lw_all := lw_g (lw_at lw_m5 86 rfl) rfl
theorem q1123 : (Jvm.Cond.laysFinal "ClassFileReaderModel" "ClassFileReaderModel" "mirror" "[I") ∈ lw_all := lw_g (lw_at lw_m5 87 rfl) rfl
theorem q1124 : (Jvm.Cond.soleField "ClassFileReaderModel" "mirror") ∈ lw_all := lw_g (lw_at lw_m5 88 rfl) rfl
theorem q1125 : (Jvm.Cond.laysFinal "ClassFileReaderModel" "ClassFileReaderModel" "kept" "[I") ∈ lw_all := lw_g (lw_at lw_m5 89 rfl) rfl
theorem q1126 : (Jvm.Cond.soleField "ClassFileReaderModel" "kept") ∈ lw_all := lw_g (lw_at lw_m5 90 rfl) rfl
theorem q1127 : (Jvm.Cond.lays "ClassFileReaderModel" "ClassFileReaderModel" "any" "Z") ∈ lw_all := lw_g (lw_at lw_m5 91 rfl) rfl
theorem q1128 : (Jvm.Cond.soleField "ClassFileReaderModel" "any") ∈ lw_all := lw_g (lw_at lw_m5 92 rfl) rfl
theorem q1129 : (Jvm.Cond.lays "ClassFileReaderModel" "ClassFileReaderModel" "mirrored" "Z") ∈ lw_all := lw_g (lw_at lw_m5 93 rfl) rfl
theorem q1130 : (Jvm.Cond.soleField "ClassFileReaderModel" "mirrored") ∈ lw_all := lw_g (lw_at lw_m5 94 rfl) rfl
theorem q1131 : (Jvm.Cond.lays "ClassFileReaderModel" "ClassFileReaderModel" "at" "I") ∈ lw_all := lw_g (lw_at lw_m5 95 rfl) rfl
theorem q1132 : (Jvm.Cond.soleField "ClassFileReaderModel" "at") ∈ lw_all := lw_g (lw_at lw_m5 96 rfl) rfl
theorem q1133 : (Jvm.Cond.lays "ClassFileReaderModel" "ClassFileReaderModel" "code" "I") ∈ lw_all := lw_g (lw_at lw_m5 97 rfl) rfl
theorem q1134 : (Jvm.Cond.soleField "ClassFileReaderModel" "code") ∈ lw_all := lw_g (lw_at lw_m5 98 rfl) rfl
theorem q1135 : (Jvm.Cond.lays "ClassFileReaderModel" "ClassFileReaderModel" "wrong" "I") ∈ lw_all := lw_g (lw_at lw_m5 99 rfl) rfl
theorem q1136 : (Jvm.Cond.soleField "ClassFileReaderModel" "wrong") ∈ lw_all := lw_g (lw_at lw_m5 100 rfl) rfl
theorem q1137 : (Jvm.Cond.superclass "ClassFileReaderModel" "java/lang/Object") ∈ lw_all := lw_g (lw_at lw_m5 101 rfl) rfl
theorem q1139 : (Jvm.Cond.instanceMethod ({ cls := "ClassFileReaderModel", name := "put", desc := "(JI)I" } : Jvm.MethodName)) ∈ lw_all := lw_g (lw_at lw_m5 103 rfl) rfl
theorem q1140 : (Jvm.Cond.selects "ClassFileReaderModel" ({ cls := "ClassFileReaderModel", name := "put", desc := "(JI)I" } : Jvm.MethodName) ({ cls := "ClassFileReaderModel", name := "put", desc := "(JI)I" } : Jvm.MethodName)) ∈ lw_all := lw_g (lw_at lw_m5 104 rfl) rfl
theorem q1141 : (Jvm.Cond.code ({ cls := "ClassFileReaderModel", name := "put", desc := "(JI)I" } : Jvm.MethodName) prog_17_method_2_code (5 : Nat) (Option.some Jvm.ClassFile.FieldType.int)) ∈ lw_all := lw_g (lw_at lw_m5 105 rfl) rfl
theorem q1142 : (Jvm.Cond.constantLong "ClassFileReaderModel" (29 : Nat) (255 : Int64)) ∈ lw_all := lw_g (lw_at lw_m5 106 rfl) rfl
theorem q1144 : (Jvm.Cond.instanceMethod ({ cls := "ClassFileReaderModel", name := "patch", desc := "(II)I" } : Jvm.MethodName)) ∈ lw_all := lw_g (lw_at lw_m5 108 rfl) rfl
theorem q1145 : (Jvm.Cond.selects "ClassFileReaderModel" ({ cls := "ClassFileReaderModel", name := "patch", desc := "(II)I" } : Jvm.MethodName) ({ cls := "ClassFileReaderModel", name := "patch", desc := "(II)I" } : Jvm.MethodName)) ∈ lw_all := lw_g (lw_at lw_m5 109 rfl) rfl
theorem q1146 : (Jvm.Cond.code ({ cls := "ClassFileReaderModel", name := "patch", desc := "(II)I" } : Jvm.MethodName) prog_17_method_3_code (4 : Nat) (Option.some Jvm.ClassFile.FieldType.int)) ∈ lw_all := lw_g (lw_at lw_m5 110 rfl) rfl
theorem q1148 : (Jvm.Cond.instanceMethod ({ cls := "ClassFileReaderModel", name := "drop", desc := "()I" } : Jvm.MethodName)) ∈ lw_all := lw_g (lw_at lw_m5 112 rfl) rfl
theorem q1149 : (Jvm.Cond.selects "ClassFileReaderModel" ({ cls := "ClassFileReaderModel", name := "drop", desc := "()I" } : Jvm.MethodName) ({ cls := "ClassFileReaderModel", name := "drop", desc := "()I" } : Jvm.MethodName)) ∈ lw_all := lw_g (lw_at lw_m5 113 rfl) rfl
theorem q1150 : (Jvm.Cond.code ({ cls := "ClassFileReaderModel", name := "drop", desc := "()I" } : Jvm.MethodName) prog_17_method_4_code (2 : Nat) (Option.some Jvm.ClassFile.FieldType.int)) ∈ lw_all := lw_g (lw_at lw_m5 114 rfl) rfl
theorem q1152 : (Jvm.Cond.instanceMethod ({ cls := "ClassFileReaderModel", name := "read", desc := "()I" } : Jvm.MethodName)) ∈ lw_all := lw_g (lw_at lw_m5 116 rfl) rfl
theorem q1153 : (Jvm.Cond.selects "ClassFileReaderModel" ({ cls := "ClassFileReaderModel", name := "read", desc := "()I" } : Jvm.MethodName) ({ cls := "ClassFileReaderModel", name := "read", desc := "()I" } : Jvm.MethodName)) ∈ lw_all := lw_g (lw_at lw_m5 117 rfl) rfl
theorem q1154 : (Jvm.Cond.code ({ cls := "ClassFileReaderModel", name := "read", desc := "()I" } : Jvm.MethodName) prog_17_method_51_code (2 : Nat) (Option.some Jvm.ClassFile.FieldType.int)) ∈ lw_all := lw_g (lw_at lw_m5 118 rfl) rfl
theorem q1155 : (Jvm.Cond.methodLink "ClassFileReaderModel" (246 : Nat) ({ cls := "ClassFileReaderModel", name := "file", desc := "()V" } : Jvm.MethodName)) ∈ lw_all := lw_g (lw_at lw_m5 119 rfl) rfl
theorem q1156 : (Jvm.Cond.privateMethod ({ cls := "ClassFileReaderModel", name := "file", desc := "()V" } : Jvm.MethodName)) ∈ lw_tbl := lw_at lw_m5 120 rfl
theorem q1157 : (Jvm.Cond.instanceMethod ({ cls := "ClassFileReaderModel", name := "file", desc := "()V" } : Jvm.MethodName)) ∈ lw_all := lw_g (lw_at lw_m5 121 rfl) rfl
theorem q1158 : (Jvm.Cond.code ({ cls := "ClassFileReaderModel", name := "file", desc := "()V" } : Jvm.MethodName) prog_17_method_50_code (2 : Nat) (Option.none : Option Jvm.ClassFile.FieldType)) ∈ lw_all := lw_g (lw_at lw_m5 122 rfl) rfl
theorem q1159 : (Jvm.Cond.methodLink "ClassFileReaderModel" (144 : Nat) ({ cls := "ClassFileReaderModel", name := "u4", desc := "()J" } : Jvm.MethodName)) ∈ lw_all := lw_g (lw_at lw_m5 123 rfl) rfl
theorem q1160 : (Jvm.Cond.privateMethod ({ cls := "ClassFileReaderModel", name := "u4", desc := "()J" } : Jvm.MethodName)) ∈ lw_tbl := lw_at lw_m5 124 rfl
theorem q1161 : (Jvm.Cond.instanceMethod ({ cls := "ClassFileReaderModel", name := "u4", desc := "()J" } : Jvm.MethodName)) ∈ lw_all := lw_g (lw_at lw_m5 125 rfl) rfl
theorem q1162 : (Jvm.Cond.code ({ cls := "ClassFileReaderModel", name := "u4", desc := "()J" } : Jvm.MethodName) prog_17_method_27_code (1 : Nat) (Option.some Jvm.ClassFile.FieldType.long)) ∈ lw_all := lw_g (lw_at lw_m5 126 rfl) rfl
theorem q1163 : (Jvm.Cond.constantLong "ClassFileReaderModel" (132 : Nat) (4 : Int64)) ∈ lw_all := lw_g (lw_at lw_m5 127 rfl) rfl
theorem q1164 : (Jvm.Cond.methodLink "ClassFileReaderModel" (126 : Nat) ({ cls := "ClassFileReaderModel", name := "room", desc := "(J)Z" } : Jvm.MethodName)) ∈ lw_all := lw_g (lw_at lw_m5 128 rfl) rfl
theorem q1165 : (Jvm.Cond.privateMethod ({ cls := "ClassFileReaderModel", name := "room", desc := "(J)Z" } : Jvm.MethodName)) ∈ lw_tbl := lw_at lw_m5 129 rfl
theorem q1166 : (Jvm.Cond.instanceMethod ({ cls := "ClassFileReaderModel", name := "room", desc := "(J)Z" } : Jvm.MethodName)) ∈ lw_all := lw_g (lw_at lw_m5 130 rfl) rfl
theorem q1167 : (Jvm.Cond.code ({ cls := "ClassFileReaderModel", name := "room", desc := "(J)Z" } : Jvm.MethodName) prog_17_method_24_code (3 : Nat) (Option.some Jvm.ClassFile.FieldType.boolean)) ∈ lw_all := lw_g (lw_at lw_m5 131 rfl) rfl
theorem q1168 : (Jvm.Cond.methodLink "ClassFileReaderModel" (122 : Nat) ({ cls := "ClassFileReaderModel", name := "fail", desc := "(II)V" } : Jvm.MethodName)) ∈ lw_all := lw_g (lw_at lw_m5 132 rfl) rfl
theorem q1169 : (Jvm.Cond.privateMethod ({ cls := "ClassFileReaderModel", name := "fail", desc := "(II)V" } : Jvm.MethodName)) ∈ lw_tbl := lw_at lw_m5 133 rfl
theorem q1170 : (Jvm.Cond.instanceMethod ({ cls := "ClassFileReaderModel", name := "fail", desc := "(II)V" } : Jvm.MethodName)) ∈ lw_all := lw_g (lw_at lw_m5 134 rfl) rfl
theorem q1171 : (Jvm.Cond.code ({ cls := "ClassFileReaderModel", name := "fail", desc := "(II)V" } : Jvm.MethodName) prog_17_method_23_code (3 : Nat) (Option.none : Option Jvm.ClassFile.FieldType)) ∈ lw_all := lw_g (lw_at lw_m5 135 rfl) rfl
theorem q1172 : (Jvm.Cond.constantLong "ClassFileReaderModel" (232 : Nat) (3405691582 : Int64)) ∈ lw_all := lw_g (lw_at lw_m5 136 rfl) rfl
theorem q1173 : (Jvm.Cond.methodLink "ClassFileReaderModel" (134 : Nat) ({ cls := "ClassFileReaderModel", name := "u2", desc := "()I" } : Jvm.MethodName)) ∈ lw_all := lw_g (lw_at lw_m5 137 rfl) rfl
theorem q1174 : (Jvm.Cond.privateMethod ({ cls := "ClassFileReaderModel", name := "u2", desc := "()I" } : Jvm.MethodName)) ∈ lw_tbl := lw_at lw_m5 138 rfl
theorem q1175 : (Jvm.Cond.instanceMethod ({ cls := "ClassFileReaderModel", name := "u2", desc := "()I" } : Jvm.MethodName)) ∈ lw_all := lw_g (lw_at lw_m5 139 rfl) rfl
theorem q1176 : (Jvm.Cond.code ({ cls := "ClassFileReaderModel", name := "u2", desc := "()I" } : Jvm.MethodName) prog_17_method_26_code (1 : Nat) (Option.some Jvm.ClassFile.FieldType.int)) ∈ lw_all := lw_g (lw_at lw_m5 140 rfl) rfl
theorem q1177 : (Jvm.Cond.constantLong "ClassFileReaderModel" (130 : Nat) (2 : Int64)) ∈ lw_all := lw_g (lw_at lw_m5 141 rfl) rfl
theorem q1178 : (Jvm.Cond.methodLink "ClassFileReaderModel" (234 : Nat) ({ cls := "ClassFileReaderModel", name := "pool", desc := "()V" } : Jvm.MethodName)) ∈ lw_all := lw_g (lw_at lw_m5 142 rfl) rfl
theorem q1179 : (Jvm.Cond.privateMethod ({ cls := "ClassFileReaderModel", name := "pool", desc := "()V" } : Jvm.MethodName)) ∈ lw_tbl := lw_at lw_m5 143 rfl
theorem q1180 : (Jvm.Cond.instanceMethod ({ cls := "ClassFileReaderModel", name := "pool", desc := "()V" } : Jvm.MethodName)) ∈ lw_all := lw_g (lw_at lw_m5 144 rfl) rfl
theorem q1181 : (Jvm.Cond.code ({ cls := "ClassFileReaderModel", name := "pool", desc := "()V" } : Jvm.MethodName) prog_17_method_31_code (3 : Nat) (Option.none : Option Jvm.ClassFile.FieldType)) ∈ lw_all := lw_g (lw_at lw_m5 145 rfl) rfl
theorem q1182 : (Jvm.Cond.methodLink "ClassFileReaderModel" (166 : Nat) ({ cls := "ClassFileReaderModel", name := "entry", desc := "(I)I" } : Jvm.MethodName)) ∈ lw_all := lw_g (lw_at lw_m5 146 rfl) rfl
theorem q1183 : (Jvm.Cond.privateMethod ({ cls := "ClassFileReaderModel", name := "entry", desc := "(I)I" } : Jvm.MethodName)) ∈ lw_tbl := lw_at lw_m5 147 rfl
theorem q1184 : (Jvm.Cond.instanceMethod ({ cls := "ClassFileReaderModel", name := "entry", desc := "(I)I" } : Jvm.MethodName)) ∈ lw_all := lw_g (lw_at lw_m5 148 rfl) rfl
theorem q1185 : (Jvm.Cond.code ({ cls := "ClassFileReaderModel", name := "entry", desc := "(I)I" } : Jvm.MethodName) prog_17_method_29_code (7 : Nat) (Option.some Jvm.ClassFile.FieldType.int)) ∈ lw_all := lw_g (lw_at lw_m5 149 rfl) rfl
theorem q1186 : (Jvm.Cond.methodLink "ClassFileReaderModel" (141 : Nat) ({ cls := "ClassFileReaderModel", name := "u1", desc := "()I" } : Jvm.MethodName)) ∈ lw_all := lw_g (lw_at lw_m5 150 rfl) rfl
theorem q1187 : (Jvm.Cond.privateMethod ({ cls := "ClassFileReaderModel", name := "u1", desc := "()I" } : Jvm.MethodName)) ∈ lw_tbl := lw_at lw_m5 151 rfl
theorem q1188 : (Jvm.Cond.instanceMethod ({ cls := "ClassFileReaderModel", name := "u1", desc := "()I" } : Jvm.MethodName)) ∈ lw_all := lw_g (lw_at lw_m5 152 rfl) rfl
theorem q1189 : (Jvm.Cond.code ({ cls := "ClassFileReaderModel", name := "u1", desc := "()I" } : Jvm.MethodName) prog_17_method_25_code (1 : Nat) (Option.some Jvm.ClassFile.FieldType.int)) ∈ lw_all := lw_g (lw_at lw_m5 153 rfl) rfl
theorem q1190 : (Jvm.Cond.methodLink "ClassFileReaderModel" (169 : Nat) ({ cls := "ClassFileReaderModel", name := "look", desc := "(I)V" } : Jvm.MethodName)) ∈ lw_all := lw_g (lw_at lw_m5 154 rfl) rfl
theorem q1191 : (Jvm.Cond.privateMethod ({ cls := "ClassFileReaderModel", name := "look", desc := "(I)V" } : Jvm.MethodName)) ∈ lw_tbl := lw_at lw_m5 155 rfl
theorem q1192 : (Jvm.Cond.instanceMethod ({ cls := "ClassFileReaderModel", name := "look", desc := "(I)V" } : Jvm.MethodName)) ∈ lw_all := lw_g (lw_at lw_m5 156 rfl) rfl
theorem q1193 : (Jvm.Cond.code ({ cls := "ClassFileReaderModel", name := "look", desc := "(I)V" } : Jvm.MethodName) prog_17_method_30_code (6 : Nat) (Option.none : Option Jvm.ClassFile.FieldType)) ∈ lw_all := lw_g (lw_at lw_m5 157 rfl) rfl
theorem q1194 : (Jvm.Cond.methodLink "ClassFileReaderModel" (138 : Nat) ({ cls := "ClassFileReaderModel", name := "tag", desc := "(I)I" } : Jvm.MethodName)) ∈ lw_all := lw_g (lw_at lw_m5 158 rfl) rfl
theorem q1195 : (Jvm.Cond.privateMethod ({ cls := "ClassFileReaderModel", name := "tag", desc := "(I)I" } : Jvm.MethodName)) ∈ lw_tbl := lw_at lw_m5 159 rfl
theorem q1196 : (Jvm.Cond.instanceMethod ({ cls := "ClassFileReaderModel", name := "tag", desc := "(I)I" } : Jvm.MethodName)) ∈ lw_all := lw_g (lw_at lw_m5 160 rfl) rfl
theorem q1197 : (Jvm.Cond.code ({ cls := "ClassFileReaderModel", name := "tag", desc := "(I)I" } : Jvm.MethodName) prog_17_method_8_code (2 : Nat) (Option.some Jvm.ClassFile.FieldType.int)) ∈ lw_all := lw_g (lw_at lw_m5 161 rfl) rfl
theorem q1198 : (Jvm.Cond.methodLink "ClassFileReaderModel" (39 : Nat) ({ cls := "ClassFileReaderModel", name := "note", desc := "(I)I" } : Jvm.MethodName)) ∈ lw_all := lw_g (lw_at lw_m5 162 rfl) rfl
theorem q1199 : (Jvm.Cond.privateMethod ({ cls := "ClassFileReaderModel", name := "note", desc := "(I)I" } : Jvm.MethodName)) ∈ lw_tbl := lw_at lw_m5 163 rfl
theorem q1200 : (Jvm.Cond.instanceMethod ({ cls := "ClassFileReaderModel", name := "note", desc := "(I)I" } : Jvm.MethodName)) ∈ lw_all := lw_g (lw_at lw_m5 164 rfl) rfl
theorem q1201 : (Jvm.Cond.code ({ cls := "ClassFileReaderModel", name := "note", desc := "(I)I" } : Jvm.MethodName) prog_17_method_7_code (2 : Nat) (Option.some Jvm.ClassFile.FieldType.int)) ∈ lw_all := lw_g (lw_at lw_m5 165 rfl) rfl
theorem q1202 : (Jvm.Cond.methodLink "ClassFileReaderModel" (35 : Nat) ({ cls := "ClassFileReaderModel", name := "byteAt", desc := "(I)I" } : Jvm.MethodName)) ∈ lw_all := lw_g (lw_at lw_m5 166 rfl) rfl
theorem q1203 : (Jvm.Cond.privateMethod ({ cls := "ClassFileReaderModel", name := "byteAt", desc := "(I)I" } : Jvm.MethodName)) ∈ lw_tbl := lw_at lw_m5 167 rfl
theorem q1204 : (Jvm.Cond.instanceMethod ({ cls := "ClassFileReaderModel", name := "byteAt", desc := "(I)I" } : Jvm.MethodName)) ∈ lw_all := lw_g (lw_at lw_m5 168 rfl) rfl
theorem q1205 : (Jvm.Cond.code ({ cls := "ClassFileReaderModel", name := "byteAt", desc := "(I)I" } : Jvm.MethodName) prog_17_method_5_code (2 : Nat) (Option.some Jvm.ClassFile.FieldType.int)) ∈ lw_all := lw_g (lw_at lw_m5 169 rfl) rfl
theorem q1206 : (Jvm.Cond.methodLink "ClassFileReaderModel" (148 : Nat) ({ cls := "ClassFileReaderModel", name := "operand", desc := "(I)I" } : Jvm.MethodName)) ∈ lw_all := lw_g (lw_at lw_m5 170 rfl) rfl
theorem q1207 : (Jvm.Cond.privateMethod ({ cls := "ClassFileReaderModel", name := "operand", desc := "(I)I" } : Jvm.MethodName)) ∈ lw_tbl := lw_at lw_m5 171 rfl
theorem q1208 : (Jvm.Cond.instanceMethod ({ cls := "ClassFileReaderModel", name := "operand", desc := "(I)I" } : Jvm.MethodName)) ∈ lw_all := lw_g (lw_at lw_m5 172 rfl) rfl
theorem q1209 : (Jvm.Cond.code ({ cls := "ClassFileReaderModel", name := "operand", desc := "(I)I" } : Jvm.MethodName) prog_17_method_12_code (2 : Nat) (Option.some Jvm.ClassFile.FieldType.int)) ∈ lw_all := lw_g (lw_at lw_m5 173 rfl) rfl
theorem q1210 : (Jvm.Cond.methodLink "ClassFileReaderModel" (42 : Nat) ({ cls := "ClassFileReaderModel", name := "two", desc := "(I)I" } : Jvm.MethodName)) ∈ lw_all := lw_g (lw_at lw_m5 174 rfl) rfl
theorem q1211 : (Jvm.Cond.privateMethod ({ cls := "ClassFileReaderModel", name := "two", desc := "(I)I" } : Jvm.MethodName)) ∈ lw_tbl := lw_at lw_m5 175 rfl
theorem q1212 : (Jvm.Cond.instanceMethod ({ cls := "ClassFileReaderModel", name := "two", desc := "(I)I" } : Jvm.MethodName)) ∈ lw_all := lw_g (lw_at lw_m5 176 rfl) rfl
theorem q1213 : (Jvm.Cond.code ({ cls := "ClassFileReaderModel", name := "two", desc := "(I)I" } : Jvm.MethodName) prog_17_method_6_code (2 : Nat) (Option.some Jvm.ClassFile.FieldType.int)) ∈ lw_all := lw_g (lw_at lw_m5 177 rfl) rfl
theorem q1214 : (Jvm.Cond.methodLink "ClassFileReaderModel" (151 : Nat) ({ cls := "ClassFileReaderModel", name := "isClassName", desc := "(I)Z" } : Jvm.MethodName)) ∈ lw_all := lw_g (lw_at lw_m5 178 rfl) rfl
theorem q1215 : (Jvm.Cond.privateMethod ({ cls := "ClassFileReaderModel", name := "isClassName", desc := "(I)Z" } : Jvm.MethodName)) ∈ lw_tbl := lw_at lw_m5 179 rfl
theorem q1216 : (Jvm.Cond.instanceMethod ({ cls := "ClassFileReaderModel", name := "isClassName", desc := "(I)Z" } : Jvm.MethodName)) ∈ lw_all := lw_g (lw_at lw_m5 180 rfl) rfl
theorem q1217 : (Jvm.Cond.code ({ cls := "ClassFileReaderModel", name := "isClassName", desc := "(I)Z" } : Jvm.MethodName) prog_17_method_21_code (2 : Nat) (Option.some Jvm.ClassFile.FieldType.boolean)) ∈ lw_all := lw_g (lw_at lw_m5 181 rfl) rfl
theorem q1218 : (Jvm.Cond.methodLink "ClassFileReaderModel" (45 : Nat) ({ cls := "ClassFileReaderModel", name := "start", desc := "(I)I" } : Jvm.MethodName)) ∈ lw_all := lw_g (lw_at lw_m5 182 rfl) rfl
theorem q1219 : (Jvm.Cond.privateMethod ({ cls := "ClassFileReaderModel", name := "start", desc := "(I)I" } : Jvm.MethodName)) ∈ lw_tbl := lw_at lw_m5 183 rfl
theorem q1220 : (Jvm.Cond.instanceMethod ({ cls := "ClassFileReaderModel", name := "start", desc := "(I)I" } : Jvm.MethodName)) ∈ lw_all := lw_g (lw_at lw_m5 184 rfl) rfl
theorem q1221 : (Jvm.Cond.code ({ cls := "ClassFileReaderModel", name := "start", desc := "(I)I" } : Jvm.MethodName) prog_17_method_9_code (2 : Nat) (Option.some Jvm.ClassFile.FieldType.int)) ∈ lw_all := lw_g (lw_at lw_m5 185 rfl) rfl
theorem q1222 : (Jvm.Cond.methodLink "ClassFileReaderModel" (48 : Nat) ({ cls := "ClassFileReaderModel", name := "count", desc := "(I)I" } : Jvm.MethodName)) ∈ lw_all := lw_g (lw_at lw_m5 186 rfl) rfl
theorem q1223 : (Jvm.Cond.privateMethod ({ cls := "ClassFileReaderModel", name := "count", desc := "(I)I" } : Jvm.MethodName)) ∈ lw_tbl := lw_at lw_m5 187 rfl
theorem q1224 : (Jvm.Cond.instanceMethod ({ cls := "ClassFileReaderModel", name := "count", desc := "(I)I" } : Jvm.MethodName)) ∈ lw_all := lw_g (lw_at lw_m5 188 rfl) rfl
theorem q1225 : (Jvm.Cond.code ({ cls := "ClassFileReaderModel", name := "count", desc := "(I)I" } : Jvm.MethodName) prog_17_method_10_code (2 : Nat) (Option.some Jvm.ClassFile.FieldType.int)) ∈ lw_all := lw_g (lw_at lw_m5 189 rfl) rfl
theorem q1226 : (Jvm.Cond.methodLink "ClassFileReaderModel" (109 : Nat) ({ cls := "ClassFileReaderModel", name := "className", desc := "(II)Z" } : Jvm.MethodName)) ∈ lw_all := lw_g (lw_at lw_m5 190 rfl) rfl
theorem q1227 : (Jvm.Cond.privateMethod ({ cls := "ClassFileReaderModel", name := "className", desc := "(II)Z" } : Jvm.MethodName)) ∈ lw_tbl := lw_at lw_m5 191 rfl
theorem q1228 : (Jvm.Cond.instanceMethod ({ cls := "ClassFileReaderModel", name := "className", desc := "(II)Z" } : Jvm.MethodName)) ∈ lw_all := lw_g (lw_at lw_m5 192 rfl) rfl
theorem q1229 : (Jvm.Cond.code ({ cls := "ClassFileReaderModel", name := "className", desc := "(II)Z" } : Jvm.MethodName) prog_17_method_17_code (6 : Nat) (Option.some Jvm.ClassFile.FieldType.boolean)) ∈ lw_all := lw_g (lw_at lw_m5 193 rfl) rfl
theorem q1230 : (Jvm.Cond.methodLink "ClassFileReaderModel" (105 : Nat) ({ cls := "ClassFileReaderModel", name := "plain", desc := "(I)Z" } : Jvm.MethodName)) ∈ lw_all := lw_g (lw_at lw_m5 194 rfl) rfl
theorem q1231 : (Jvm.Cond.static ({ cls := "ClassFileReaderModel", name := "plain", desc := "(I)Z" } : Jvm.MethodName)) ∈ lw_all := lw_g (lw_at lw_m5 195 rfl) rfl
theorem q1232 : (Jvm.Cond.code ({ cls := "ClassFileReaderModel", name := "plain", desc := "(I)Z" } : Jvm.MethodName) prog_17_method_16_code (1 : Nat) (Option.some Jvm.ClassFile.FieldType.boolean)) ∈ lw_all := lw_g (lw_at lw_m5 196 rfl) rfl
theorem q1233 : (Jvm.Cond.methodLink "ClassFileReaderModel" (53 : Nat) ({ cls := "ClassFileReaderModel", name := "character", desc := "(II)I" } : Jvm.MethodName)) ∈ lw_all := lw_g (lw_at lw_m5 197 rfl) rfl
theorem q1234 : (Jvm.Cond.privateMethod ({ cls := "ClassFileReaderModel", name := "character", desc := "(II)I" } : Jvm.MethodName)) ∈ lw_tbl := lw_at lw_m5 198 rfl
theorem q1235 : (Jvm.Cond.instanceMethod ({ cls := "ClassFileReaderModel", name := "character", desc := "(II)I" } : Jvm.MethodName)) ∈ lw_all := lw_g (lw_at lw_m5 199 rfl) rfl
theorem q1236 : (Jvm.Cond.code ({ cls := "ClassFileReaderModel", name := "character", desc := "(II)I" } : Jvm.MethodName) prog_17_method_11_code (3 : Nat) (Option.some Jvm.ClassFile.FieldType.int)) ∈ lw_all := lw_g (lw_at lw_m5 200 rfl) rfl
theorem q1237 : (Jvm.Cond.methodLink "ClassFileReaderModel" (154 : Nat) ({ cls := "ClassFileReaderModel", name := "isField", desc := "(I)Z" } : Jvm.MethodName)) ∈ lw_all := lw_g (lw_at lw_m5 201 rfl) rfl
theorem q1238 : (Jvm.Cond.privateMethod ({ cls := "ClassFileReaderModel", name := "isField", desc := "(I)Z" } : Jvm.MethodName)) ∈ lw_tbl := lw_at lw_m5 202 rfl
theorem q1239 : (Jvm.Cond.instanceMethod ({ cls := "ClassFileReaderModel", name := "isField", desc := "(I)Z" } : Jvm.MethodName)) ∈ lw_all := lw_g (lw_at lw_m5 203 rfl) rfl
theorem q1240 : (Jvm.Cond.code ({ cls := "ClassFileReaderModel", name := "isField", desc := "(I)Z" } : Jvm.MethodName) prog_17_method_19_code (2 : Nat) (Option.some Jvm.ClassFile.FieldType.boolean)) ∈ lw_all := lw_g (lw_at lw_m5 204 rfl) rfl
theorem q1241 : (Jvm.Cond.methodLink "ClassFileReaderModel" (113 : Nat) ({ cls := "ClassFileReaderModel", name := "fieldType", desc := "(II)I" } : Jvm.MethodName)) ∈ lw_all := lw_g (lw_at lw_m5 205 rfl) rfl
theorem q1242 : (Jvm.Cond.privateMethod ({ cls := "ClassFileReaderModel", name := "fieldType", desc := "(II)I" } : Jvm.MethodName)) ∈ lw_tbl := lw_at lw_m5 206 rfl
theorem q1243 : (Jvm.Cond.instanceMethod ({ cls := "ClassFileReaderModel", name := "fieldType", desc := "(II)I" } : Jvm.MethodName)) ∈ lw_all := lw_g (lw_at lw_m5 207 rfl) rfl
theorem q1244 : (Jvm.Cond.code ({ cls := "ClassFileReaderModel", name := "fieldType", desc := "(II)I" } : Jvm.MethodName) prog_17_method_18_code (6 : Nat) (Option.some Jvm.ClassFile.FieldType.int)) ∈ lw_all := lw_g (lw_at lw_m5 208 rfl) rfl
theorem q1245 : (Jvm.Cond.methodLink "ClassFileReaderModel" (157 : Nat) ({ cls := "ClassFileReaderModel", name := "isMember", desc := "(I)Z" } : Jvm.MethodName)) ∈ lw_all := lw_g (lw_at lw_m5 209 rfl) rfl
theorem q1246 : (Jvm.Cond.privateMethod ({ cls := "ClassFileReaderModel", name := "isMember", desc := "(I)Z" } : Jvm.MethodName)) ∈ lw_tbl := lw_at lw_m5 210 rfl
theorem q1247 : (Jvm.Cond.instanceMethod ({ cls := "ClassFileReaderModel", name := "isMember", desc := "(I)Z" } : Jvm.MethodName)) ∈ lw_all := lw_g (lw_at lw_m5 211 rfl) rfl
theorem q1248 : (Jvm.Cond.code ({ cls := "ClassFileReaderModel", name := "isMember", desc := "(I)Z" } : Jvm.MethodName) prog_17_method_22_code (4 : Nat) (Option.some Jvm.ClassFile.FieldType.boolean)) ∈ lw_all := lw_g (lw_at lw_m5 212 rfl) rfl
theorem q1249 : (Jvm.Cond.methodLink "ClassFileReaderModel" (160 : Nat) ({ cls := "ClassFileReaderModel", name := "known", desc := "(I)I" } : Jvm.MethodName)) ∈ lw_all := lw_g (lw_at lw_m5 213 rfl) rfl
theorem q1250 : (Jvm.Cond.privateMethod ({ cls := "ClassFileReaderModel", name := "known", desc := "(I)I" } : Jvm.MethodName)) ∈ lw_tbl := lw_at lw_m5 214 rfl
theorem q1251 : (Jvm.Cond.instanceMethod ({ cls := "ClassFileReaderModel", name := "known", desc := "(I)I" } : Jvm.MethodName)) ∈ lw_all := lw_g (lw_at lw_m5 215 rfl) rfl
theorem q1252 : (Jvm.Cond.code ({ cls := "ClassFileReaderModel", name := "known", desc := "(I)I" } : Jvm.MethodName) prog_17_method_14_code (2 : Nat) (Option.some Jvm.ClassFile.FieldType.int)) ∈ lw_all := lw_g (lw_at lw_m5 216 rfl) rfl
theorem q1253 : (Jvm.Cond.constantLong "ClassFileReaderModel" (57 : Nat) (47190209803926258 : Int64)) ∈ lw_all := lw_g (lw_at lw_m5 217 rfl) rfl
theorem q1254 : (Jvm.Cond.constantLong "ClassFileReaderModel" (59 : Nat) (101 : Int64)) ∈ lw_all := lw_g (lw_at lw_m5 218 rfl) rfl
theorem q1255 : (Jvm.Cond.methodLink "ClassFileReaderModel" (61 : Nat) ({ cls := "ClassFileReaderModel", name := "same", desc := "(IIJJJ)Z" } : Jvm.MethodName)) ∈ lw_all := lw_g (lw_at lw_m5 219 rfl) rfl
theorem q1256 : (Jvm.Cond.privateMethod ({ cls := "ClassFileReaderModel", name := "same", desc := "(IIJJJ)Z" } : Jvm.MethodName)) ∈ lw_tbl := lw_at lw_m5 220 rfl
theorem q1257 : (Jvm.Cond.instanceMethod ({ cls := "ClassFileReaderModel", name := "same", desc := "(IIJJJ)Z" } : Jvm.MethodName)) ∈ lw_all := lw_g (lw_at lw_m5 221 rfl) rfl
theorem q1258 : (Jvm.Cond.code ({ cls := "ClassFileReaderModel", name := "same", desc := "(IIJJJ)Z" } : Jvm.MethodName) prog_17_method_13_code (12 : Nat) (Option.some Jvm.ClassFile.FieldType.boolean)) ∈ lw_all := lw_g (lw_at lw_m5 222 rfl) rfl
theorem q1259 : (Jvm.Cond.constantLong "ClassFileReaderModel" (51 : Nat) (128 : Int64)) ∈ lw_all := lw_g (lw_at lw_m5 223 rfl) rfl
theorem q1260 : (Jvm.Cond.constantLong "ClassFileReaderModel" (65 : Nat) (38728678636056820 : Int64)) ∈ lw_all := lw_g (lw_at lw_m5 224 rfl) rfl
theorem q1261 : (Jvm.Cond.constantLong "ClassFileReaderModel" (67 : Nat) (13028 : Int64)) ∈ lw_all := lw_g (lw_at lw_m5 225 rfl) rfl
theorem q1262 : (Jvm.Cond.constantLong "ClassFileReaderModel" (69 : Nat) (38209640728131444 : Int64)) ∈ lw_all := lw_g (lw_at lw_m5 226 rfl) rfl
theorem q1263 : (Jvm.Cond.constantLong "ClassFileReaderModel" (71 : Nat) (23290657509 : Int64)) ∈ lw_all := lw_g (lw_at lw_m5 227 rfl) rfl
theorem q1264 : (Jvm.Cond.constantLong "ClassFileReaderModel" (73 : Nat) (39374741330277615 : Int64)) ∈ lw_all := lw_g (lw_at lw_m5 228 rfl) rfl
theorem q1265 : (Jvm.Cond.constantLong "ClassFileReaderModel" (75 : Nat) (14195 : Int64)) ∈ lw_all := lw_g (lw_at lw_m5 229 rfl) rfl
theorem q1266 : (Jvm.Cond.constantLong "ClassFileReaderModel" (77 : Nat) (41582938639365729 : Int64)) ∈ lw_all := lw_g (lw_at lw_m5 230 rfl) rfl
theorem q1267 : (Jvm.Cond.constantLong "ClassFileReaderModel" (79 : Nat) (243069683 : Int64)) ∈ lw_all := lw_g (lw_at lw_m5 231 rfl) rfl
theorem q1268 : (Jvm.Cond.constantLong "ClassFileReaderModel" (81 : Nat) (44358281736058594 : Int64)) ∈ lw_all := lw_g (lw_at lw_m5 232 rfl) rfl
theorem q1269 : (Jvm.Cond.constantLong "ClassFileReaderModel" (83 : Nat) (1669491 : Int64)) ∈ lw_all := lw_g (lw_at lw_m5 233 rfl) rfl
theorem q1270 : (Jvm.Cond.constantLong "ClassFileReaderModel" (85 : Nat) (45484145463081573 : Int64)) ∈ lw_all := lw_g (lw_at lw_m5 234 rfl) rfl
theorem q1271 : (Jvm.Cond.constantLong "ClassFileReaderModel" (87 : Nat) (56664079808016627 : Int64)) ∈ lw_all := lw_g (lw_at lw_m5 235 rfl) rfl
theorem q1272 : (Jvm.Cond.constantLong "ClassFileReaderModel" (89 : Nat) (1897203 : Int64)) ∈ lw_all := lw_g (lw_at lw_m5 236 rfl) rfl
theorem q1273 : (Jvm.Cond.constantLong "ClassFileReaderModel" (91 : Nat) (44358281725737460 : Int64)) ∈ lw_all := lw_g (lw_at lw_m5 237 rfl) rfl
theorem q1274 : (Jvm.Cond.constantLong "ClassFileReaderModel" (93 : Nat) (2844819978596 : Int64)) ∈ lw_all := lw_g (lw_at lw_m5 238 rfl) rfl
theorem q1275 : (Jvm.Cond.constantLong "ClassFileReaderModel" (95 : Nat) (43253754164409953 : Int64)) ∈ lw_all := lw_g (lw_at lw_m5 239 rfl) rfl
theorem q1276 : (Jvm.Cond.constantLong "ClassFileReaderModel" (97 : Nat) (62379131099985134 : Int64)) ∈ lw_all := lw_g (lw_at lw_m6 0 rfl) rfl
theorem q1277 : (Jvm.Cond.constantLong "ClassFileReaderModel" (99 : Nat) (13243 : Int64)) ∈ lw_all := lw_g (lw_at lw_m6 1 rfl) rfl
theorem q1278 : (Jvm.Cond.constantLong "ClassFileReaderModel" (101 : Nat) (2090002446910 : Int64)) ∈ lw_all := lw_g (lw_at lw_m6 2 rfl) rfl
theorem q1279 : (Jvm.Cond.constantLong "ClassFileReaderModel" (103 : Nat) (34216143079766590 : Int64)) ∈ lw_all := lw_g (lw_at lw_m6 3 rfl) rfl
theorem q1280 : (Jvm.Cond.methodLink "ClassFileReaderModel" (163 : Nat) ({ cls := "ClassFileReaderModel", name := "isMethod", desc := "(I)Z" } : Jvm.MethodName)) ∈ lw_all := lw_g (lw_at lw_m6 4 rfl) rfl
theorem q1281 : (Jvm.Cond.privateMethod ({ cls := "ClassFileReaderModel", name := "isMethod", desc := "(I)Z" } : Jvm.MethodName)) ∈ lw_tbl := lw_at lw_m6 5 rfl
theorem q1282 : (Jvm.Cond.instanceMethod ({ cls := "ClassFileReaderModel", name := "isMethod", desc := "(I)Z" } : Jvm.MethodName)) ∈ lw_all := lw_g (lw_at lw_m6 6 rfl) rfl
theorem q1283 : (Jvm.Cond.code ({ cls := "ClassFileReaderModel", name := "isMethod", desc := "(I)Z" } : Jvm.MethodName) prog_17_method_20_code (4 : Nat) (Option.some Jvm.ClassFile.FieldType.boolean)) ∈ lw_all := lw_g (lw_at lw_m6 7 rfl) rfl
theorem q1284 : (Jvm.Cond.methodLink "ClassFileReaderModel" (237 : Nat) ({ cls := "ClassFileReaderModel", name := "badFile", desc := "(I)Z" } : Jvm.MethodName)) ∈ lw_all := lw_g (lw_at lw_m6 8 rfl) rfl
theorem q1285 : (Jvm.Cond.static ({ cls := "ClassFileReaderModel", name := "badFile", desc := "(I)Z" } : Jvm.MethodName)) ∈ lw_all := lw_g (lw_at lw_m6 9 rfl) rfl
theorem q1286 : (Jvm.Cond.code ({ cls := "ClassFileReaderModel", name := "badFile", desc := "(I)Z" } : Jvm.MethodName) prog_17_method_37_code (1 : Nat) (Option.some Jvm.ClassFile.FieldType.boolean)) ∈ lw_all := lw_g (lw_at lw_m6 10 rfl) rfl
theorem q1287 : (Jvm.Cond.methodLink "ClassFileReaderModel" (187 : Nat) ({ cls := "ClassFileReaderModel", name := "has", desc := "(II)Z" } : Jvm.MethodName)) ∈ lw_all := lw_g (lw_at lw_m6 11 rfl) rfl
theorem q1288 : (Jvm.Cond.static ({ cls := "ClassFileReaderModel", name := "has", desc := "(II)Z" } : Jvm.MethodName)) ∈ lw_all := lw_g (lw_at lw_m6 12 rfl) rfl
theorem q1289 : (Jvm.Cond.code ({ cls := "ClassFileReaderModel", name := "has", desc := "(II)Z" } : Jvm.MethodName) prog_17_method_35_code (2 : Nat) (Option.some Jvm.ClassFile.FieldType.boolean)) ∈ lw_all := lw_g (lw_at lw_m6 13 rfl) rfl
theorem q1290 : (Jvm.Cond.methodLink "ClassFileReaderModel" (177 : Nat) ({ cls := "ClassFileReaderModel", name := "named", desc := "()I" } : Jvm.MethodName)) ∈ lw_all := lw_g (lw_at lw_m6 14 rfl) rfl
theorem q1291 : (Jvm.Cond.privateMethod ({ cls := "ClassFileReaderModel", name := "named", desc := "()I" } : Jvm.MethodName)) ∈ lw_tbl := lw_at lw_m6 15 rfl
theorem q1292 : (Jvm.Cond.instanceMethod ({ cls := "ClassFileReaderModel", name := "named", desc := "()I" } : Jvm.MethodName)) ∈ lw_all := lw_g (lw_at lw_m6 16 rfl) rfl
theorem q1293 : (Jvm.Cond.code ({ cls := "ClassFileReaderModel", name := "named", desc := "()I" } : Jvm.MethodName) prog_17_method_34_code (1 : Nat) (Option.some Jvm.ClassFile.FieldType.int)) ∈ lw_all := lw_g (lw_at lw_m6 17 rfl) rfl
theorem q1294 : (Jvm.Cond.methodLink "ClassFileReaderModel" (183 : Nat) ({ cls := "ClassFileReaderModel", name := "classRef", desc := "(Z)I" } : Jvm.MethodName)) ∈ lw_all := lw_g (lw_at lw_m6 18 rfl) rfl
theorem q1295 : (Jvm.Cond.privateMethod ({ cls := "ClassFileReaderModel", name := "classRef", desc := "(Z)I" } : Jvm.MethodName)) ∈ lw_tbl := lw_at lw_m6 19 rfl
theorem q1296 : (Jvm.Cond.instanceMethod ({ cls := "ClassFileReaderModel", name := "classRef", desc := "(Z)I" } : Jvm.MethodName)) ∈ lw_all := lw_g (lw_at lw_m6 20 rfl) rfl
theorem q1297 : (Jvm.Cond.code ({ cls := "ClassFileReaderModel", name := "classRef", desc := "(Z)I" } : Jvm.MethodName) prog_17_method_32_code (4 : Nat) (Option.some Jvm.ClassFile.FieldType.int)) ∈ lw_all := lw_g (lw_at lw_m6 21 rfl) rfl
theorem q1298 : (Jvm.Cond.methodLink "ClassFileReaderModel" (173 : Nat) ({ cls := "ClassFileReaderModel", name := "index", desc := "(IZ)I" } : Jvm.MethodName)) ∈ lw_all := lw_g (lw_at lw_m6 22 rfl) rfl
theorem q1299 : (Jvm.Cond.privateMethod ({ cls := "ClassFileReaderModel", name := "index", desc := "(IZ)I" } : Jvm.MethodName)) ∈ lw_tbl := lw_at lw_m6 23 rfl
theorem q1300 : (Jvm.Cond.instanceMethod ({ cls := "ClassFileReaderModel", name := "index", desc := "(IZ)I" } : Jvm.MethodName)) ∈ lw_all := lw_g (lw_at lw_m6 24 rfl) rfl
theorem q1301 : (Jvm.Cond.code ({ cls := "ClassFileReaderModel", name := "index", desc := "(IZ)I" } : Jvm.MethodName) prog_17_method_28_code (5 : Nat) (Option.some Jvm.ClassFile.FieldType.int)) ∈ lw_all := lw_g (lw_at lw_m6 25 rfl) rfl
theorem q1302 : (Jvm.Cond.methodLink "ClassFileReaderModel" (240 : Nat) ({ cls := "ClassFileReaderModel", name := "interfaces", desc := "()V" } : Jvm.MethodName)) ∈ lw_all := lw_g (lw_at lw_m6 26 rfl) rfl
theorem q1303 : (Jvm.Cond.privateMethod ({ cls := "ClassFileReaderModel", name := "interfaces", desc := "()V" } : Jvm.MethodName)) ∈ lw_tbl := lw_at lw_m6 27 rfl
theorem q1304 : (Jvm.Cond.instanceMethod ({ cls := "ClassFileReaderModel", name := "interfaces", desc := "()V" } : Jvm.MethodName)) ∈ lw_all := lw_g (lw_at lw_m6 28 rfl) rfl
theorem q1305 : (Jvm.Cond.code ({ cls := "ClassFileReaderModel", name := "interfaces", desc := "()V" } : Jvm.MethodName) prog_17_method_33_code (7 : Nat) (Option.none : Option Jvm.ClassFile.FieldType)) ∈ lw_all := lw_g (lw_at lw_m6 29 rfl) rfl
theorem q1306 : (Jvm.Cond.methodLink "ClassFileReaderModel" (180 : Nat) ({ cls := "ClassFileReaderModel", name := "alike", desc := "(II)Z" } : Jvm.MethodName)) ∈ lw_all := lw_g (lw_at lw_m6 30 rfl) rfl
theorem q1307 : (Jvm.Cond.privateMethod ({ cls := "ClassFileReaderModel", name := "alike", desc := "(II)Z" } : Jvm.MethodName)) ∈ lw_tbl := lw_at lw_m6 31 rfl
theorem q1308 : (Jvm.Cond.instanceMethod ({ cls := "ClassFileReaderModel", name := "alike", desc := "(II)Z" } : Jvm.MethodName)) ∈ lw_all := lw_g (lw_at lw_m6 32 rfl) rfl
theorem q1309 : (Jvm.Cond.code ({ cls := "ClassFileReaderModel", name := "alike", desc := "(II)Z" } : Jvm.MethodName) prog_17_method_15_code (4 : Nat) (Option.some Jvm.ClassFile.FieldType.boolean)) ∈ lw_all := lw_g (lw_at lw_m6 33 rfl) rfl
theorem q1310 : (Jvm.Cond.methodLink "ClassFileReaderModel" (243 : Nat) ({ cls := "ClassFileReaderModel", name := "members", desc := "(II)V" } : Jvm.MethodName)) ∈ lw_all := lw_g (lw_at lw_m6 34 rfl) rfl
theorem q1311 : (Jvm.Cond.privateMethod ({ cls := "ClassFileReaderModel", name := "members", desc := "(II)V" } : Jvm.MethodName)) ∈ lw_tbl := lw_at lw_m6 35 rfl
theorem q1312 : (Jvm.Cond.instanceMethod ({ cls := "ClassFileReaderModel", name := "members", desc := "(II)V" } : Jvm.MethodName)) ∈ lw_all := lw_g (lw_at lw_m6 36 rfl) rfl
theorem q1313 : (Jvm.Cond.code ({ cls := "ClassFileReaderModel", name := "members", desc := "(II)V" } : Jvm.MethodName) prog_17_method_42_code (5 : Nat) (Option.none : Option Jvm.ClassFile.FieldType)) ∈ lw_all := lw_g (lw_at lw_m6 37 rfl) rfl
theorem q1314 : (Jvm.Cond.methodLink "ClassFileReaderModel" (204 : Nat) ({ cls := "ClassFileReaderModel", name := "few", desc := "()I" } : Jvm.MethodName)) ∈ lw_all := lw_g (lw_at lw_m6 38 rfl) rfl
theorem q1315 : (Jvm.Cond.privateMethod ({ cls := "ClassFileReaderModel", name := "few", desc := "()I" } : Jvm.MethodName)) ∈ lw_tbl := lw_at lw_m6 39 rfl
theorem q1316 : (Jvm.Cond.instanceMethod ({ cls := "ClassFileReaderModel", name := "few", desc := "()I" } : Jvm.MethodName)) ∈ lw_all := lw_g (lw_at lw_m6 40 rfl) rfl
theorem q1317 : (Jvm.Cond.code ({ cls := "ClassFileReaderModel", name := "few", desc := "()I" } : Jvm.MethodName) prog_17_method_41_code (3 : Nat) (Option.some Jvm.ClassFile.FieldType.int)) ∈ lw_all := lw_g (lw_at lw_m6 41 rfl) rfl
theorem q1318 : (Jvm.Cond.methodLink "ClassFileReaderModel" (207 : Nat) ({ cls := "ClassFileReaderModel", name := "member", desc := "(II)V" } : Jvm.MethodName)) ∈ lw_all := lw_g (lw_at lw_m6 42 rfl) rfl
theorem q1319 : (Jvm.Cond.privateMethod ({ cls := "ClassFileReaderModel", name := "member", desc := "(II)V" } : Jvm.MethodName)) ∈ lw_tbl := lw_at lw_m6 43 rfl
theorem q1320 : (Jvm.Cond.instanceMethod ({ cls := "ClassFileReaderModel", name := "member", desc := "(II)V" } : Jvm.MethodName)) ∈ lw_all := lw_g (lw_at lw_m6 44 rfl) rfl
theorem q1321 : (Jvm.Cond.code ({ cls := "ClassFileReaderModel", name := "member", desc := "(II)V" } : Jvm.MethodName) prog_17_method_40_code (6 : Nat) (Option.none : Option Jvm.ClassFile.FieldType)) ∈ lw_all := lw_g (lw_at lw_m6 45 rfl) rfl
theorem q1322 : (Jvm.Cond.methodLink "ClassFileReaderModel" (193 : Nat) ({ cls := "ClassFileReaderModel", name := "judge", desc := "(IIII)V" } : Jvm.MethodName)) ∈ lw_all := lw_g (lw_at lw_m6 46 rfl) rfl
theorem q1323 : (Jvm.Cond.privateMethod ({ cls := "ClassFileReaderModel", name := "judge", desc := "(IIII)V" } : Jvm.MethodName)) ∈ lw_tbl := lw_at lw_m6 47 rfl
theorem q1324 : (Jvm.Cond.instanceMethod ({ cls := "ClassFileReaderModel", name := "judge", desc := "(IIII)V" } : Jvm.MethodName)) ∈ lw_all := lw_g (lw_at lw_m6 48 rfl) rfl
theorem q1325 : (Jvm.Cond.code ({ cls := "ClassFileReaderModel", name := "judge", desc := "(IIII)V" } : Jvm.MethodName) prog_17_method_39_code (5 : Nat) (Option.none : Option Jvm.ClassFile.FieldType)) ∈ lw_all := lw_g (lw_at lw_m6 49 rfl) rfl
theorem q1326 : (Jvm.Cond.methodLink "ClassFileReaderModel" (197 : Nat) ({ cls := "ClassFileReaderModel", name := "badFlags", desc := "(III)Z" } : Jvm.MethodName)) ∈ lw_all := lw_g (lw_at lw_m6 50 rfl) rfl
theorem q1327 : (Jvm.Cond.privateMethod ({ cls := "ClassFileReaderModel", name := "badFlags", desc := "(III)Z" } : Jvm.MethodName)) ∈ lw_tbl := lw_at lw_m6 51 rfl
theorem q1328 : (Jvm.Cond.instanceMethod ({ cls := "ClassFileReaderModel", name := "badFlags", desc := "(III)Z" } : Jvm.MethodName)) ∈ lw_all := lw_g (lw_at lw_m6 52 rfl) rfl
theorem q1329 : (Jvm.Cond.code ({ cls := "ClassFileReaderModel", name := "badFlags", desc := "(III)Z" } : Jvm.MethodName) prog_17_method_38_code (5 : Nat) (Option.some Jvm.ClassFile.FieldType.boolean)) ∈ lw_all := lw_g (lw_at lw_m6 53 rfl) rfl
theorem q1330 : (Jvm.Cond.methodLink "ClassFileReaderModel" (190 : Nat) ({ cls := "ClassFileReaderModel", name := "single", desc := "(I)Z" } : Jvm.MethodName)) ∈ lw_all := lw_g (lw_at lw_m6 54 rfl) rfl
theorem q1331 : (Jvm.Cond.static ({ cls := "ClassFileReaderModel", name := "single", desc := "(I)Z" } : Jvm.MethodName)) ∈ lw_all := lw_g (lw_at lw_m6 55 rfl) rfl
theorem q1332 : (Jvm.Cond.code ({ cls := "ClassFileReaderModel", name := "single", desc := "(I)Z" } : Jvm.MethodName) prog_17_method_36_code (2 : Nat) (Option.some Jvm.ClassFile.FieldType.boolean)) ∈ lw_all := lw_g (lw_at lw_m6 56 rfl) rfl
theorem q1333 : (Jvm.Cond.methodLink "ClassFileReaderModel" (201 : Nat) ({ cls := "ClassFileReaderModel", name := "table", desc := "(II)V" } : Jvm.MethodName)) ∈ lw_all := lw_g (lw_at lw_m6 57 rfl) rfl
theorem q1334 : (Jvm.Cond.privateMethod ({ cls := "ClassFileReaderModel", name := "table", desc := "(II)V" } : Jvm.MethodName)) ∈ lw_tbl := lw_at lw_m6 58 rfl
theorem q1335 : (Jvm.Cond.instanceMethod ({ cls := "ClassFileReaderModel", name := "table", desc := "(II)V" } : Jvm.MethodName)) ∈ lw_all := lw_g (lw_at lw_m6 59 rfl) rfl
theorem q1336 : (Jvm.Cond.code ({ cls := "ClassFileReaderModel", name := "table", desc := "(II)V" } : Jvm.MethodName) prog_17_method_44_code (12 : Nat) (Option.none : Option Jvm.ClassFile.FieldType)) ∈ lw_all := lw_g (lw_at lw_m6 60 rfl) rfl
theorem q1337 : (Jvm.Cond.methodLink "ClassFileReaderModel" (210 : Nat) ({ cls := "ClassFileReaderModel", name := "knows", desc := "(II)Z" } : Jvm.MethodName)) ∈ lw_all := lw_g (lw_at lw_m6 61 rfl) rfl
theorem q1338 : (Jvm.Cond.static ({ cls := "ClassFileReaderModel", name := "knows", desc := "(II)Z" } : Jvm.MethodName)) ∈ lw_all := lw_g (lw_at lw_m6 62 rfl) rfl
theorem q1339 : (Jvm.Cond.code ({ cls := "ClassFileReaderModel", name := "knows", desc := "(II)Z" } : Jvm.MethodName) prog_17_method_43_code (2 : Nat) (Option.some Jvm.ClassFile.FieldType.boolean)) ∈ lw_all := lw_g (lw_at lw_m6 63 rfl) rfl
theorem q1340 : (Jvm.Cond.methodLink "ClassFileReaderModel" (213 : Nat) ({ cls := "ClassFileReaderModel", name := "parts", desc := "(JI)V" } : Jvm.MethodName)) ∈ lw_all := lw_g (lw_at lw_m6 64 rfl) rfl
theorem q1341 : (Jvm.Cond.privateMethod ({ cls := "ClassFileReaderModel", name := "parts", desc := "(JI)V" } : Jvm.MethodName)) ∈ lw_tbl := lw_at lw_m6 65 rfl
theorem q1342 : (Jvm.Cond.instanceMethod ({ cls := "ClassFileReaderModel", name := "parts", desc := "(JI)V" } : Jvm.MethodName)) ∈ lw_all := lw_g (lw_at lw_m6 66 rfl) rfl
theorem q1343 : (Jvm.Cond.code ({ cls := "ClassFileReaderModel", name := "parts", desc := "(JI)V" } : Jvm.MethodName) prog_17_method_48_code (9 : Nat) (Option.none : Option Jvm.ClassFile.FieldType)) ∈ lw_all := lw_g (lw_at lw_m6 67 rfl) rfl
theorem q1344 : (Jvm.Cond.methodLink "ClassFileReaderModel" (229 : Nat) ({ cls := "ClassFileReaderModel", name := "part", desc := "(I)V" } : Jvm.MethodName)) ∈ lw_all := lw_g (lw_at lw_m6 68 rfl) rfl
theorem q1345 : (Jvm.Cond.privateMethod ({ cls := "ClassFileReaderModel", name := "part", desc := "(I)V" } : Jvm.MethodName)) ∈ lw_tbl := lw_at lw_m6 69 rfl
theorem q1346 : (Jvm.Cond.instanceMethod ({ cls := "ClassFileReaderModel", name := "part", desc := "(I)V" } : Jvm.MethodName)) ∈ lw_all := lw_g (lw_at lw_m6 70 rfl) rfl
theorem q1347 : (Jvm.Cond.code ({ cls := "ClassFileReaderModel", name := "part", desc := "(I)V" } : Jvm.MethodName) prog_17_method_49_code (11 : Nat) (Option.none : Option Jvm.ClassFile.FieldType)) ∈ lw_all := lw_g (lw_at lw_m6 71 rfl) rfl
theorem q1348 : (Jvm.Cond.methodLink "ClassFileReaderModel" (221 : Nat) ({ cls := "ClassFileReaderModel", name := "fixed", desc := "(IIJI)V" } : Jvm.MethodName)) ∈ lw_all := lw_g (lw_at lw_m6 72 rfl) rfl
theorem q1349 : (Jvm.Cond.privateMethod ({ cls := "ClassFileReaderModel", name := "fixed", desc := "(IIJI)V" } : Jvm.MethodName)) ∈ lw_tbl := lw_at lw_m6 73 rfl
theorem q1350 : (Jvm.Cond.instanceMethod ({ cls := "ClassFileReaderModel", name := "fixed", desc := "(IIJI)V" } : Jvm.MethodName)) ∈ lw_all := lw_g (lw_at lw_m6 74 rfl) rfl
theorem q1351 : (Jvm.Cond.code ({ cls := "ClassFileReaderModel", name := "fixed", desc := "(IIJI)V" } : Jvm.MethodName) prog_17_method_45_code (6 : Nat) (Option.none : Option Jvm.ClassFile.FieldType)) ∈ lw_all := lw_g (lw_at lw_m6 75 rfl) rfl
theorem q1352 : (Jvm.Cond.methodLink "ClassFileReaderModel" (224 : Nat) ({ cls := "ClassFileReaderModel", name := "constantKind", desc := "(I)I" } : Jvm.MethodName)) ∈ lw_all := lw_g (lw_at lw_m6 76 rfl) rfl
theorem q1353 : (Jvm.Cond.privateMethod ({ cls := "ClassFileReaderModel", name := "constantKind", desc := "(I)I" } : Jvm.MethodName)) ∈ lw_tbl := lw_at lw_m6 77 rfl
theorem q1354 : (Jvm.Cond.instanceMethod ({ cls := "ClassFileReaderModel", name := "constantKind", desc := "(I)I" } : Jvm.MethodName)) ∈ lw_all := lw_g (lw_at lw_m6 78 rfl) rfl
theorem q1355 : (Jvm.Cond.code ({ cls := "ClassFileReaderModel", name := "constantKind", desc := "(I)I" } : Jvm.MethodName) prog_17_method_46_code (3 : Nat) (Option.some Jvm.ClassFile.FieldType.int)) ∈ lw_all := lw_g (lw_at lw_m6 79 rfl) rfl
theorem q1356 : (Jvm.Cond.methodLink "ClassFileReaderModel" (217 : Nat) ({ cls := "ClassFileReaderModel", name := "list", desc := "(IIJI)V" } : Jvm.MethodName)) ∈ lw_all := lw_g (lw_at lw_m6 80 rfl) rfl
theorem q1357 : (Jvm.Cond.privateMethod ({ cls := "ClassFileReaderModel", name := "list", desc := "(IIJI)V" } : Jvm.MethodName)) ∈ lw_tbl := lw_at lw_m6 81 rfl
theorem q1358 : (Jvm.Cond.instanceMethod ({ cls := "ClassFileReaderModel", name := "list", desc := "(IIJI)V" } : Jvm.MethodName)) ∈ lw_all := lw_g (lw_at lw_m6 82 rfl) rfl
theorem q1359 : (Jvm.Cond.code ({ cls := "ClassFileReaderModel", name := "list", desc := "(IIJI)V" } : Jvm.MethodName) prog_17_method_47_code (10 : Nat) (Option.none : Option Jvm.ClassFile.FieldType)) ∈ lw_all := lw_g (lw_at lw_m6 83 rfl) rfl
theorem q1360 : (Jvm.Cond.constantLong "ClassFileReaderModel" (227 : Nat) (8 : Int64)) ∈ lw_all := lw_g (lw_at lw_m6 84 rfl) rfl
theorem q1362 : (Jvm.Cond.instanceMethod ({ cls := "ClassFileReaderModel", name := "place", desc := "()I" } : Jvm.MethodName)) ∈ lw_all := lw_g (lw_at lw_m6 86 rfl) rfl
theorem q1363 : (Jvm.Cond.selects "ClassFileReaderModel" ({ cls := "ClassFileReaderModel", name := "place", desc := "()I" } : Jvm.MethodName) ({ cls := "ClassFileReaderModel", name := "place", desc := "()I" } : Jvm.MethodName)) ∈ lw_all := lw_g (lw_at lw_m6 87 rfl) rfl
theorem q1364 : (Jvm.Cond.code ({ cls := "ClassFileReaderModel", name := "place", desc := "()I" } : Jvm.MethodName) prog_17_method_52_code (1 : Nat) (Option.some Jvm.ClassFile.FieldType.int)) ∈ lw_all := lw_g (lw_at lw_m6 88 rfl) rfl
theorem q1366 : (Jvm.Cond.instanceMethod ({ cls := "ClassFileReaderModel", name := "number", desc := "(I)I" } : Jvm.MethodName)) ∈ lw_all := lw_g (lw_at lw_m6 90 rfl) rfl
theorem q1367 : (Jvm.Cond.selects "ClassFileReaderModel" ({ cls := "ClassFileReaderModel", name := "number", desc := "(I)I" } : Jvm.MethodName) ({ cls := "ClassFileReaderModel", name := "number", desc := "(I)I" } : Jvm.MethodName)) ∈ lw_all := lw_g (lw_at lw_m6 91 rfl) rfl
theorem q1368 : (Jvm.Cond.code ({ cls := "ClassFileReaderModel", name := "number", desc := "(I)I" } : Jvm.MethodName) prog_17_method_53_code (2 : Nat) (Option.some Jvm.ClassFile.FieldType.int)) ∈ lw_all := lw_g (lw_at lw_m6 92 rfl) rfl
theorem q1370 : (Jvm.Cond.instanceMethod ({ cls := "ClassFileReaderModel", name := "flags", desc := "(II)I" } : Jvm.MethodName)) ∈ lw_all := lw_g (lw_at lw_m6 94 rfl) rfl
theorem q1371 : (Jvm.Cond.selects "ClassFileReaderModel" ({ cls := "ClassFileReaderModel", name := "flags", desc := "(II)I" } : Jvm.MethodName) ({ cls := "ClassFileReaderModel", name := "flags", desc := "(II)I" } : Jvm.MethodName)) ∈ lw_all := lw_g (lw_at lw_m6 95 rfl) rfl
theorem q1372 : (Jvm.Cond.code ({ cls := "ClassFileReaderModel", name := "flags", desc := "(II)I" } : Jvm.MethodName) prog_17_method_56_code (4 : Nat) (Option.some Jvm.ClassFile.FieldType.int)) ∈ lw_all := lw_g (lw_at lw_m6 96 rfl) rfl
theorem q1373 : (Jvm.Cond.methodLink "ClassFileReaderModel" (252 : Nat) ({ cls := "ClassFileReaderModel", name := "element", desc := "(III)I" } : Jvm.MethodName)) ∈ lw_all := lw_g (lw_at lw_m6 97 rfl) rfl
theorem q1374 : (Jvm.Cond.privateMethod ({ cls := "ClassFileReaderModel", name := "element", desc := "(III)I" } : Jvm.MethodName)) ∈ lw_tbl := lw_at lw_m6 98 rfl
theorem q1375 : (Jvm.Cond.instanceMethod ({ cls := "ClassFileReaderModel", name := "element", desc := "(III)I" } : Jvm.MethodName)) ∈ lw_all := lw_g (lw_at lw_m6 99 rfl) rfl
theorem q1376 : (Jvm.Cond.code ({ cls := "ClassFileReaderModel", name := "element", desc := "(III)I" } : Jvm.MethodName) prog_17_method_55_code (4 : Nat) (Option.some Jvm.ClassFile.FieldType.int)) ∈ lw_all := lw_g (lw_at lw_m6 100 rfl) rfl
theorem q1377 : (Jvm.Cond.methodLink "ClassFileReaderModel" (256 : Nat) ({ cls := "ClassFileReaderModel", name := "member2", desc := "(II)I" } : Jvm.MethodName)) ∈ lw_all := lw_g (lw_at lw_m6 101 rfl) rfl
theorem q1378 : (Jvm.Cond.privateMethod ({ cls := "ClassFileReaderModel", name := "member2", desc := "(II)I" } : Jvm.MethodName)) ∈ lw_tbl := lw_at lw_m6 102 rfl
theorem q1379 : (Jvm.Cond.instanceMethod ({ cls := "ClassFileReaderModel", name := "member2", desc := "(II)I" } : Jvm.MethodName)) ∈ lw_all := lw_g (lw_at lw_m6 103 rfl) rfl
theorem q1380 : (Jvm.Cond.code ({ cls := "ClassFileReaderModel", name := "member2", desc := "(II)I" } : Jvm.MethodName) prog_17_method_54_code (3 : Nat) (Option.some Jvm.ClassFile.FieldType.int)) ∈ lw_all := lw_g (lw_at lw_m6 104 rfl) rfl
theorem q1382 : (Jvm.Cond.instanceMethod ({ cls := "ClassFileReaderModel", name := "text", desc := "(III)I" } : Jvm.MethodName)) ∈ lw_all := lw_g (lw_at lw_m6 106 rfl) rfl
theorem q1383 : (Jvm.Cond.selects "ClassFileReaderModel" ({ cls := "ClassFileReaderModel", name := "text", desc := "(III)I" } : Jvm.MethodName) ({ cls := "ClassFileReaderModel", name := "text", desc := "(III)I" } : Jvm.MethodName)) ∈ lw_all := lw_g (lw_at lw_m6 107 rfl) rfl
theorem q1384 : (Jvm.Cond.code ({ cls := "ClassFileReaderModel", name := "text", desc := "(III)I" } : Jvm.MethodName) prog_17_method_61_code (4 : Nat) (Option.some Jvm.ClassFile.FieldType.int)) ∈ lw_all := lw_g (lw_at lw_m6 108 rfl) rfl
theorem q1385 : (Jvm.Cond.methodLink "ClassFileReaderModel" (266 : Nat) ({ cls := "ClassFileReaderModel", name := "textIndex", desc := "(II)I" } : Jvm.MethodName)) ∈ lw_all := lw_g (lw_at lw_m6 109 rfl) rfl
theorem q1386 : (Jvm.Cond.privateMethod ({ cls := "ClassFileReaderModel", name := "textIndex", desc := "(II)I" } : Jvm.MethodName)) ∈ lw_tbl := lw_at lw_m6 110 rfl
theorem q1387 : (Jvm.Cond.instanceMethod ({ cls := "ClassFileReaderModel", name := "textIndex", desc := "(II)I" } : Jvm.MethodName)) ∈ lw_all := lw_g (lw_at lw_m6 111 rfl) rfl
theorem q1388 : (Jvm.Cond.code ({ cls := "ClassFileReaderModel", name := "textIndex", desc := "(II)I" } : Jvm.MethodName) prog_17_method_59_code (6 : Nat) (Option.some Jvm.ClassFile.FieldType.int)) ∈ lw_all := lw_g (lw_at lw_m6 112 rfl) rfl
theorem q1389 : (Jvm.Cond.methodLink "ClassFileReaderModel" (259 : Nat) ({ cls := "ClassFileReaderModel", name := "classText", desc := "(I)I" } : Jvm.MethodName)) ∈ lw_all := lw_g (lw_at lw_m6 113 rfl) rfl
theorem q1390 : (Jvm.Cond.privateMethod ({ cls := "ClassFileReaderModel", name := "classText", desc := "(I)I" } : Jvm.MethodName)) ∈ lw_tbl := lw_at lw_m6 114 rfl
theorem q1391 : (Jvm.Cond.instanceMethod ({ cls := "ClassFileReaderModel", name := "classText", desc := "(I)I" } : Jvm.MethodName)) ∈ lw_all := lw_g (lw_at lw_m6 115 rfl) rfl
theorem q1392 : (Jvm.Cond.code ({ cls := "ClassFileReaderModel", name := "classText", desc := "(I)I" } : Jvm.MethodName) prog_17_method_57_code (2 : Nat) (Option.some Jvm.ClassFile.FieldType.int)) ∈ lw_all := lw_g (lw_at lw_m6 116 rfl) rfl
theorem q1393 : (Jvm.Cond.methodLink "ClassFileReaderModel" (262 : Nat) ({ cls := "ClassFileReaderModel", name := "elementText", desc := "(IIII)I" } : Jvm.MethodName)) ∈ lw_all := lw_g (lw_at lw_m6 117 rfl) rfl
theorem q1394 : (Jvm.Cond.privateMethod ({ cls := "ClassFileReaderModel", name := "elementText", desc := "(IIII)I" } : Jvm.MethodName)) ∈ lw_tbl := lw_at lw_m6 118 rfl
theorem q1395 : (Jvm.Cond.instanceMethod ({ cls := "ClassFileReaderModel", name := "elementText", desc := "(IIII)I" } : Jvm.MethodName)) ∈ lw_all := lw_g (lw_at lw_m6 119 rfl) rfl
theorem q1396 : (Jvm.Cond.code ({ cls := "ClassFileReaderModel", name := "elementText", desc := "(IIII)I" } : Jvm.MethodName) prog_17_method_58_code (6 : Nat) (Option.some Jvm.ClassFile.FieldType.int)) ∈ lw_all := lw_g (lw_at lw_m6 120 rfl) rfl
theorem q1397 : (Jvm.Cond.methodLink "ClassFileReaderModel" (269 : Nat) ({ cls := "ClassFileReaderModel", name := "characterOf", desc := "(II)I" } : Jvm.MethodName)) ∈ lw_all := lw_g (lw_at lw_m6 121 rfl) rfl
theorem q1398 : (Jvm.Cond.privateMethod ({ cls := "ClassFileReaderModel", name := "characterOf", desc := "(II)I" } : Jvm.MethodName)) ∈ lw_tbl := lw_at lw_m6 122 rfl
theorem q1399 : (Jvm.Cond.instanceMethod ({ cls := "ClassFileReaderModel", name := "characterOf", desc := "(II)I" } : Jvm.MethodName)) ∈ lw_all := lw_g (lw_at lw_m6 123 rfl) rfl
theorem q1400 : (Jvm.Cond.code ({ cls := "ClassFileReaderModel", name := "characterOf", desc := "(II)I" } : Jvm.MethodName) prog_17_method_60_code (3 : Nat) (Option.some Jvm.ClassFile.FieldType.int)) ∈ lw_all := lw_g (lw_at lw_m6 124 rfl) rfl
theorem q1402 : (Jvm.Cond.instanceMethod ({ cls := "ClassFileReaderModel", name := "exceptions", desc := "(I)I" } : Jvm.MethodName)) ∈ lw_all := lw_g (lw_at lw_m6 126 rfl) rfl
theorem q1403 : (Jvm.Cond.selects "ClassFileReaderModel" ({ cls := "ClassFileReaderModel", name := "exceptions", desc := "(I)I" } : Jvm.MethodName) ({ cls := "ClassFileReaderModel", name := "exceptions", desc := "(I)I" } : Jvm.MethodName)) ∈ lw_all := lw_g (lw_at lw_m6 127 rfl) rfl
theorem q1404 : (Jvm.Cond.code ({ cls := "ClassFileReaderModel", name := "exceptions", desc := "(I)I" } : Jvm.MethodName) prog_17_method_62_code (3 : Nat) (Option.some Jvm.ClassFile.FieldType.int)) ∈ lw_all := lw_g (lw_at lw_m6 128 rfl) rfl
theorem q1406 : (Jvm.Cond.instanceMethod ({ cls := "ClassFileReaderModel", name := "exception", desc := "(III)I" } : Jvm.MethodName)) ∈ lw_all := lw_g (lw_at lw_m6 130 rfl) rfl
theorem q1407 : (Jvm.Cond.selects "ClassFileReaderModel" ({ cls := "ClassFileReaderModel", name := "exception", desc := "(III)I" } : Jvm.MethodName) ({ cls := "ClassFileReaderModel", name := "exception", desc := "(III)I" } : Jvm.MethodName)) ∈ lw_all := lw_g (lw_at lw_m6 131 rfl) rfl
theorem q1408 : (Jvm.Cond.code ({ cls := "ClassFileReaderModel", name := "exception", desc := "(III)I" } : Jvm.MethodName) prog_17_method_63_code (5 : Nat) (Option.some Jvm.ClassFile.FieldType.int)) ∈ lw_all := lw_g (lw_at lw_m6 132 rfl) rfl
theorem q1410 : (Jvm.Cond.instanceMethod ({ cls := "ClassFileReaderModel", name := "constant", desc := "(I)J" } : Jvm.MethodName)) ∈ lw_all := lw_g (lw_at lw_m6 134 rfl) rfl
theorem q1411 : (Jvm.Cond.selects "ClassFileReaderModel" ({ cls := "ClassFileReaderModel", name := "constant", desc := "(I)J" } : Jvm.MethodName) ({ cls := "ClassFileReaderModel", name := "constant", desc := "(I)J" } : Jvm.MethodName)) ∈ lw_all := lw_g (lw_at lw_m6 135 rfl) rfl
theorem q1412 : (Jvm.Cond.code ({ cls := "ClassFileReaderModel", name := "constant", desc := "(I)J" } : Jvm.MethodName) prog_17_method_65_code (8 : Nat) (Option.some Jvm.ClassFile.FieldType.long)) ∈ lw_all := lw_g (lw_at lw_m6 136 rfl) rfl
theorem q1413 : (Jvm.Cond.constantLong "ClassFileReaderModel" (274 : Nat) (1000000000000000000 : Int64)) ∈ lw_all := lw_g (lw_at lw_m6 137 rfl) rfl
theorem q1414 : (Jvm.Cond.methodLink "ClassFileReaderModel" (276 : Nat) ({ cls := "ClassFileReaderModel", name := "four", desc := "(I)J" } : Jvm.MethodName)) ∈ lw_all := lw_g (lw_at lw_m6 138 rfl) rfl
theorem q1415 : (Jvm.Cond.privateMethod ({ cls := "ClassFileReaderModel", name := "four", desc := "(I)J" } : Jvm.MethodName)) ∈ lw_tbl := lw_at lw_m6 139 rfl
theorem q1416 : (Jvm.Cond.instanceMethod ({ cls := "ClassFileReaderModel", name := "four", desc := "(I)J" } : Jvm.MethodName)) ∈ lw_all := lw_g (lw_at lw_m6 140 rfl) rfl
theorem q1417 : (Jvm.Cond.code ({ cls := "ClassFileReaderModel", name := "four", desc := "(I)J" } : Jvm.MethodName) prog_17_method_64_code (2 : Nat) (Option.some Jvm.ClassFile.FieldType.long)) ∈ lw_all := lw_g (lw_at lw_m6 141 rfl) rfl
theorem q1418 : (Jvm.Cond.constantLong "ClassFileReaderModel" (272 : Nat) (65536 : Int64)) ∈ lw_all := lw_g (lw_at lw_m6 142 rfl) rfl
theorem q1419 : (Jvm.Cond.constantLong "ClassFileReaderModel" (280 : Nat) (-1000000000000000000 : Int64)) ∈ lw_all := lw_g (lw_at lw_m6 143 rfl) rfl
theorem q1421 : (Jvm.Cond.instanceMethod ({ cls := "ClassFileReaderModel", name := "deprecated", desc := "(II)I" } : Jvm.MethodName)) ∈ lw_all := lw_g (lw_at lw_m6 145 rfl) rfl
theorem q1422 : (Jvm.Cond.selects "ClassFileReaderModel" ({ cls := "ClassFileReaderModel", name := "deprecated", desc := "(II)I" } : Jvm.MethodName) ({ cls := "ClassFileReaderModel", name := "deprecated", desc := "(II)I" } : Jvm.MethodName)) ∈ lw_all := lw_g (lw_at lw_m6 146 rfl) rfl
theorem q1423 : (Jvm.Cond.code ({ cls := "ClassFileReaderModel", name := "deprecated", desc := "(II)I" } : Jvm.MethodName) prog_17_method_66_code (4 : Nat) (Option.some Jvm.ClassFile.FieldType.int)) ∈ lw_all := lw_g (lw_at lw_m6 147 rfl) rfl
theorem in_X1 : ∀ w ∈ wsX10, w ∈ lw_all := lw_in wsX10 [1117, 1119, 1121, 1123, 1125, 1127, 1129, 1131, 1133, 1135] (by decide +kernel) (by decide +kernel)
def RX10 : String := "ClassFileReader$Named"
def TX10 : u_T := fun k => match k with
  | 0 => ("ClassFileReader$Entry", "place", "I", true)
  | 1 => ("ClassFileReader$Named", "type", "Z", true)
  | 2 => ("ClassFileReader$Named", "index", "I", true)
  | _ => ("ClassFileReader$Named", "text", "Ljava/lang/String;", false)
def tyX10 : Nat → FieldType := fun k => match k with
  | 0 => .int
  | 1 => .boolean
  | 2 => .int
  | _ => .object "java/lang/String"
abbrev wsX100 : List Cond := u_ws RX10 TX10 4
theorem nmX10 : ∀ a, a < 4 → ∀ b, b < 4 → a ≠ b → (TX10 a).2.1 ≠ (TX10 b).2.1 := by decide +kernel
theorem tyX10_ok : ∀ k, k < 4 → parseFieldDescriptor (TX10 k).2.2.1 = some (tyX10 k) := by decide +kernel
abbrev cX10_init : ByteArray := prog_13_method_1_code
def yX10_init : MethodName := ⟨RX10, "<init>", "(IZI)V"⟩
abbrev cX10_check : ByteArray := prog_13_method_2_code
def yX10_check : MethodName := ⟨RX10, "check", "(LClassFileReader;)V"⟩
theorem q100 : (Jvm.Cond.initialized "ClassFileReader$Named") ∈ lw_all := lw_g (lw_at lw_m1 24 rfl) rfl
theorem q616 : (Jvm.Cond.fieldLink "ClassFileReader$Named" (19 : Nat) "ClassFileReader$Named" "place" "I") ∈ lw_all := lw_g (lw_at lw_m3 60 rfl) rfl
theorem q617 : (Jvm.Cond.sameField "ClassFileReader$Named" "ClassFileReader$Entry" "place" "I") ∈ lw_all := lw_g (lw_at lw_m3 61 rfl) rfl
theorem q642 : (Jvm.Cond.instantiable "ClassFileReader$Named" (4 : Nat)) ∈ lw_all := lw_g (lw_at lw_m3 86 rfl) rfl
theorem q644 : (Jvm.Cond.instanceMethod ({ cls := "ClassFileReader$Named", name := "<init>", desc := "(IZI)V" } : Jvm.MethodName)) ∈ lw_all := lw_g (lw_at lw_m3 88 rfl) rfl
theorem q645 : (Jvm.Cond.code ({ cls := "ClassFileReader$Named", name := "<init>", desc := "(IZI)V" } : Jvm.MethodName) prog_13_method_1_code (4 : Nat) (Option.none : Option Jvm.ClassFile.FieldType)) ∈ lw_all := lw_g (lw_at lw_m3 89 rfl) rfl
theorem q646 : (Jvm.Cond.methodLink "ClassFileReader$Named" (3 : Nat) ({ cls := "ClassFileReader$Entry", name := "<init>", desc := "(I)V" } : Jvm.MethodName)) ∈ lw_all := lw_g (lw_at lw_m3 90 rfl) rfl
theorem q647 : (Jvm.Cond.fieldLink "ClassFileReader$Named" (9 : Nat) "ClassFileReader$Named" "type" "Z") ∈ lw_all := lw_g (lw_at lw_m3 91 rfl) rfl
theorem q649 : (Jvm.Cond.fieldLink "ClassFileReader$Named" (15 : Nat) "ClassFileReader$Named" "index" "I") ∈ lw_all := lw_g (lw_at lw_m3 93 rfl) rfl
theorem q650 : (Jvm.Cond.fieldLink "ClassFileReader$Named" (26 : Nat) "ClassFileReader$Named" "text" "Ljava/lang/String;") ∈ lw_all := lw_g (lw_at lw_m3 94 rfl) rfl
theorem q652 : (Jvm.Cond.laysFinal "ClassFileReader$Named" "ClassFileReader$Named" "type" "Z") ∈ lw_all := lw_g (lw_at lw_m3 96 rfl) rfl
theorem q653 : (Jvm.Cond.soleField "ClassFileReader$Named" "type") ∈ lw_all := lw_g (lw_at lw_m3 97 rfl) rfl
theorem q654 : (Jvm.Cond.laysFinal "ClassFileReader$Named" "ClassFileReader$Named" "index" "I") ∈ lw_all := lw_g (lw_at lw_m3 98 rfl) rfl
theorem q655 : (Jvm.Cond.soleField "ClassFileReader$Named" "index") ∈ lw_all := lw_g (lw_at lw_m3 99 rfl) rfl
theorem q656 : (Jvm.Cond.lays "ClassFileReader$Named" "ClassFileReader$Named" "text" "Ljava/lang/String;") ∈ lw_all := lw_g (lw_at lw_m3 100 rfl) rfl
theorem q657 : (Jvm.Cond.soleField "ClassFileReader$Named" "text") ∈ lw_all := lw_g (lw_at lw_m3 101 rfl) rfl
theorem q658 : (Jvm.Cond.laysFinal "ClassFileReader$Named" "ClassFileReader$Entry" "place" "I") ∈ lw_all := lw_g (lw_at lw_m3 102 rfl) rfl
theorem q659 : (Jvm.Cond.superclass "ClassFileReader$Named" "ClassFileReader$Entry") ∈ lw_all := lw_g (lw_at lw_m3 103 rfl) rfl
theorem q683 : (Jvm.Cond.selects "ClassFileReader$Named" ({ cls := "ClassFileReader$Entry", name := "check", desc := "(LClassFileReader;)V" } : Jvm.MethodName) ({ cls := "ClassFileReader$Named", name := "check", desc := "(LClassFileReader;)V" } : Jvm.MethodName)) ∈ lw_all := lw_g (lw_at lw_m3 127 rfl) rfl
theorem q684 : (Jvm.Cond.instanceMethod ({ cls := "ClassFileReader$Named", name := "check", desc := "(LClassFileReader;)V" } : Jvm.MethodName)) ∈ lw_all := lw_g (lw_at lw_m3 128 rfl) rfl
theorem q685 : (Jvm.Cond.code ({ cls := "ClassFileReader$Named", name := "check", desc := "(LClassFileReader;)V" } : Jvm.MethodName) prog_13_method_2_code (2 : Nat) (Option.none : Option Jvm.ClassFile.FieldType)) ∈ lw_all := lw_g (lw_at lw_m3 129 rfl) rfl
theorem q686 : (Jvm.Cond.methodLinkNest "ClassFileReader$Named" (22 : Nat) ({ cls := "ClassFileReader", name := "textAt", desc := "(II)Ljava/lang/String;" } : Jvm.MethodName) "ClassFileReader") ∈ lw_tbl := lw_at lw_m3 130 rfl
theorem q694 : (Jvm.Cond.methodLink "ClassFileReader$Named" (30 : Nat) ({ cls := "java/lang/String", name := "length", desc := "()I" } : Jvm.MethodName)) ∈ lw_all := lw_g (lw_at lw_m3 138 rfl) rfl
theorem q702 : (Jvm.Cond.methodLinkNest "ClassFileReader$Named" (36 : Nat) ({ cls := "ClassFileReader", name := "className", desc := "(Ljava/lang/String;II)Z" } : Jvm.MethodName) "ClassFileReader") ∈ lw_tbl := lw_at lw_m3 146 rfl
theorem q723 : (Jvm.Cond.methodLinkNest "ClassFileReader$Named" (40 : Nat) ({ cls := "ClassFileReader", name := "arrayName", desc := "(Ljava/lang/String;)Z" } : Jvm.MethodName) "ClassFileReader") ∈ lw_tbl := lw_at lw_m3 167 rfl
theorem q738 : (Jvm.Cond.classLink "ClassFileReader$Named" (44 : Nat) "ClassFileReader$Malformed") ∈ lw_all := lw_g (lw_at lw_m3 182 rfl) rfl
theorem q739 : (Jvm.Cond.methodLink "ClassFileReader$Named" (46 : Nat) ({ cls := "ClassFileReader$Malformed", name := "<init>", desc := "(II)V" } : Jvm.MethodName)) ∈ lw_all := lw_g (lw_at lw_m3 183 rfl) rfl
theorem q1433 : (Jvm.Cond.castable "ClassFileReader$Named" "ClassFileReader$Entry") ∈ lw_tbl := lw_at lw_m6 157 rfl
theorem in_X10 : ∀ w ∈ wsX100, w ∈ lw_all := lw_in wsX100 [658, 652, 654, 656] (by decide +kernel) (by decide +kernel)
def RX11 : String := "ClassFileReader$Pair"
def TX11 : u_T := fun k => match k with
  | 0 => ("ClassFileReader$Entry", "place", "I", true)
  | 1 => ("ClassFileReader$Pair", "nameType", "Z", true)
  | 2 => ("ClassFileReader$Pair", "first", "I", true)
  | _ => ("ClassFileReader$Pair", "second", "I", true)
def tyX11 : Nat → FieldType := fun k => match k with
  | 0 => .int
  | 1 => .boolean
  | 2 => .int
  | _ => .int
abbrev wsX110 : List Cond := u_ws RX11 TX11 4
theorem nmX11 : ∀ a, a < 4 → ∀ b, b < 4 → a ≠ b → (TX11 a).2.1 ≠ (TX11 b).2.1 := by decide +kernel
theorem tyX11_ok : ∀ k, k < 4 → parseFieldDescriptor (TX11 k).2.2.1 = some (tyX11 k) := by decide +kernel
abbrev cX11_init : ByteArray := prog_14_method_1_code
def yX11_init : MethodName := ⟨RX11, "<init>", "(IZII)V"⟩
abbrev cX11_check : ByteArray := prog_14_method_2_code
def yX11_check : MethodName := ⟨RX11, "check", "(LClassFileReader;)V"⟩
theorem q101 : (Jvm.Cond.initialized "ClassFileReader$Pair") ∈ lw_all := lw_g (lw_at lw_m1 25 rfl) rfl
theorem q618 : (Jvm.Cond.fieldLink "ClassFileReader$Pair" (22 : Nat) "ClassFileReader$Pair" "place" "I") ∈ lw_all := lw_g (lw_at lw_m3 62 rfl) rfl
theorem q619 : (Jvm.Cond.sameField "ClassFileReader$Pair" "ClassFileReader$Entry" "place" "I") ∈ lw_all := lw_g (lw_at lw_m3 63 rfl) rfl
theorem q661 : (Jvm.Cond.instantiable "ClassFileReader$Pair" (4 : Nat)) ∈ lw_all := lw_g (lw_at lw_m3 105 rfl) rfl
theorem q663 : (Jvm.Cond.instanceMethod ({ cls := "ClassFileReader$Pair", name := "<init>", desc := "(IZII)V" } : Jvm.MethodName)) ∈ lw_all := lw_g (lw_at lw_m3 107 rfl) rfl
theorem q664 : (Jvm.Cond.code ({ cls := "ClassFileReader$Pair", name := "<init>", desc := "(IZII)V" } : Jvm.MethodName) prog_14_method_1_code (5 : Nat) (Option.none : Option Jvm.ClassFile.FieldType)) ∈ lw_all := lw_g (lw_at lw_m3 108 rfl) rfl
theorem q665 : (Jvm.Cond.methodLink "ClassFileReader$Pair" (3 : Nat) ({ cls := "ClassFileReader$Entry", name := "<init>", desc := "(I)V" } : Jvm.MethodName)) ∈ lw_all := lw_g (lw_at lw_m3 109 rfl) rfl
theorem q666 : (Jvm.Cond.fieldLink "ClassFileReader$Pair" (9 : Nat) "ClassFileReader$Pair" "nameType" "Z") ∈ lw_all := lw_g (lw_at lw_m3 110 rfl) rfl
theorem q667 : (Jvm.Cond.fieldLink "ClassFileReader$Pair" (15 : Nat) "ClassFileReader$Pair" "first" "I") ∈ lw_all := lw_g (lw_at lw_m3 111 rfl) rfl
theorem q668 : (Jvm.Cond.fieldLink "ClassFileReader$Pair" (19 : Nat) "ClassFileReader$Pair" "second" "I") ∈ lw_all := lw_g (lw_at lw_m3 112 rfl) rfl
theorem q669 : (Jvm.Cond.laysFinal "ClassFileReader$Pair" "ClassFileReader$Pair" "nameType" "Z") ∈ lw_all := lw_g (lw_at lw_m3 113 rfl) rfl
theorem q670 : (Jvm.Cond.soleField "ClassFileReader$Pair" "nameType") ∈ lw_all := lw_g (lw_at lw_m3 114 rfl) rfl
theorem q671 : (Jvm.Cond.laysFinal "ClassFileReader$Pair" "ClassFileReader$Pair" "first" "I") ∈ lw_all := lw_g (lw_at lw_m3 115 rfl) rfl
theorem q672 : (Jvm.Cond.soleField "ClassFileReader$Pair" "first") ∈ lw_all := lw_g (lw_at lw_m3 116 rfl) rfl
theorem q673 : (Jvm.Cond.laysFinal "ClassFileReader$Pair" "ClassFileReader$Pair" "second" "I") ∈ lw_all := lw_g (lw_at lw_m3 117 rfl) rfl
theorem q674 : (Jvm.Cond.soleField "ClassFileReader$Pair" "second") ∈ lw_all := lw_g (lw_at lw_m3 118 rfl) rfl
theorem q675 : (Jvm.Cond.laysFinal "ClassFileReader$Pair" "ClassFileReader$Entry" "place" "I") ∈ lw_all := lw_g (lw_at lw_m3 119 rfl) rfl
theorem q676 : (Jvm.Cond.superclass "ClassFileReader$Pair" "ClassFileReader$Entry") ∈ lw_all := lw_g (lw_at lw_m3 120 rfl) rfl
theorem q740 : (Jvm.Cond.selects "ClassFileReader$Pair" ({ cls := "ClassFileReader$Entry", name := "check", desc := "(LClassFileReader;)V" } : Jvm.MethodName) ({ cls := "ClassFileReader$Pair", name := "check", desc := "(LClassFileReader;)V" } : Jvm.MethodName)) ∈ lw_all := lw_g (lw_at lw_m3 184 rfl) rfl
theorem q741 : (Jvm.Cond.instanceMethod ({ cls := "ClassFileReader$Pair", name := "check", desc := "(LClassFileReader;)V" } : Jvm.MethodName)) ∈ lw_all := lw_g (lw_at lw_m3 185 rfl) rfl
theorem q742 : (Jvm.Cond.code ({ cls := "ClassFileReader$Pair", name := "check", desc := "(LClassFileReader;)V" } : Jvm.MethodName) prog_14_method_2_code (4 : Nat) (Option.none : Option Jvm.ClassFile.FieldType)) ∈ lw_all := lw_g (lw_at lw_m3 186 rfl) rfl
theorem q743 : (Jvm.Cond.methodLinkNest "ClassFileReader$Pair" (25 : Nat) ({ cls := "ClassFileReader", name := "classAt", desc := "(II)LClassFileReader$Named;" } : Jvm.MethodName) "ClassFileReader") ∈ lw_tbl := lw_at lw_m3 187 rfl
theorem q747 : (Jvm.Cond.methodLinkNest "ClassFileReader$Pair" (29 : Nat) ({ cls := "ClassFileReader", name := "entry", desc := "(I)LClassFileReader$Entry;" } : Jvm.MethodName) "ClassFileReader") ∈ lw_tbl := lw_at lw_m3 191 rfl
theorem q748 : (Jvm.Cond.classLink "ClassFileReader$Pair" (10 : Nat) "ClassFileReader$Pair") ∈ lw_all := lw_g (lw_at lw_m3 192 rfl) rfl
theorem q749 : (Jvm.Cond.classLink "ClassFileReader$Pair" (33 : Nat) "ClassFileReader$Malformed") ∈ lw_all := lw_g (lw_at lw_m3 193 rfl) rfl
theorem q750 : (Jvm.Cond.methodLink "ClassFileReader$Pair" (35 : Nat) ({ cls := "ClassFileReader$Malformed", name := "<init>", desc := "(II)V" } : Jvm.MethodName)) ∈ lw_all := lw_g (lw_at lw_m3 194 rfl) rfl
theorem q751 : (Jvm.Cond.methodLinkNest "ClassFileReader$Pair" (38 : Nat) ({ cls := "ClassFileReader", name := "textAt", desc := "(II)Ljava/lang/String;" } : Jvm.MethodName) "ClassFileReader") ∈ lw_tbl := lw_at lw_m3 195 rfl
theorem q752 : (Jvm.Cond.methodLinkNest "ClassFileReader$Pair" (42 : Nat) ({ cls := "ClassFileReader", name := "memberName", desc := "(Ljava/lang/String;)Z" } : Jvm.MethodName) "ClassFileReader") ∈ lw_tbl := lw_at lw_m3 196 rfl
theorem q755 : (Jvm.Cond.stringRef "ClassFileReader$Pair" (46 : Nat) "<init>") ∈ lw_tbl := lw_at lw_m3 199 rfl
theorem q756 : (Jvm.Cond.methodLink "ClassFileReader$Pair" (47 : Nat) ({ cls := "java/lang/String", name := "equals", desc := "(Ljava/lang/Object;)Z" } : Jvm.MethodName)) ∈ lw_all := lw_g (lw_at lw_m3 200 rfl) rfl
theorem q764 : (Jvm.Cond.methodLinkNest "ClassFileReader$Pair" (53 : Nat) ({ cls := "ClassFileReader", name := "fieldType", desc := "(Ljava/lang/String;)Z" } : Jvm.MethodName) "ClassFileReader") ∈ lw_tbl := lw_at lw_m3 208 rfl
theorem q765 : (Jvm.Cond.methodLinkNest "ClassFileReader$Pair" (56 : Nat) ({ cls := "ClassFileReader", name := "methodType", desc := "(Ljava/lang/String;)Z" } : Jvm.MethodName) "ClassFileReader") ∈ lw_tbl := lw_at lw_m3 209 rfl
theorem q1434 : (Jvm.Cond.castable "ClassFileReader$Pair" "ClassFileReader$Entry") ∈ lw_tbl := lw_at lw_m6 158 rfl
theorem in_X11 : ∀ w ∈ wsX110, w ∈ lw_all := lw_in wsX110 [675, 669, 671, 673] (by decide +kernel) (by decide +kernel)
def RX12 : String := "ClassFileReader$Link"
def TX12 : u_T := fun k => match k with
  | 0 => ("ClassFileReader$Link", "text", "Ljava/lang/String;", true)
  | _ => ("ClassFileReader$Link", "next", "LClassFileReader$Link;", false)
def tyX12 : Nat → FieldType := fun k => match k with
  | 0 => .object "java/lang/String"
  | _ => .object "ClassFileReader$Link"
abbrev wsX120 : List Cond := u_ws RX12 TX12 2
theorem nmX12 : ∀ a, a < 2 → ∀ b, b < 2 → a ≠ b → (TX12 a).2.1 ≠ (TX12 b).2.1 := by decide +kernel
theorem tyX12_ok : ∀ k, k < 2 → parseFieldDescriptor (TX12 k).2.2.1 = some (tyX12 k) := by decide +kernel
abbrev cX12_init : ByteArray := prog_6_method_1_code
def yX12_init : MethodName := ⟨RX12, "<init>", "(Ljava/lang/String;)V"⟩
theorem q102 : (Jvm.Cond.initialized "ClassFileReader$Link") ∈ lw_all := lw_g (lw_at lw_m1 26 rfl) rfl
theorem q792 : (Jvm.Cond.instantiable "ClassFileReader$Link" (2 : Nat)) ∈ lw_all := lw_g (lw_at lw_m3 236 rfl) rfl
theorem q794 : (Jvm.Cond.instanceMethod ({ cls := "ClassFileReader$Link", name := "<init>", desc := "(Ljava/lang/String;)V" } : Jvm.MethodName)) ∈ lw_all := lw_g (lw_at lw_m3 238 rfl) rfl
theorem q795 : (Jvm.Cond.code ({ cls := "ClassFileReader$Link", name := "<init>", desc := "(Ljava/lang/String;)V" } : Jvm.MethodName) prog_6_method_1_code (2 : Nat) (Option.none : Option Jvm.ClassFile.FieldType)) ∈ lw_all := lw_g (lw_at lw_m3 239 rfl) rfl
theorem q796 : (Jvm.Cond.methodLink "ClassFileReader$Link" (1 : Nat) ({ cls := "java/lang/Object", name := "<init>", desc := "()V" } : Jvm.MethodName)) ∈ lw_all := lw_g (lw_at lw_m4 0 rfl) rfl
theorem q797 : (Jvm.Cond.fieldLink "ClassFileReader$Link" (7 : Nat) "ClassFileReader$Link" "text" "Ljava/lang/String;") ∈ lw_all := lw_g (lw_at lw_m4 1 rfl) rfl
theorem q802 : (Jvm.Cond.laysFinal "ClassFileReader$Link" "ClassFileReader$Link" "text" "Ljava/lang/String;") ∈ lw_all := lw_g (lw_at lw_m4 6 rfl) rfl
theorem q803 : (Jvm.Cond.soleField "ClassFileReader$Link" "text") ∈ lw_all := lw_g (lw_at lw_m4 7 rfl) rfl
theorem q804 : (Jvm.Cond.lays "ClassFileReader$Link" "ClassFileReader$Link" "next" "LClassFileReader$Link;") ∈ lw_all := lw_g (lw_at lw_m4 8 rfl) rfl
theorem q805 : (Jvm.Cond.soleField "ClassFileReader$Link" "next") ∈ lw_all := lw_g (lw_at lw_m4 9 rfl) rfl
theorem q806 : (Jvm.Cond.superclass "ClassFileReader$Link" "java/lang/Object") ∈ lw_all := lw_g (lw_at lw_m4 10 rfl) rfl
theorem in_X12 : ∀ w ∈ wsX120, w ∈ lw_all := lw_in wsX120 [802, 804] (by decide +kernel) (by decide +kernel)
def RX13 : String := "ClassFileReader$Member"
def TX13 : u_T := fun k => match k with
  | 0 => ("ClassFileReader$Holder", "signature", "Ljava/lang/String;", false)
  | 1 => ("ClassFileReader$Holder", "deprecated", "Z", false)
  | 2 => ("ClassFileReader$Holder", "seen", "I", false)
  | 3 => ("ClassFileReader$Member", "flags", "I", true)
  | 4 => ("ClassFileReader$Member", "name", "Ljava/lang/String;", true)
  | 5 => ("ClassFileReader$Member", "type", "Ljava/lang/String;", true)
  | _ => ("ClassFileReader$Member", "next", "LClassFileReader$Member;", false)
def tyX13 : Nat → FieldType := fun k => match k with
  | 0 => .object "java/lang/String"
  | 1 => .boolean
  | 2 => .int
  | 3 => .int
  | 4 => .object "java/lang/String"
  | 5 => .object "java/lang/String"
  | _ => .object "ClassFileReader$Member"
abbrev wsX130 : List Cond := u_ws RX13 TX13 7
theorem nmX13 : ∀ a, a < 7 → ∀ b, b < 7 → a ≠ b → (TX13 a).2.1 ≠ (TX13 b).2.1 := by decide +kernel
theorem tyX13_ok : ∀ k, k < 7 → parseFieldDescriptor (TX13 k).2.2.1 = some (tyX13 k) := by decide +kernel
abbrev cX13_init : ByteArray := prog_9_method_1_code
def yX13_init : MethodName := ⟨RX13, "<init>", "(ILjava/lang/String;Ljava/lang/String;)V"⟩
theorem q104 : (Jvm.Cond.initialized "ClassFileReader$Member") ∈ lw_all := lw_g (lw_at lw_m1 28 rfl) rfl
theorem q269 : (Jvm.Cond.sameField "ClassFileReader$Member" "ClassFileReader$Holder" "signature" "Ljava/lang/String;") ∈ lw_all := lw_g (lw_at lw_m1 193 rfl) rfl
theorem q276 : (Jvm.Cond.sameField "ClassFileReader$Member" "ClassFileReader$Holder" "deprecated" "Z") ∈ lw_all := lw_g (lw_at lw_m1 200 rfl) rfl
theorem q843 : (Jvm.Cond.instanceMethod ({ cls := "ClassFileReader$Member", name := "<init>", desc := "(ILjava/lang/String;Ljava/lang/String;)V" } : Jvm.MethodName)) ∈ lw_all := lw_g (lw_at lw_m4 47 rfl) rfl
theorem q844 : (Jvm.Cond.code ({ cls := "ClassFileReader$Member", name := "<init>", desc := "(ILjava/lang/String;Ljava/lang/String;)V" } : Jvm.MethodName) prog_9_method_1_code (4 : Nat) (Option.none : Option Jvm.ClassFile.FieldType)) ∈ lw_all := lw_g (lw_at lw_m4 48 rfl) rfl
theorem q845 : (Jvm.Cond.methodLinkNest "ClassFileReader$Member" (1 : Nat) ({ cls := "ClassFileReader$Holder", name := "<init>", desc := "()V" } : Jvm.MethodName) "ClassFileReader") ∈ lw_tbl := lw_at lw_m4 49 rfl
theorem q850 : (Jvm.Cond.fieldLink "ClassFileReader$Member" (7 : Nat) "ClassFileReader$Member" "flags" "I") ∈ lw_all := lw_g (lw_at lw_m4 54 rfl) rfl
theorem q852 : (Jvm.Cond.fieldLink "ClassFileReader$Member" (13 : Nat) "ClassFileReader$Member" "name" "Ljava/lang/String;") ∈ lw_all := lw_g (lw_at lw_m4 56 rfl) rfl
theorem q855 : (Jvm.Cond.fieldLink "ClassFileReader$Member" (17 : Nat) "ClassFileReader$Member" "type" "Ljava/lang/String;") ∈ lw_all := lw_g (lw_at lw_m4 59 rfl) rfl
theorem q864 : (Jvm.Cond.soleField "ClassFileReader$Member" "flags") ∈ lw_all := lw_g (lw_at lw_m4 68 rfl) rfl
theorem q866 : (Jvm.Cond.soleField "ClassFileReader$Member" "name") ∈ lw_all := lw_g (lw_at lw_m4 70 rfl) rfl
theorem q868 : (Jvm.Cond.soleField "ClassFileReader$Member" "type") ∈ lw_all := lw_g (lw_at lw_m4 72 rfl) rfl
theorem q870 : (Jvm.Cond.soleField "ClassFileReader$Member" "next") ∈ lw_all := lw_g (lw_at lw_m4 74 rfl) rfl
theorem q915 : (Jvm.Cond.sameMethod "ClassFileReader$Member" "ClassFileReader$Holder" "known" "(Ljava/lang/String;)I") ∈ lw_all := lw_g (lw_at lw_m4 119 rfl) rfl
theorem q917 : (Jvm.Cond.superclass "ClassFileReader$Member" "ClassFileReader$Holder") ∈ lw_all := lw_g (lw_at lw_m4 121 rfl) rfl
theorem q918 : (Jvm.Cond.selects "ClassFileReader$Member" ({ cls := "ClassFileReader$Holder", name := "known", desc := "(Ljava/lang/String;)I" } : Jvm.MethodName) ({ cls := "ClassFileReader$Holder", name := "known", desc := "(Ljava/lang/String;)I" } : Jvm.MethodName)) ∈ lw_all := lw_g (lw_at lw_m4 122 rfl) rfl
theorem q993 : (Jvm.Cond.selects "ClassFileReader$Member" ({ cls := "ClassFileReader$Holder", name := "again", desc := "(I)Z" } : Jvm.MethodName) ({ cls := "ClassFileReader$Holder", name := "again", desc := "(I)Z" } : Jvm.MethodName)) ∈ lw_all := lw_g (lw_at lw_m4 197 rfl) rfl
theorem q1038 : (Jvm.Cond.instantiable "ClassFileReader$Member" (7 : Nat)) ∈ lw_all := lw_g (lw_at lw_m5 2 rfl) rfl
theorem q1040 : (Jvm.Cond.laysFinal "ClassFileReader$Member" "ClassFileReader$Member" "flags" "I") ∈ lw_all := lw_g (lw_at lw_m5 4 rfl) rfl
theorem q1041 : (Jvm.Cond.laysFinal "ClassFileReader$Member" "ClassFileReader$Member" "name" "Ljava/lang/String;") ∈ lw_all := lw_g (lw_at lw_m5 5 rfl) rfl
theorem q1042 : (Jvm.Cond.laysFinal "ClassFileReader$Member" "ClassFileReader$Member" "type" "Ljava/lang/String;") ∈ lw_all := lw_g (lw_at lw_m5 6 rfl) rfl
theorem q1043 : (Jvm.Cond.lays "ClassFileReader$Member" "ClassFileReader$Member" "next" "LClassFileReader$Member;") ∈ lw_all := lw_g (lw_at lw_m5 7 rfl) rfl
theorem q1044 : (Jvm.Cond.lays "ClassFileReader$Member" "ClassFileReader$Holder" "signature" "Ljava/lang/String;") ∈ lw_all := lw_g (lw_at lw_m5 8 rfl) rfl
theorem q1045 : (Jvm.Cond.lays "ClassFileReader$Member" "ClassFileReader$Holder" "deprecated" "Z") ∈ lw_all := lw_g (lw_at lw_m5 9 rfl) rfl
theorem q1046 : (Jvm.Cond.lays "ClassFileReader$Member" "ClassFileReader$Holder" "seen" "I") ∈ lw_all := lw_g (lw_at lw_m5 10 rfl) rfl
theorem in_X13 : ∀ w ∈ wsX130, w ∈ lw_all := lw_in wsX130 [1044, 1045, 1046, 1040, 1041, 1042, 1043] (by decide +kernel) (by decide +kernel)
def RX14 : String := "ClassFileReader$Method"
def TX14 : u_T := fun k => match k with
  | 0 => ("ClassFileReader$Holder", "signature", "Ljava/lang/String;", false)
  | 1 => ("ClassFileReader$Holder", "deprecated", "Z", false)
  | 2 => ("ClassFileReader$Holder", "seen", "I", false)
  | 3 => ("ClassFileReader$Member", "flags", "I", true)
  | 4 => ("ClassFileReader$Member", "name", "Ljava/lang/String;", true)
  | 5 => ("ClassFileReader$Member", "type", "Ljava/lang/String;", true)
  | 6 => ("ClassFileReader$Member", "next", "LClassFileReader$Member;", false)
  | _ => ("ClassFileReader$Method", "exceptions", "LClassFileReader$Links;", true)
def tyX14 : Nat → FieldType := fun k => match k with
  | 0 => .object "java/lang/String"
  | 1 => .boolean
  | 2 => .int
  | 3 => .int
  | 4 => .object "java/lang/String"
  | 5 => .object "java/lang/String"
  | 6 => .object "ClassFileReader$Member"
  | _ => .object "ClassFileReader$Links"
abbrev wsX140 : List Cond := u_ws RX14 TX14 8
theorem nmX14 : ∀ a, a < 8 → ∀ b, b < 8 → a ≠ b → (TX14 a).2.1 ≠ (TX14 b).2.1 := by decide +kernel
theorem tyX14_ok : ∀ k, k < 8 → parseFieldDescriptor (TX14 k).2.2.1 = some (tyX14 k) := by decide +kernel
abbrev cX14_init : ByteArray := prog_11_method_1_code
def yX14_init : MethodName := ⟨RX14, "<init>", "(ILjava/lang/String;Ljava/lang/String;)V"⟩
abbrev cX14_known : ByteArray := prog_11_method_2_code
def yX14_known : MethodName := ⟨RX14, "known", "(Ljava/lang/String;)I"⟩
theorem q105 : (Jvm.Cond.initialized "ClassFileReader$Method") ∈ lw_all := lw_g (lw_at lw_m1 29 rfl) rfl
theorem q838 : (Jvm.Cond.instantiable "ClassFileReader$Method" (8 : Nat)) ∈ lw_all := lw_g (lw_at lw_m4 42 rfl) rfl
theorem q840 : (Jvm.Cond.instanceMethod ({ cls := "ClassFileReader$Method", name := "<init>", desc := "(ILjava/lang/String;Ljava/lang/String;)V" } : Jvm.MethodName)) ∈ lw_all := lw_g (lw_at lw_m4 44 rfl) rfl
theorem q841 : (Jvm.Cond.code ({ cls := "ClassFileReader$Method", name := "<init>", desc := "(ILjava/lang/String;Ljava/lang/String;)V" } : Jvm.MethodName) prog_11_method_1_code (4 : Nat) (Option.none : Option Jvm.ClassFile.FieldType)) ∈ lw_all := lw_g (lw_at lw_m4 45 rfl) rfl
theorem q842 : (Jvm.Cond.methodLink "ClassFileReader$Method" (1 : Nat) ({ cls := "ClassFileReader$Member", name := "<init>", desc := "(ILjava/lang/String;Ljava/lang/String;)V" } : Jvm.MethodName)) ∈ lw_all := lw_g (lw_at lw_m4 46 rfl) rfl
theorem q846 : (Jvm.Cond.classLink "ClassFileReader$Method" (7 : Nat) "ClassFileReader$Links") ∈ lw_all := lw_g (lw_at lw_m4 50 rfl) rfl
theorem q847 : (Jvm.Cond.methodLinkNest "ClassFileReader$Method" (9 : Nat) ({ cls := "ClassFileReader$Links", name := "<init>", desc := "()V" } : Jvm.MethodName) "ClassFileReader") ∈ lw_tbl := lw_at lw_m4 51 rfl
theorem q848 : (Jvm.Cond.fieldLink "ClassFileReader$Method" (12 : Nat) "ClassFileReader$Method" "exceptions" "LClassFileReader$Links;") ∈ lw_all := lw_g (lw_at lw_m4 52 rfl) rfl
theorem q861 : (Jvm.Cond.laysFinal "ClassFileReader$Method" "ClassFileReader$Method" "exceptions" "LClassFileReader$Links;") ∈ lw_all := lw_g (lw_at lw_m4 65 rfl) rfl
theorem q862 : (Jvm.Cond.soleField "ClassFileReader$Method" "exceptions") ∈ lw_all := lw_g (lw_at lw_m4 66 rfl) rfl
theorem q863 : (Jvm.Cond.laysFinal "ClassFileReader$Method" "ClassFileReader$Member" "flags" "I") ∈ lw_all := lw_g (lw_at lw_m4 67 rfl) rfl
theorem q865 : (Jvm.Cond.laysFinal "ClassFileReader$Method" "ClassFileReader$Member" "name" "Ljava/lang/String;") ∈ lw_all := lw_g (lw_at lw_m4 69 rfl) rfl
theorem q867 : (Jvm.Cond.laysFinal "ClassFileReader$Method" "ClassFileReader$Member" "type" "Ljava/lang/String;") ∈ lw_all := lw_g (lw_at lw_m4 71 rfl) rfl
theorem q869 : (Jvm.Cond.lays "ClassFileReader$Method" "ClassFileReader$Member" "next" "LClassFileReader$Member;") ∈ lw_all := lw_g (lw_at lw_m4 73 rfl) rfl
theorem q871 : (Jvm.Cond.lays "ClassFileReader$Method" "ClassFileReader$Holder" "signature" "Ljava/lang/String;") ∈ lw_all := lw_g (lw_at lw_m4 75 rfl) rfl
theorem q872 : (Jvm.Cond.lays "ClassFileReader$Method" "ClassFileReader$Holder" "deprecated" "Z") ∈ lw_all := lw_g (lw_at lw_m4 76 rfl) rfl
theorem q873 : (Jvm.Cond.lays "ClassFileReader$Method" "ClassFileReader$Holder" "seen" "I") ∈ lw_all := lw_g (lw_at lw_m4 77 rfl) rfl
theorem q874 : (Jvm.Cond.superclass "ClassFileReader$Method" "ClassFileReader$Member") ∈ lw_all := lw_g (lw_at lw_m4 78 rfl) rfl
theorem q919 : (Jvm.Cond.selects "ClassFileReader$Method" ({ cls := "ClassFileReader$Holder", name := "known", desc := "(Ljava/lang/String;)I" } : Jvm.MethodName) ({ cls := "ClassFileReader$Method", name := "known", desc := "(Ljava/lang/String;)I" } : Jvm.MethodName)) ∈ lw_all := lw_g (lw_at lw_m4 123 rfl) rfl
theorem q920 : (Jvm.Cond.instanceMethod ({ cls := "ClassFileReader$Method", name := "known", desc := "(Ljava/lang/String;)I" } : Jvm.MethodName)) ∈ lw_all := lw_g (lw_at lw_m4 124 rfl) rfl
theorem q921 : (Jvm.Cond.code ({ cls := "ClassFileReader$Method", name := "known", desc := "(Ljava/lang/String;)I" } : Jvm.MethodName) prog_11_method_2_code (2 : Nat) (Option.some Jvm.ClassFile.FieldType.int)) ∈ lw_all := lw_g (lw_at lw_m4 125 rfl) rfl
theorem q922 : (Jvm.Cond.stringRef "ClassFileReader$Method" (18 : Nat) "Exceptions") ∈ lw_tbl := lw_at lw_m4 126 rfl
theorem q923 : (Jvm.Cond.methodLink "ClassFileReader$Method" (20 : Nat) ({ cls := "java/lang/String", name := "equals", desc := "(Ljava/lang/Object;)Z" } : Jvm.MethodName)) ∈ lw_all := lw_g (lw_at lw_m4 127 rfl) rfl
theorem q924 : (Jvm.Cond.methodLink "ClassFileReader$Method" (26 : Nat) ({ cls := "ClassFileReader$Member", name := "known", desc := "(Ljava/lang/String;)I" } : Jvm.MethodName)) ∈ lw_all := lw_g (lw_at lw_m4 128 rfl) rfl
theorem q994 : (Jvm.Cond.selects "ClassFileReader$Method" ({ cls := "ClassFileReader$Holder", name := "again", desc := "(I)Z" } : Jvm.MethodName) ({ cls := "ClassFileReader$Holder", name := "again", desc := "(I)Z" } : Jvm.MethodName)) ∈ lw_all := lw_g (lw_at lw_m4 198 rfl) rfl
theorem in_X14 : ∀ w ∈ wsX140, w ∈ lw_all := lw_in wsX140 [871, 872, 873, 863, 865, 867, 869, 861] (by decide +kernel) (by decide +kernel)
def RX15 : String := "ClassFileReader$Field"
def TX15 : u_T := fun k => match k with
  | 0 => ("ClassFileReader$Holder", "signature", "Ljava/lang/String;", false)
  | 1 => ("ClassFileReader$Holder", "deprecated", "Z", false)
  | 2 => ("ClassFileReader$Holder", "seen", "I", false)
  | 3 => ("ClassFileReader$Member", "flags", "I", true)
  | 4 => ("ClassFileReader$Member", "name", "Ljava/lang/String;", true)
  | 5 => ("ClassFileReader$Member", "type", "Ljava/lang/String;", true)
  | 6 => ("ClassFileReader$Member", "next", "LClassFileReader$Member;", false)
  | _ => ("ClassFileReader$Field", "constant", "J", false)
def tyX15 : Nat → FieldType := fun k => match k with
  | 0 => .object "java/lang/String"
  | 1 => .boolean
  | 2 => .int
  | 3 => .int
  | 4 => .object "java/lang/String"
  | 5 => .object "java/lang/String"
  | 6 => .object "ClassFileReader$Member"
  | _ => .long
abbrev wsX150 : List Cond := u_ws RX15 TX15 8
theorem nmX15 : ∀ a, a < 8 → ∀ b, b < 8 → a ≠ b → (TX15 a).2.1 ≠ (TX15 b).2.1 := by decide +kernel
theorem tyX15_ok : ∀ k, k < 8 → parseFieldDescriptor (TX15 k).2.2.1 = some (tyX15 k) := by decide +kernel
abbrev cX15_init : ByteArray := prog_4_method_1_code
def yX15_init : MethodName := ⟨RX15, "<init>", "(ILjava/lang/String;Ljava/lang/String;)V"⟩
abbrev cX15_known : ByteArray := prog_4_method_2_code
def yX15_known : MethodName := ⟨RX15, "known", "(Ljava/lang/String;)I"⟩
theorem q106 : (Jvm.Cond.initialized "ClassFileReader$Field") ∈ lw_all := lw_g (lw_at lw_m1 30 rfl) rfl
theorem q858 : (Jvm.Cond.sameField "ClassFileReader$Field" "ClassFileReader$Member" "type" "Ljava/lang/String;") ∈ lw_all := lw_g (lw_at lw_m4 62 rfl) rfl
theorem q876 : (Jvm.Cond.instantiable "ClassFileReader$Field" (8 : Nat)) ∈ lw_all := lw_g (lw_at lw_m4 80 rfl) rfl
theorem q878 : (Jvm.Cond.instanceMethod ({ cls := "ClassFileReader$Field", name := "<init>", desc := "(ILjava/lang/String;Ljava/lang/String;)V" } : Jvm.MethodName)) ∈ lw_all := lw_g (lw_at lw_m4 82 rfl) rfl
theorem q879 : (Jvm.Cond.code ({ cls := "ClassFileReader$Field", name := "<init>", desc := "(ILjava/lang/String;Ljava/lang/String;)V" } : Jvm.MethodName) prog_4_method_1_code (4 : Nat) (Option.none : Option Jvm.ClassFile.FieldType)) ∈ lw_all := lw_g (lw_at lw_m4 83 rfl) rfl
theorem q880 : (Jvm.Cond.methodLink "ClassFileReader$Field" (3 : Nat) ({ cls := "ClassFileReader$Member", name := "<init>", desc := "(ILjava/lang/String;Ljava/lang/String;)V" } : Jvm.MethodName)) ∈ lw_all := lw_g (lw_at lw_m4 84 rfl) rfl
theorem q881 : (Jvm.Cond.constantLong "ClassFileReader$Field" (9 : Nat) (1000000000000000000 : Int64)) ∈ lw_all := lw_g (lw_at lw_m4 85 rfl) rfl
theorem q882 : (Jvm.Cond.fieldLink "ClassFileReader$Field" (11 : Nat) "ClassFileReader$Field" "constant" "J") ∈ lw_all := lw_g (lw_at lw_m4 86 rfl) rfl
theorem q884 : (Jvm.Cond.lays "ClassFileReader$Field" "ClassFileReader$Field" "constant" "J") ∈ lw_all := lw_g (lw_at lw_m4 88 rfl) rfl
theorem q885 : (Jvm.Cond.soleField "ClassFileReader$Field" "constant") ∈ lw_all := lw_g (lw_at lw_m4 89 rfl) rfl
theorem q886 : (Jvm.Cond.laysFinal "ClassFileReader$Field" "ClassFileReader$Member" "flags" "I") ∈ lw_all := lw_g (lw_at lw_m4 90 rfl) rfl
theorem q887 : (Jvm.Cond.laysFinal "ClassFileReader$Field" "ClassFileReader$Member" "name" "Ljava/lang/String;") ∈ lw_all := lw_g (lw_at lw_m4 91 rfl) rfl
theorem q888 : (Jvm.Cond.laysFinal "ClassFileReader$Field" "ClassFileReader$Member" "type" "Ljava/lang/String;") ∈ lw_all := lw_g (lw_at lw_m4 92 rfl) rfl
theorem q889 : (Jvm.Cond.lays "ClassFileReader$Field" "ClassFileReader$Member" "next" "LClassFileReader$Member;") ∈ lw_all := lw_g (lw_at lw_m4 93 rfl) rfl
theorem q890 : (Jvm.Cond.lays "ClassFileReader$Field" "ClassFileReader$Holder" "signature" "Ljava/lang/String;") ∈ lw_all := lw_g (lw_at lw_m4 94 rfl) rfl
theorem q891 : (Jvm.Cond.lays "ClassFileReader$Field" "ClassFileReader$Holder" "deprecated" "Z") ∈ lw_all := lw_g (lw_at lw_m4 95 rfl) rfl
theorem q892 : (Jvm.Cond.lays "ClassFileReader$Field" "ClassFileReader$Holder" "seen" "I") ∈ lw_all := lw_g (lw_at lw_m4 96 rfl) rfl
theorem q893 : (Jvm.Cond.superclass "ClassFileReader$Field" "ClassFileReader$Member") ∈ lw_all := lw_g (lw_at lw_m4 97 rfl) rfl
theorem q909 : (Jvm.Cond.selects "ClassFileReader$Field" ({ cls := "ClassFileReader$Holder", name := "known", desc := "(Ljava/lang/String;)I" } : Jvm.MethodName) ({ cls := "ClassFileReader$Field", name := "known", desc := "(Ljava/lang/String;)I" } : Jvm.MethodName)) ∈ lw_all := lw_g (lw_at lw_m4 113 rfl) rfl
theorem q910 : (Jvm.Cond.instanceMethod ({ cls := "ClassFileReader$Field", name := "known", desc := "(Ljava/lang/String;)I" } : Jvm.MethodName)) ∈ lw_all := lw_g (lw_at lw_m4 114 rfl) rfl
theorem q911 : (Jvm.Cond.code ({ cls := "ClassFileReader$Field", name := "known", desc := "(Ljava/lang/String;)I" } : Jvm.MethodName) prog_4_method_2_code (2 : Nat) (Option.some Jvm.ClassFile.FieldType.int)) ∈ lw_all := lw_g (lw_at lw_m4 115 rfl) rfl
theorem q912 : (Jvm.Cond.stringRef "ClassFileReader$Field" (17 : Nat) "ConstantValue") ∈ lw_tbl := lw_at lw_m4 116 rfl
theorem q913 : (Jvm.Cond.methodLink "ClassFileReader$Field" (19 : Nat) ({ cls := "java/lang/String", name := "equals", desc := "(Ljava/lang/Object;)Z" } : Jvm.MethodName)) ∈ lw_all := lw_g (lw_at lw_m4 117 rfl) rfl
theorem q914 : (Jvm.Cond.methodLink "ClassFileReader$Field" (25 : Nat) ({ cls := "ClassFileReader$Member", name := "known", desc := "(Ljava/lang/String;)I" } : Jvm.MethodName)) ∈ lw_all := lw_g (lw_at lw_m4 118 rfl) rfl
theorem q992 : (Jvm.Cond.selects "ClassFileReader$Field" ({ cls := "ClassFileReader$Holder", name := "again", desc := "(I)Z" } : Jvm.MethodName) ({ cls := "ClassFileReader$Holder", name := "again", desc := "(I)Z" } : Jvm.MethodName)) ∈ lw_all := lw_g (lw_at lw_m4 196 rfl) rfl
theorem in_X15 : ∀ w ∈ wsX150, w ∈ lw_all := lw_in wsX150 [890, 891, 892, 886, 887, 888, 889, 884] (by decide +kernel) (by decide +kernel)
def RX2 : String := "ClassFileReader$Holder"
abbrev cX2_init : ByteArray := prog_5_method_1_code
def yX2_init : MethodName := ⟨RX2, "<init>", "()V"⟩
abbrev cX2_known : ByteArray := prog_5_method_2_code
def yX2_known : MethodName := ⟨RX2, "known", "(Ljava/lang/String;)I"⟩
abbrev cX2_again : ByteArray := prog_5_method_3_code
def yX2_again : MethodName := ⟨RX2, "again", "(I)Z"⟩
theorem q83 : (Jvm.Cond.initialized "ClassFileReader$Holder") ∈ lw_all := lw_g (lw_at lw_m1 7 rfl) rfl
theorem q202 : (Jvm.Cond.instanceMethod ({ cls := "ClassFileReader$Holder", name := "<init>", desc := "()V" } : Jvm.MethodName)) ∈ lw_all := lw_g (lw_at lw_m1 126 rfl) rfl
theorem q203 : (Jvm.Cond.code ({ cls := "ClassFileReader$Holder", name := "<init>", desc := "()V" } : Jvm.MethodName) prog_5_method_1_code (1 : Nat) (Option.none : Option Jvm.ClassFile.FieldType)) ∈ lw_all := lw_g (lw_at lw_m1 127 rfl) rfl
theorem q204 : (Jvm.Cond.methodLink "ClassFileReader$Holder" (1 : Nat) ({ cls := "java/lang/Object", name := "<init>", desc := "()V" } : Jvm.MethodName)) ∈ lw_all := lw_g (lw_at lw_m1 128 rfl) rfl
theorem q277 : (Jvm.Cond.fieldLink "ClassFileReader$Holder" (21 : Nat) "ClassFileReader$Holder" "seen" "I") ∈ lw_all := lw_g (lw_at lw_m1 201 rfl) rfl
theorem q313 : (Jvm.Cond.soleField "ClassFileReader$Holder" "signature") ∈ lw_all := lw_g (lw_at lw_m1 237 rfl) rfl
theorem q315 : (Jvm.Cond.soleField "ClassFileReader$Holder" "deprecated") ∈ lw_all := lw_g (lw_at lw_m1 239 rfl) rfl
theorem q317 : (Jvm.Cond.soleField "ClassFileReader$Holder" "seen") ∈ lw_all := lw_g (lw_at lw_m2 1 rfl) rfl
theorem q907 : (Jvm.Cond.instanceMethod ({ cls := "ClassFileReader$Holder", name := "known", desc := "(Ljava/lang/String;)I" } : Jvm.MethodName)) ∈ lw_all := lw_g (lw_at lw_m4 111 rfl) rfl
theorem q908 : (Jvm.Cond.sameMethod "ClassFileReader$Holder" "ClassFileReader$Holder" "known" "(Ljava/lang/String;)I") ∈ lw_all := lw_g (lw_at lw_m4 112 rfl) rfl
theorem q916 : (Jvm.Cond.declares ({ cls := "ClassFileReader$Holder", name := "known", desc := "(Ljava/lang/String;)I" } : Jvm.MethodName)) ∈ lw_tbl := lw_at lw_m4 120 rfl
theorem q984 : (Jvm.Cond.code ({ cls := "ClassFileReader$Holder", name := "known", desc := "(Ljava/lang/String;)I" } : Jvm.MethodName) prog_5_method_2_code (4 : Nat) (Option.some Jvm.ClassFile.FieldType.int)) ∈ lw_all := lw_g (lw_at lw_m4 188 rfl) rfl
theorem q985 : (Jvm.Cond.methodLink "ClassFileReader$Holder" (7 : Nat) ({ cls := "java/lang/String", name := "hashCode", desc := "()I" } : Jvm.MethodName)) ∈ lw_all := lw_g (lw_at lw_m4 189 rfl) rfl
theorem q986 : (Jvm.Cond.stringRef "ClassFileReader$Holder" (13 : Nat) "Signature") ∈ lw_tbl := lw_at lw_m4 190 rfl
theorem q987 : (Jvm.Cond.methodLink "ClassFileReader$Holder" (15 : Nat) ({ cls := "java/lang/String", name := "equals", desc := "(Ljava/lang/Object;)Z" } : Jvm.MethodName)) ∈ lw_all := lw_g (lw_at lw_m4 191 rfl) rfl
theorem q988 : (Jvm.Cond.stringRef "ClassFileReader$Holder" (19 : Nat) "Deprecated") ∈ lw_tbl := lw_at lw_m4 192 rfl
theorem q990 : (Jvm.Cond.instanceMethod ({ cls := "ClassFileReader$Holder", name := "again", desc := "(I)Z" } : Jvm.MethodName)) ∈ lw_all := lw_g (lw_at lw_m4 194 rfl) rfl
theorem q991 : (Jvm.Cond.sameMethod "ClassFileReader$Holder" "ClassFileReader$Holder" "again" "(I)Z") ∈ lw_all := lw_g (lw_at lw_m4 195 rfl) rfl
theorem q996 : (Jvm.Cond.code ({ cls := "ClassFileReader$Holder", name := "again", desc := "(I)Z" } : Jvm.MethodName) prog_5_method_3_code (3 : Nat) (Option.some Jvm.ClassFile.FieldType.boolean)) ∈ lw_all := lw_g (lw_at lw_m4 200 rfl) rfl
def RX3 : String := "ClassFileReader$Mirror"
def TX3 : u_T := fun k => match k with
  | 0 => ("ClassFileReader$Holder", "signature", "Ljava/lang/String;", false)
  | 1 => ("ClassFileReader$Holder", "deprecated", "Z", false)
  | 2 => ("ClassFileReader$Holder", "seen", "I", false)
  | 3 => ("ClassFileReader$Mirror", "major", "I", false)
  | 4 => ("ClassFileReader$Mirror", "flags", "I", false)
  | 5 => ("ClassFileReader$Mirror", "pool", "I", false)
  | 6 => ("ClassFileReader$Mirror", "name", "Ljava/lang/String;", false)
  | 7 => ("ClassFileReader$Mirror", "parent", "Ljava/lang/String;", false)
  | 8 => ("ClassFileReader$Mirror", "host", "Ljava/lang/String;", false)
  | 9 => ("ClassFileReader$Mirror", "record", "Z", false)
  | 10 => ("ClassFileReader$Mirror", "interfaces", "LClassFileReader$Links;", true)
  | 11 => ("ClassFileReader$Mirror", "fields", "LClassFileReader$Members;", true)
  | 12 => ("ClassFileReader$Mirror", "methods", "LClassFileReader$Members;", true)
  | 13 => ("ClassFileReader$Mirror", "components", "LClassFileReader$Members;", true)
  | 14 => ("ClassFileReader$Mirror", "inner", "LClassFileReader$Links;", true)
  | 15 => ("ClassFileReader$Mirror", "outer", "LClassFileReader$Links;", true)
  | 16 => ("ClassFileReader$Mirror", "simple", "LClassFileReader$Links;", true)
  | 17 => ("ClassFileReader$Mirror", "innerFlags", "[I", true)
  | 18 => ("ClassFileReader$Mirror", "mates", "LClassFileReader$Links;", true)
  | _ => ("ClassFileReader$Mirror", "permitted", "LClassFileReader$Links;", true)
def tyX3 : Nat → FieldType := fun k => match k with
  | 0 => .object "java/lang/String"
  | 1 => .boolean
  | 2 => .int
  | 3 => .int
  | 4 => .int
  | 5 => .int
  | 6 => .object "java/lang/String"
  | 7 => .object "java/lang/String"
  | 8 => .object "java/lang/String"
  | 9 => .boolean
  | 10 => .object "ClassFileReader$Links"
  | 11 => .object "ClassFileReader$Members"
  | 12 => .object "ClassFileReader$Members"
  | 13 => .object "ClassFileReader$Members"
  | 14 => .object "ClassFileReader$Links"
  | 15 => .object "ClassFileReader$Links"
  | 16 => .object "ClassFileReader$Links"
  | 17 => .array .int
  | 18 => .object "ClassFileReader$Links"
  | _ => .object "ClassFileReader$Links"
abbrev wsX30 : List Cond := u_ws RX3 TX3 20
theorem nmX3 : ∀ a, a < 20 → ∀ b, b < 20 → a ≠ b → (TX3 a).2.1 ≠ (TX3 b).2.1 := by decide +kernel
theorem tyX3_ok : ∀ k, k < 20 → parseFieldDescriptor (TX3 k).2.2.1 = some (tyX3 k) := by decide +kernel
abbrev cX3_init : ByteArray := prog_12_method_1_code
def yX3_init : MethodName := ⟨RX3, "<init>", "()V"⟩
abbrev cX3_known : ByteArray := prog_12_method_2_code
def yX3_known : MethodName := ⟨RX3, "known", "(Ljava/lang/String;)I"⟩
theorem q84 : (Jvm.Cond.initialized "ClassFileReader$Mirror") ∈ lw_all := lw_g (lw_at lw_m1 8 rfl) rfl
theorem q197 : (Jvm.Cond.instantiable "ClassFileReader$Mirror" (20 : Nat)) ∈ lw_all := lw_g (lw_at lw_m1 121 rfl) rfl
theorem q199 : (Jvm.Cond.instanceMethod ({ cls := "ClassFileReader$Mirror", name := "<init>", desc := "()V" } : Jvm.MethodName)) ∈ lw_all := lw_g (lw_at lw_m1 123 rfl) rfl
theorem q200 : (Jvm.Cond.code ({ cls := "ClassFileReader$Mirror", name := "<init>", desc := "()V" } : Jvm.MethodName) prog_12_method_1_code (1 : Nat) (Option.none : Option Jvm.ClassFile.FieldType)) ∈ lw_all := lw_g (lw_at lw_m1 124 rfl) rfl
theorem q201 : (Jvm.Cond.methodLinkNest "ClassFileReader$Mirror" (1 : Nat) ({ cls := "ClassFileReader$Holder", name := "<init>", desc := "()V" } : Jvm.MethodName) "ClassFileReader") ∈ lw_tbl := lw_at lw_m1 125 rfl
theorem q205 : (Jvm.Cond.classLink "ClassFileReader$Mirror" (7 : Nat) "ClassFileReader$Links") ∈ lw_all := lw_g (lw_at lw_m1 129 rfl) rfl
theorem q207 : (Jvm.Cond.methodLinkNest "ClassFileReader$Mirror" (9 : Nat) ({ cls := "ClassFileReader$Links", name := "<init>", desc := "()V" } : Jvm.MethodName) "ClassFileReader") ∈ lw_tbl := lw_at lw_m1 131 rfl
theorem q223 : (Jvm.Cond.classLink "ClassFileReader$Mirror" (16 : Nat) "ClassFileReader$Members") ∈ lw_all := lw_g (lw_at lw_m1 147 rfl) rfl
theorem q225 : (Jvm.Cond.methodLinkNest "ClassFileReader$Mirror" (18 : Nat) ({ cls := "ClassFileReader$Members", name := "<init>", desc := "()V" } : Jvm.MethodName) "ClassFileReader") ∈ lw_tbl := lw_at lw_m1 149 rfl
theorem q247 : (Jvm.Cond.fieldLink "ClassFileReader$Mirror" (10 : Nat) "ClassFileReader$Mirror" "interfaces" "LClassFileReader$Links;") ∈ lw_all := lw_g (lw_at lw_m1 171 rfl) rfl
theorem q249 : (Jvm.Cond.fieldLink "ClassFileReader$Mirror" (19 : Nat) "ClassFileReader$Mirror" "fields" "LClassFileReader$Members;") ∈ lw_all := lw_g (lw_at lw_m1 173 rfl) rfl
theorem q251 : (Jvm.Cond.fieldLink "ClassFileReader$Mirror" (23 : Nat) "ClassFileReader$Mirror" "methods" "LClassFileReader$Members;") ∈ lw_all := lw_g (lw_at lw_m1 175 rfl) rfl
theorem q253 : (Jvm.Cond.fieldLink "ClassFileReader$Mirror" (26 : Nat) "ClassFileReader$Mirror" "components" "LClassFileReader$Members;") ∈ lw_all := lw_g (lw_at lw_m1 177 rfl) rfl
theorem q255 : (Jvm.Cond.fieldLink "ClassFileReader$Mirror" (29 : Nat) "ClassFileReader$Mirror" "inner" "LClassFileReader$Links;") ∈ lw_all := lw_g (lw_at lw_m1 179 rfl) rfl
theorem q257 : (Jvm.Cond.fieldLink "ClassFileReader$Mirror" (32 : Nat) "ClassFileReader$Mirror" "outer" "LClassFileReader$Links;") ∈ lw_all := lw_g (lw_at lw_m1 181 rfl) rfl
theorem q259 : (Jvm.Cond.fieldLink "ClassFileReader$Mirror" (35 : Nat) "ClassFileReader$Mirror" "simple" "LClassFileReader$Links;") ∈ lw_all := lw_g (lw_at lw_m1 183 rfl) rfl
theorem q261 : (Jvm.Cond.fieldLink "ClassFileReader$Mirror" (38 : Nat) "ClassFileReader$Mirror" "innerFlags" "[I") ∈ lw_all := lw_g (lw_at lw_m1 185 rfl) rfl
theorem q263 : (Jvm.Cond.fieldLink "ClassFileReader$Mirror" (42 : Nat) "ClassFileReader$Mirror" "mates" "LClassFileReader$Links;") ∈ lw_all := lw_g (lw_at lw_m1 187 rfl) rfl
theorem q265 : (Jvm.Cond.fieldLink "ClassFileReader$Mirror" (45 : Nat) "ClassFileReader$Mirror" "permitted" "LClassFileReader$Links;") ∈ lw_all := lw_g (lw_at lw_m1 189 rfl) rfl
theorem q271 : (Jvm.Cond.sameField "ClassFileReader$Mirror" "ClassFileReader$Holder" "signature" "Ljava/lang/String;") ∈ lw_all := lw_g (lw_at lw_m1 195 rfl) rfl
theorem q274 : (Jvm.Cond.sameField "ClassFileReader$Mirror" "ClassFileReader$Holder" "deprecated" "Z") ∈ lw_all := lw_g (lw_at lw_m1 198 rfl) rfl
theorem q278 : (Jvm.Cond.lays "ClassFileReader$Mirror" "ClassFileReader$Mirror" "major" "I") ∈ lw_all := lw_g (lw_at lw_m1 202 rfl) rfl
theorem q279 : (Jvm.Cond.soleField "ClassFileReader$Mirror" "major") ∈ lw_all := lw_g (lw_at lw_m1 203 rfl) rfl
theorem q280 : (Jvm.Cond.lays "ClassFileReader$Mirror" "ClassFileReader$Mirror" "flags" "I") ∈ lw_all := lw_g (lw_at lw_m1 204 rfl) rfl
theorem q281 : (Jvm.Cond.soleField "ClassFileReader$Mirror" "flags") ∈ lw_all := lw_g (lw_at lw_m1 205 rfl) rfl
theorem q282 : (Jvm.Cond.lays "ClassFileReader$Mirror" "ClassFileReader$Mirror" "pool" "I") ∈ lw_all := lw_g (lw_at lw_m1 206 rfl) rfl
theorem q283 : (Jvm.Cond.soleField "ClassFileReader$Mirror" "pool") ∈ lw_all := lw_g (lw_at lw_m1 207 rfl) rfl
theorem q284 : (Jvm.Cond.lays "ClassFileReader$Mirror" "ClassFileReader$Mirror" "name" "Ljava/lang/String;") ∈ lw_all := lw_g (lw_at lw_m1 208 rfl) rfl
theorem q285 : (Jvm.Cond.soleField "ClassFileReader$Mirror" "name") ∈ lw_all := lw_g (lw_at lw_m1 209 rfl) rfl
theorem q286 : (Jvm.Cond.lays "ClassFileReader$Mirror" "ClassFileReader$Mirror" "parent" "Ljava/lang/String;") ∈ lw_all := lw_g (lw_at lw_m1 210 rfl) rfl
theorem q287 : (Jvm.Cond.soleField "ClassFileReader$Mirror" "parent") ∈ lw_all := lw_g (lw_at lw_m1 211 rfl) rfl
theorem q288 : (Jvm.Cond.lays "ClassFileReader$Mirror" "ClassFileReader$Mirror" "host" "Ljava/lang/String;") ∈ lw_all := lw_g (lw_at lw_m1 212 rfl) rfl
theorem q289 : (Jvm.Cond.soleField "ClassFileReader$Mirror" "host") ∈ lw_all := lw_g (lw_at lw_m1 213 rfl) rfl
theorem q290 : (Jvm.Cond.lays "ClassFileReader$Mirror" "ClassFileReader$Mirror" "record" "Z") ∈ lw_all := lw_g (lw_at lw_m1 214 rfl) rfl
theorem q291 : (Jvm.Cond.soleField "ClassFileReader$Mirror" "record") ∈ lw_all := lw_g (lw_at lw_m1 215 rfl) rfl
theorem q292 : (Jvm.Cond.laysFinal "ClassFileReader$Mirror" "ClassFileReader$Mirror" "interfaces" "LClassFileReader$Links;") ∈ lw_all := lw_g (lw_at lw_m1 216 rfl) rfl
theorem q293 : (Jvm.Cond.soleField "ClassFileReader$Mirror" "interfaces") ∈ lw_all := lw_g (lw_at lw_m1 217 rfl) rfl
theorem q294 : (Jvm.Cond.laysFinal "ClassFileReader$Mirror" "ClassFileReader$Mirror" "fields" "LClassFileReader$Members;") ∈ lw_all := lw_g (lw_at lw_m1 218 rfl) rfl
theorem q295 : (Jvm.Cond.soleField "ClassFileReader$Mirror" "fields") ∈ lw_all := lw_g (lw_at lw_m1 219 rfl) rfl
theorem q296 : (Jvm.Cond.laysFinal "ClassFileReader$Mirror" "ClassFileReader$Mirror" "methods" "LClassFileReader$Members;") ∈ lw_all := lw_g (lw_at lw_m1 220 rfl) rfl
theorem q297 : (Jvm.Cond.soleField "ClassFileReader$Mirror" "methods") ∈ lw_all := lw_g (lw_at lw_m1 221 rfl) rfl
theorem q298 : (Jvm.Cond.laysFinal "ClassFileReader$Mirror" "ClassFileReader$Mirror" "components" "LClassFileReader$Members;") ∈ lw_all := lw_g (lw_at lw_m1 222 rfl) rfl
theorem q299 : (Jvm.Cond.soleField "ClassFileReader$Mirror" "components") ∈ lw_all := lw_g (lw_at lw_m1 223 rfl) rfl
theorem q300 : (Jvm.Cond.laysFinal "ClassFileReader$Mirror" "ClassFileReader$Mirror" "inner" "LClassFileReader$Links;") ∈ lw_all := lw_g (lw_at lw_m1 224 rfl) rfl
theorem q301 : (Jvm.Cond.soleField "ClassFileReader$Mirror" "inner") ∈ lw_all := lw_g (lw_at lw_m1 225 rfl) rfl
theorem q302 : (Jvm.Cond.laysFinal "ClassFileReader$Mirror" "ClassFileReader$Mirror" "outer" "LClassFileReader$Links;") ∈ lw_all := lw_g (lw_at lw_m1 226 rfl) rfl
theorem q303 : (Jvm.Cond.soleField "ClassFileReader$Mirror" "outer") ∈ lw_all := lw_g (lw_at lw_m1 227 rfl) rfl
theorem q304 : (Jvm.Cond.laysFinal "ClassFileReader$Mirror" "ClassFileReader$Mirror" "simple" "LClassFileReader$Links;") ∈ lw_all := lw_g (lw_at lw_m1 228 rfl) rfl
theorem q305 : (Jvm.Cond.soleField "ClassFileReader$Mirror" "simple") ∈ lw_all := lw_g (lw_at lw_m1 229 rfl) rfl
theorem q306 : (Jvm.Cond.laysFinal "ClassFileReader$Mirror" "ClassFileReader$Mirror" "innerFlags" "[I") ∈ lw_all := lw_g (lw_at lw_m1 230 rfl) rfl
theorem q307 : (Jvm.Cond.soleField "ClassFileReader$Mirror" "innerFlags") ∈ lw_all := lw_g (lw_at lw_m1 231 rfl) rfl
theorem q308 : (Jvm.Cond.laysFinal "ClassFileReader$Mirror" "ClassFileReader$Mirror" "mates" "LClassFileReader$Links;") ∈ lw_all := lw_g (lw_at lw_m1 232 rfl) rfl
theorem q309 : (Jvm.Cond.soleField "ClassFileReader$Mirror" "mates") ∈ lw_all := lw_g (lw_at lw_m1 233 rfl) rfl
theorem q310 : (Jvm.Cond.laysFinal "ClassFileReader$Mirror" "ClassFileReader$Mirror" "permitted" "LClassFileReader$Links;") ∈ lw_all := lw_g (lw_at lw_m1 234 rfl) rfl
theorem q311 : (Jvm.Cond.soleField "ClassFileReader$Mirror" "permitted") ∈ lw_all := lw_g (lw_at lw_m1 235 rfl) rfl
theorem q312 : (Jvm.Cond.lays "ClassFileReader$Mirror" "ClassFileReader$Holder" "signature" "Ljava/lang/String;") ∈ lw_all := lw_g (lw_at lw_m1 236 rfl) rfl
theorem q314 : (Jvm.Cond.lays "ClassFileReader$Mirror" "ClassFileReader$Holder" "deprecated" "Z") ∈ lw_all := lw_g (lw_at lw_m1 238 rfl) rfl
theorem q316 : (Jvm.Cond.lays "ClassFileReader$Mirror" "ClassFileReader$Holder" "seen" "I") ∈ lw_all := lw_g (lw_at lw_m2 0 rfl) rfl
theorem q318 : (Jvm.Cond.superclass "ClassFileReader$Mirror" "ClassFileReader$Holder") ∈ lw_all := lw_g (lw_at lw_m2 2 rfl) rfl
theorem q925 : (Jvm.Cond.selects "ClassFileReader$Mirror" ({ cls := "ClassFileReader$Holder", name := "known", desc := "(Ljava/lang/String;)I" } : Jvm.MethodName) ({ cls := "ClassFileReader$Mirror", name := "known", desc := "(Ljava/lang/String;)I" } : Jvm.MethodName)) ∈ lw_all := lw_g (lw_at lw_m4 129 rfl) rfl
theorem q926 : (Jvm.Cond.instanceMethod ({ cls := "ClassFileReader$Mirror", name := "known", desc := "(Ljava/lang/String;)I" } : Jvm.MethodName)) ∈ lw_all := lw_g (lw_at lw_m4 130 rfl) rfl
theorem q927 : (Jvm.Cond.code ({ cls := "ClassFileReader$Mirror", name := "known", desc := "(Ljava/lang/String;)I" } : Jvm.MethodName) prog_12_method_2_code (4 : Nat) (Option.some Jvm.ClassFile.FieldType.int)) ∈ lw_all := lw_g (lw_at lw_m4 131 rfl) rfl
theorem q928 : (Jvm.Cond.methodLink "ClassFileReader$Mirror" (48 : Nat) ({ cls := "java/lang/String", name := "hashCode", desc := "()I" } : Jvm.MethodName)) ∈ lw_all := lw_g (lw_at lw_m4 132 rfl) rfl
theorem q977 : (Jvm.Cond.stringRef "ClassFileReader$Mirror" (54 : Nat) "InnerClasses") ∈ lw_tbl := lw_at lw_m4 181 rfl
theorem q978 : (Jvm.Cond.methodLink "ClassFileReader$Mirror" (56 : Nat) ({ cls := "java/lang/String", name := "equals", desc := "(Ljava/lang/Object;)Z" } : Jvm.MethodName)) ∈ lw_all := lw_g (lw_at lw_m4 182 rfl) rfl
theorem q979 : (Jvm.Cond.stringRef "ClassFileReader$Mirror" (60 : Nat) "NestMembers") ∈ lw_tbl := lw_at lw_m4 183 rfl
theorem q980 : (Jvm.Cond.stringRef "ClassFileReader$Mirror" (62 : Nat) "PermittedSubclasses") ∈ lw_tbl := lw_at lw_m4 184 rfl
theorem q981 : (Jvm.Cond.stringRef "ClassFileReader$Mirror" (64 : Nat) "NestHost") ∈ lw_tbl := lw_at lw_m4 185 rfl
theorem q982 : (Jvm.Cond.stringRef "ClassFileReader$Mirror" (66 : Nat) "Record") ∈ lw_tbl := lw_at lw_m4 186 rfl
theorem q983 : (Jvm.Cond.methodLink "ClassFileReader$Mirror" (68 : Nat) ({ cls := "ClassFileReader$Holder", name := "known", desc := "(Ljava/lang/String;)I" } : Jvm.MethodName)) ∈ lw_all := lw_g (lw_at lw_m4 187 rfl) rfl
theorem q995 : (Jvm.Cond.selects "ClassFileReader$Mirror" ({ cls := "ClassFileReader$Holder", name := "again", desc := "(I)Z" } : Jvm.MethodName) ({ cls := "ClassFileReader$Holder", name := "again", desc := "(I)Z" } : Jvm.MethodName)) ∈ lw_all := lw_g (lw_at lw_m4 199 rfl) rfl
theorem in_X3 : ∀ w ∈ wsX30, w ∈ lw_all := lw_in wsX30 [312, 314, 316, 278, 280, 282, 284, 286, 288, 290, 292, 294, 296, 298, 300, 302, 304, 306, 308, 310] (by decide +kernel) (by decide +kernel)
def RX4 : String := "ClassFileReader$Links"
def TX4 : u_T := fun k => match k with
  | 0 => ("ClassFileReader$Links", "first", "LClassFileReader$Link;", false)
  | 1 => ("ClassFileReader$Links", "last", "LClassFileReader$Link;", false)
  | _ => ("ClassFileReader$Links", "count", "I", false)
def tyX4 : Nat → FieldType := fun k => match k with
  | 0 => .object "ClassFileReader$Link"
  | 1 => .object "ClassFileReader$Link"
  | _ => .int
abbrev wsX40 : List Cond := u_ws RX4 TX4 3
theorem nmX4 : ∀ a, a < 3 → ∀ b, b < 3 → a ≠ b → (TX4 a).2.1 ≠ (TX4 b).2.1 := by decide +kernel
theorem tyX4_ok : ∀ k, k < 3 → parseFieldDescriptor (TX4 k).2.2.1 = some (tyX4 k) := by decide +kernel
abbrev cX4_init : ByteArray := prog_7_method_1_code
def yX4_init : MethodName := ⟨RX4, "<init>", "()V"⟩
abbrev cX4_add : ByteArray := prog_7_method_2_code
def yX4_add : MethodName := ⟨RX4, "add", "(Ljava/lang/String;)V"⟩
abbrev cX4_at : ByteArray := prog_7_method_3_code
def yX4_at : MethodName := ⟨RX4, "at", "(I)Ljava/lang/String;"⟩
theorem q85 : (Jvm.Cond.initialized "ClassFileReader$Links") ∈ lw_all := lw_g (lw_at lw_m1 9 rfl) rfl
theorem q206 : (Jvm.Cond.instantiable "ClassFileReader$Links" (3 : Nat)) ∈ lw_all := lw_g (lw_at lw_m1 130 rfl) rfl
theorem q208 : (Jvm.Cond.instanceMethod ({ cls := "ClassFileReader$Links", name := "<init>", desc := "()V" } : Jvm.MethodName)) ∈ lw_all := lw_g (lw_at lw_m1 132 rfl) rfl
theorem q209 : (Jvm.Cond.code ({ cls := "ClassFileReader$Links", name := "<init>", desc := "()V" } : Jvm.MethodName) prog_7_method_1_code (1 : Nat) (Option.none : Option Jvm.ClassFile.FieldType)) ∈ lw_all := lw_g (lw_at lw_m1 133 rfl) rfl
theorem q210 : (Jvm.Cond.methodLink "ClassFileReader$Links" (1 : Nat) ({ cls := "java/lang/Object", name := "<init>", desc := "()V" } : Jvm.MethodName)) ∈ lw_all := lw_g (lw_at lw_m1 134 rfl) rfl
theorem q211 : (Jvm.Cond.fieldLink "ClassFileReader$Links" (18 : Nat) "ClassFileReader$Links" "first" "LClassFileReader$Link;") ∈ lw_all := lw_g (lw_at lw_m1 135 rfl) rfl
theorem q213 : (Jvm.Cond.fieldLink "ClassFileReader$Links" (12 : Nat) "ClassFileReader$Links" "last" "LClassFileReader$Link;") ∈ lw_all := lw_g (lw_at lw_m1 137 rfl) rfl
theorem q214 : (Jvm.Cond.fieldLink "ClassFileReader$Links" (24 : Nat) "ClassFileReader$Links" "count" "I") ∈ lw_all := lw_g (lw_at lw_m1 138 rfl) rfl
theorem q216 : (Jvm.Cond.lays "ClassFileReader$Links" "ClassFileReader$Links" "first" "LClassFileReader$Link;") ∈ lw_all := lw_g (lw_at lw_m1 140 rfl) rfl
theorem q217 : (Jvm.Cond.soleField "ClassFileReader$Links" "first") ∈ lw_all := lw_g (lw_at lw_m1 141 rfl) rfl
theorem q218 : (Jvm.Cond.lays "ClassFileReader$Links" "ClassFileReader$Links" "last" "LClassFileReader$Link;") ∈ lw_all := lw_g (lw_at lw_m1 142 rfl) rfl
theorem q219 : (Jvm.Cond.soleField "ClassFileReader$Links" "last") ∈ lw_all := lw_g (lw_at lw_m1 143 rfl) rfl
theorem q220 : (Jvm.Cond.lays "ClassFileReader$Links" "ClassFileReader$Links" "count" "I") ∈ lw_all := lw_g (lw_at lw_m1 144 rfl) rfl
theorem q221 : (Jvm.Cond.soleField "ClassFileReader$Links" "count") ∈ lw_all := lw_g (lw_at lw_m1 145 rfl) rfl
theorem q222 : (Jvm.Cond.superclass "ClassFileReader$Links" "java/lang/Object") ∈ lw_all := lw_g (lw_at lw_m1 146 rfl) rfl
theorem q788 : (Jvm.Cond.instanceMethod ({ cls := "ClassFileReader$Links", name := "add", desc := "(Ljava/lang/String;)V" } : Jvm.MethodName)) ∈ lw_all := lw_g (lw_at lw_m3 232 rfl) rfl
theorem q789 : (Jvm.Cond.selects "ClassFileReader$Links" ({ cls := "ClassFileReader$Links", name := "add", desc := "(Ljava/lang/String;)V" } : Jvm.MethodName) ({ cls := "ClassFileReader$Links", name := "add", desc := "(Ljava/lang/String;)V" } : Jvm.MethodName)) ∈ lw_all := lw_g (lw_at lw_m3 233 rfl) rfl
theorem q790 : (Jvm.Cond.code ({ cls := "ClassFileReader$Links", name := "add", desc := "(Ljava/lang/String;)V" } : Jvm.MethodName) prog_7_method_2_code (3 : Nat) (Option.none : Option Jvm.ClassFile.FieldType)) ∈ lw_all := lw_g (lw_at lw_m3 234 rfl) rfl
theorem q791 : (Jvm.Cond.classLink "ClassFileReader$Links" (7 : Nat) "ClassFileReader$Link") ∈ lw_all := lw_g (lw_at lw_m3 235 rfl) rfl
theorem q793 : (Jvm.Cond.methodLink "ClassFileReader$Links" (9 : Nat) ({ cls := "ClassFileReader$Link", name := "<init>", desc := "(Ljava/lang/String;)V" } : Jvm.MethodName)) ∈ lw_all := lw_g (lw_at lw_m3 237 rfl) rfl
theorem q798 : (Jvm.Cond.fieldLinkNest "ClassFileReader$Links" (28 : Nat) "ClassFileReader$Link" "text" "Ljava/lang/String;" "ClassFileReader") ∈ lw_tbl := lw_at lw_m4 2 rfl
theorem q800 : (Jvm.Cond.fieldLinkNest "ClassFileReader$Links" (21 : Nat) "ClassFileReader$Link" "next" "LClassFileReader$Link;" "ClassFileReader") ∈ lw_tbl := lw_at lw_m4 4 rfl
theorem q1072 : (Jvm.Cond.instanceMethod ({ cls := "ClassFileReader$Links", name := "at", desc := "(I)Ljava/lang/String;" } : Jvm.MethodName)) ∈ lw_all := lw_g (lw_at lw_m5 36 rfl) rfl
theorem q1073 : (Jvm.Cond.selects "ClassFileReader$Links" ({ cls := "ClassFileReader$Links", name := "at", desc := "(I)Ljava/lang/String;" } : Jvm.MethodName) ({ cls := "ClassFileReader$Links", name := "at", desc := "(I)Ljava/lang/String;" } : Jvm.MethodName)) ∈ lw_all := lw_g (lw_at lw_m5 37 rfl) rfl
theorem q1074 : (Jvm.Cond.code ({ cls := "ClassFileReader$Links", name := "at", desc := "(I)Ljava/lang/String;" } : Jvm.MethodName) prog_7_method_3_code (4 : Nat) (Option.some (Jvm.ClassFile.FieldType.object "java/lang/String"))) ∈ lw_all := lw_g (lw_at lw_m5 38 rfl) rfl
theorem in_X4 : ∀ w ∈ wsX40, w ∈ lw_all := lw_in wsX40 [216, 218, 220] (by decide +kernel) (by decide +kernel)
def RX5 : String := "ClassFileReader$Members"
def TX5 : u_T := fun k => match k with
  | 0 => ("ClassFileReader$Members", "first", "LClassFileReader$Member;", false)
  | 1 => ("ClassFileReader$Members", "last", "LClassFileReader$Member;", false)
  | _ => ("ClassFileReader$Members", "count", "I", false)
def tyX5 : Nat → FieldType := fun k => match k with
  | 0 => .object "ClassFileReader$Member"
  | 1 => .object "ClassFileReader$Member"
  | _ => .int
abbrev wsX50 : List Cond := u_ws RX5 TX5 3
theorem nmX5 : ∀ a, a < 3 → ∀ b, b < 3 → a ≠ b → (TX5 a).2.1 ≠ (TX5 b).2.1 := by decide +kernel
theorem tyX5_ok : ∀ k, k < 3 → parseFieldDescriptor (TX5 k).2.2.1 = some (tyX5 k) := by decide +kernel
abbrev cX5_init : ByteArray := prog_10_method_1_code
def yX5_init : MethodName := ⟨RX5, "<init>", "()V"⟩
abbrev cX5_find : ByteArray := prog_10_method_2_code
def yX5_find : MethodName := ⟨RX5, "find", "(Ljava/lang/String;Ljava/lang/String;)LClassFileReader$Member;"⟩
abbrev cX5_add : ByteArray := prog_10_method_3_code
def yX5_add : MethodName := ⟨RX5, "add", "(LClassFileReader$Member;)V"⟩
abbrev cX5_at : ByteArray := prog_10_method_4_code
def yX5_at : MethodName := ⟨RX5, "at", "(I)LClassFileReader$Member;"⟩
theorem q86 : (Jvm.Cond.initialized "ClassFileReader$Members") ∈ lw_all := lw_g (lw_at lw_m1 10 rfl) rfl
theorem q224 : (Jvm.Cond.instantiable "ClassFileReader$Members" (3 : Nat)) ∈ lw_all := lw_g (lw_at lw_m1 148 rfl) rfl
theorem q226 : (Jvm.Cond.instanceMethod ({ cls := "ClassFileReader$Members", name := "<init>", desc := "()V" } : Jvm.MethodName)) ∈ lw_all := lw_g (lw_at lw_m1 150 rfl) rfl
theorem q227 : (Jvm.Cond.code ({ cls := "ClassFileReader$Members", name := "<init>", desc := "()V" } : Jvm.MethodName) prog_10_method_1_code (1 : Nat) (Option.none : Option Jvm.ClassFile.FieldType)) ∈ lw_all := lw_g (lw_at lw_m1 151 rfl) rfl
theorem q228 : (Jvm.Cond.methodLink "ClassFileReader$Members" (1 : Nat) ({ cls := "java/lang/Object", name := "<init>", desc := "()V" } : Jvm.MethodName)) ∈ lw_all := lw_g (lw_at lw_m1 152 rfl) rfl
theorem q229 : (Jvm.Cond.fieldLink "ClassFileReader$Members" (7 : Nat) "ClassFileReader$Members" "first" "LClassFileReader$Member;") ∈ lw_all := lw_g (lw_at lw_m1 153 rfl) rfl
theorem q230 : (Jvm.Cond.fieldLink "ClassFileReader$Members" (31 : Nat) "ClassFileReader$Members" "last" "LClassFileReader$Member;") ∈ lw_all := lw_g (lw_at lw_m1 154 rfl) rfl
theorem q231 : (Jvm.Cond.fieldLink "ClassFileReader$Members" (34 : Nat) "ClassFileReader$Members" "count" "I") ∈ lw_all := lw_g (lw_at lw_m1 155 rfl) rfl
theorem q233 : (Jvm.Cond.lays "ClassFileReader$Members" "ClassFileReader$Members" "first" "LClassFileReader$Member;") ∈ lw_all := lw_g (lw_at lw_m1 157 rfl) rfl
theorem q234 : (Jvm.Cond.soleField "ClassFileReader$Members" "first") ∈ lw_all := lw_g (lw_at lw_m1 158 rfl) rfl
theorem q235 : (Jvm.Cond.lays "ClassFileReader$Members" "ClassFileReader$Members" "last" "LClassFileReader$Member;") ∈ lw_all := lw_g (lw_at lw_m1 159 rfl) rfl
theorem q236 : (Jvm.Cond.soleField "ClassFileReader$Members" "last") ∈ lw_all := lw_g (lw_at lw_m1 160 rfl) rfl
theorem q237 : (Jvm.Cond.lays "ClassFileReader$Members" "ClassFileReader$Members" "count" "I") ∈ lw_all := lw_g (lw_at lw_m1 161 rfl) rfl
theorem q238 : (Jvm.Cond.soleField "ClassFileReader$Members" "count") ∈ lw_all := lw_g (lw_at lw_m1 162 rfl) rfl
theorem q239 : (Jvm.Cond.superclass "ClassFileReader$Members" "java/lang/Object") ∈ lw_all := lw_g (lw_at lw_m1 163 rfl) rfl
theorem q833 : (Jvm.Cond.instanceMethod ({ cls := "ClassFileReader$Members", name := "find", desc := "(Ljava/lang/String;Ljava/lang/String;)LClassFileReader$Member;" } : Jvm.MethodName)) ∈ lw_all := lw_g (lw_at lw_m4 37 rfl) rfl
theorem q834 : (Jvm.Cond.selects "ClassFileReader$Members" ({ cls := "ClassFileReader$Members", name := "find", desc := "(Ljava/lang/String;Ljava/lang/String;)LClassFileReader$Member;" } : Jvm.MethodName) ({ cls := "ClassFileReader$Members", name := "find", desc := "(Ljava/lang/String;Ljava/lang/String;)LClassFileReader$Member;" } : Jvm.MethodName)) ∈ lw_all := lw_g (lw_at lw_m4 38 rfl) rfl
theorem q835 : (Jvm.Cond.code ({ cls := "ClassFileReader$Members", name := "find", desc := "(Ljava/lang/String;Ljava/lang/String;)LClassFileReader$Member;" } : Jvm.MethodName) prog_10_method_2_code (4 : Nat) (Option.some (Jvm.ClassFile.FieldType.object "ClassFileReader$Member"))) ∈ lw_all := lw_g (lw_at lw_m4 39 rfl) rfl
theorem q836 : (Jvm.Cond.methodLink "ClassFileReader$Members" (19 : Nat) ({ cls := "java/lang/String", name := "equals", desc := "(Ljava/lang/Object;)Z" } : Jvm.MethodName)) ∈ lw_all := lw_g (lw_at lw_m4 40 rfl) rfl
theorem q853 : (Jvm.Cond.fieldLink "ClassFileReader$Members" (13 : Nat) "ClassFileReader$Member" "name" "Ljava/lang/String;") ∈ lw_all := lw_g (lw_at lw_m4 57 rfl) rfl
theorem q856 : (Jvm.Cond.fieldLink "ClassFileReader$Members" (25 : Nat) "ClassFileReader$Member" "type" "Ljava/lang/String;") ∈ lw_all := lw_g (lw_at lw_m4 60 rfl) rfl
theorem q860 : (Jvm.Cond.fieldLink "ClassFileReader$Members" (28 : Nat) "ClassFileReader$Member" "next" "LClassFileReader$Member;") ∈ lw_all := lw_g (lw_at lw_m4 64 rfl) rfl
theorem q895 : (Jvm.Cond.instanceMethod ({ cls := "ClassFileReader$Members", name := "add", desc := "(LClassFileReader$Member;)V" } : Jvm.MethodName)) ∈ lw_all := lw_g (lw_at lw_m4 99 rfl) rfl
theorem q896 : (Jvm.Cond.selects "ClassFileReader$Members" ({ cls := "ClassFileReader$Members", name := "add", desc := "(LClassFileReader$Member;)V" } : Jvm.MethodName) ({ cls := "ClassFileReader$Members", name := "add", desc := "(LClassFileReader$Member;)V" } : Jvm.MethodName)) ∈ lw_all := lw_g (lw_at lw_m4 100 rfl) rfl
theorem q897 : (Jvm.Cond.code ({ cls := "ClassFileReader$Members", name := "add", desc := "(LClassFileReader$Member;)V" } : Jvm.MethodName) prog_10_method_3_code (2 : Nat) (Option.none : Option Jvm.ClassFile.FieldType)) ∈ lw_all := lw_g (lw_at lw_m4 101 rfl) rfl
theorem q1060 : (Jvm.Cond.instanceMethod ({ cls := "ClassFileReader$Members", name := "at", desc := "(I)LClassFileReader$Member;" } : Jvm.MethodName)) ∈ lw_all := lw_g (lw_at lw_m5 24 rfl) rfl
theorem q1061 : (Jvm.Cond.selects "ClassFileReader$Members" ({ cls := "ClassFileReader$Members", name := "at", desc := "(I)LClassFileReader$Member;" } : Jvm.MethodName) ({ cls := "ClassFileReader$Members", name := "at", desc := "(I)LClassFileReader$Member;" } : Jvm.MethodName)) ∈ lw_all := lw_g (lw_at lw_m5 25 rfl) rfl
theorem q1062 : (Jvm.Cond.code ({ cls := "ClassFileReader$Members", name := "at", desc := "(I)LClassFileReader$Member;" } : Jvm.MethodName) prog_10_method_4_code (4 : Nat) (Option.some (Jvm.ClassFile.FieldType.object "ClassFileReader$Member"))) ∈ lw_all := lw_g (lw_at lw_m5 26 rfl) rfl
theorem in_X5 : ∀ w ∈ wsX50, w ∈ lw_all := lw_in wsX50 [233, 235, 237] (by decide +kernel) (by decide +kernel)
def RX6 : String := "ClassFileReader$Malformed"
def TX6 : u_T := fun k => match k with
  | 0 => ("java/lang/Throwable", "cause", "Ljava/lang/Throwable;", false)
  | 1 => ("java/lang/Throwable", "stackTrace", "[Ljava/lang/StackTraceElement;", false)
  | 2 => ("java/lang/Throwable", "suppressedExceptions", "Ljava/util/List;", false)
  | 3 => ("java/lang/Throwable", "detailMessage", "Ljava/lang/String;", false)
  | 4 => ("java/lang/Throwable", "backtrace", "Ljava/lang/Object;", false)
  | 5 => ("java/lang/Throwable", "depth", "I", false)
  | 6 => ("ClassFileReader$Malformed", "code", "I", true)
  | _ => ("ClassFileReader$Malformed", "place", "I", true)
def tyX6 : Nat → FieldType := fun k => match k with
  | 0 => .object "java/lang/Throwable"
  | 1 => .array (.object "java/lang/StackTraceElement")
  | 2 => .object "java/util/List"
  | 3 => .object "java/lang/String"
  | 4 => .object "java/lang/Object"
  | 5 => .int
  | 6 => .int
  | _ => .int
abbrev wsX60 : List Cond := u_ws RX6 TX6 8
theorem nmX6 : ∀ a, a < 8 → ∀ b, b < 8 → a ≠ b → (TX6 a).2.1 ≠ (TX6 b).2.1 := by decide +kernel
theorem tyX6_ok : ∀ k, k < 8 → parseFieldDescriptor (TX6 k).2.2.1 = some (tyX6 k) := by decide +kernel
abbrev cX6_init : ByteArray := prog_8_method_1_code
def yX6_init : MethodName := ⟨RX6, "<init>", "(II)V"⟩
theorem q90 : (Jvm.Cond.initialized "ClassFileReader$Malformed") ∈ lw_all := lw_g (lw_at lw_m1 14 rfl) rfl
theorem q332 : (Jvm.Cond.instantiable "ClassFileReader$Malformed" (8 : Nat)) ∈ lw_all := lw_g (lw_at lw_m2 16 rfl) rfl
theorem q333 : (Jvm.Cond.castable "ClassFileReader$Malformed" "ClassFileReader$Malformed") ∈ lw_tbl := lw_at lw_m2 17 rfl
theorem q340 : (Jvm.Cond.selects "ClassFileReader$Malformed" ({ cls := "java/lang/Throwable", name := "fillInStackTrace", desc := "(I)Ljava/lang/Throwable;" } : Jvm.MethodName) ({ cls := "java/lang/Throwable", name := "fillInStackTrace", desc := "(I)Ljava/lang/Throwable;" } : Jvm.MethodName)) ∈ lw_all := lw_g (lw_at lw_m2 24 rfl) rfl
theorem q341 : (Jvm.Cond.selects "ClassFileReader$Malformed" ({ cls := "java/lang/Throwable", name := "fillInStackTrace", desc := "()Ljava/lang/Throwable;" } : Jvm.MethodName) ({ cls := "java/lang/Throwable", name := "fillInStackTrace", desc := "()Ljava/lang/Throwable;" } : Jvm.MethodName)) ∈ lw_all := lw_g (lw_at lw_m2 25 rfl) rfl
theorem q342 : (Jvm.Cond.lays "ClassFileReader$Malformed" "java/lang/Throwable" "cause" "Ljava/lang/Throwable;") ∈ lw_all := lw_g (lw_at lw_m2 26 rfl) rfl
theorem q344 : (Jvm.Cond.lays "ClassFileReader$Malformed" "java/lang/Throwable" "stackTrace" "[Ljava/lang/StackTraceElement;") ∈ lw_all := lw_g (lw_at lw_m2 28 rfl) rfl
theorem q346 : (Jvm.Cond.lays "ClassFileReader$Malformed" "java/lang/Throwable" "suppressedExceptions" "Ljava/util/List;") ∈ lw_all := lw_g (lw_at lw_m2 30 rfl) rfl
theorem q348 : (Jvm.Cond.lays "ClassFileReader$Malformed" "java/lang/Throwable" "detailMessage" "Ljava/lang/String;") ∈ lw_all := lw_g (lw_at lw_m2 32 rfl) rfl
theorem q350 : (Jvm.Cond.lays "ClassFileReader$Malformed" "java/lang/Throwable" "backtrace" "Ljava/lang/Object;") ∈ lw_all := lw_g (lw_at lw_m2 34 rfl) rfl
theorem q371 : (Jvm.Cond.instanceMethod ({ cls := "ClassFileReader$Malformed", name := "<init>", desc := "(II)V" } : Jvm.MethodName)) ∈ lw_all := lw_g (lw_at lw_m2 55 rfl) rfl
theorem q372 : (Jvm.Cond.code ({ cls := "ClassFileReader$Malformed", name := "<init>", desc := "(II)V" } : Jvm.MethodName) prog_8_method_1_code (3 : Nat) (Option.none : Option Jvm.ClassFile.FieldType)) ∈ lw_all := lw_g (lw_at lw_m2 56 rfl) rfl
theorem q373 : (Jvm.Cond.methodLink "ClassFileReader$Malformed" (1 : Nat) ({ cls := "java/lang/RuntimeException", name := "<init>", desc := "()V" } : Jvm.MethodName)) ∈ lw_all := lw_g (lw_at lw_m2 57 rfl) rfl
theorem q380 : (Jvm.Cond.fieldLink "ClassFileReader$Malformed" (7 : Nat) "ClassFileReader$Malformed" "code" "I") ∈ lw_all := lw_g (lw_at lw_m2 64 rfl) rfl
theorem q382 : (Jvm.Cond.fieldLink "ClassFileReader$Malformed" (13 : Nat) "ClassFileReader$Malformed" "place" "I") ∈ lw_all := lw_g (lw_at lw_m2 66 rfl) rfl
theorem q388 : (Jvm.Cond.laysFinal "ClassFileReader$Malformed" "ClassFileReader$Malformed" "code" "I") ∈ lw_all := lw_g (lw_at lw_m2 72 rfl) rfl
theorem q389 : (Jvm.Cond.soleField "ClassFileReader$Malformed" "code") ∈ lw_all := lw_g (lw_at lw_m2 73 rfl) rfl
theorem q390 : (Jvm.Cond.laysFinal "ClassFileReader$Malformed" "ClassFileReader$Malformed" "place" "I") ∈ lw_all := lw_g (lw_at lw_m2 74 rfl) rfl
theorem q391 : (Jvm.Cond.soleField "ClassFileReader$Malformed" "place") ∈ lw_all := lw_g (lw_at lw_m2 75 rfl) rfl
theorem q396 : (Jvm.Cond.lays "ClassFileReader$Malformed" "java/lang/Throwable" "depth" "I") ∈ lw_all := lw_g (lw_at lw_m2 80 rfl) rfl
theorem q399 : (Jvm.Cond.superclass "ClassFileReader$Malformed" "java/lang/RuntimeException") ∈ lw_all := lw_g (lw_at lw_m2 83 rfl) rfl
theorem in_X6 : ∀ w ∈ wsX60, w ∈ lw_all := lw_in wsX60 [342, 344, 346, 348, 350, 396, 388, 390] (by decide +kernel) (by decide +kernel)
def RX7 : String := "ClassFileReader$Entry"
abbrev cX7_init : ByteArray := prog_3_method_1_code
def yX7_init : MethodName := ⟨RX7, "<init>", "(I)V"⟩
theorem q97 : (Jvm.Cond.initialized "ClassFileReader$Entry") ∈ lw_all := lw_g (lw_at lw_m1 21 rfl) rfl
theorem q610 : (Jvm.Cond.instanceMethod ({ cls := "ClassFileReader$Entry", name := "<init>", desc := "(I)V" } : Jvm.MethodName)) ∈ lw_all := lw_g (lw_at lw_m3 54 rfl) rfl
theorem q611 : (Jvm.Cond.code ({ cls := "ClassFileReader$Entry", name := "<init>", desc := "(I)V" } : Jvm.MethodName) prog_3_method_1_code (2 : Nat) (Option.none : Option Jvm.ClassFile.FieldType)) ∈ lw_all := lw_g (lw_at lw_m3 55 rfl) rfl
theorem q612 : (Jvm.Cond.methodLink "ClassFileReader$Entry" (1 : Nat) ({ cls := "java/lang/Object", name := "<init>", desc := "()V" } : Jvm.MethodName)) ∈ lw_all := lw_g (lw_at lw_m3 56 rfl) rfl
theorem q615 : (Jvm.Cond.fieldLink "ClassFileReader$Entry" (7 : Nat) "ClassFileReader$Entry" "place" "I") ∈ lw_all := lw_g (lw_at lw_m3 59 rfl) rfl
theorem q623 : (Jvm.Cond.soleField "ClassFileReader$Entry" "place") ∈ lw_all := lw_g (lw_at lw_m3 67 rfl) rfl
theorem q678 : (Jvm.Cond.declares ({ cls := "ClassFileReader$Entry", name := "check", desc := "(LClassFileReader;)V" } : Jvm.MethodName)) ∈ lw_tbl := lw_at lw_m3 122 rfl
theorem q679 : (Jvm.Cond.sameMethod "ClassFileReader$Entry" "ClassFileReader$Entry" "check" "(LClassFileReader;)V") ∈ lw_all := lw_g (lw_at lw_m3 123 rfl) rfl
def RX8 : String := "ClassFileReader$Text"
def TX8 : u_T := fun k => match k with
  | 0 => ("ClassFileReader$Entry", "place", "I", true)
  | _ => ("ClassFileReader$Text", "text", "Ljava/lang/String;", true)
def tyX8 : Nat → FieldType := fun k => match k with
  | 0 => .int
  | _ => .object "java/lang/String"
abbrev wsX80 : List Cond := u_ws RX8 TX8 2
theorem nmX8 : ∀ a, a < 2 → ∀ b, b < 2 → a ≠ b → (TX8 a).2.1 ≠ (TX8 b).2.1 := by decide +kernel
theorem tyX8_ok : ∀ k, k < 2 → parseFieldDescriptor (TX8 k).2.2.1 = some (tyX8 k) := by decide +kernel
abbrev cX8_init : ByteArray := prog_15_method_1_code
def yX8_init : MethodName := ⟨RX8, "<init>", "(ILjava/lang/String;)V"⟩
abbrev cX8_check : ByteArray := prog_15_method_2_code
def yX8_check : MethodName := ⟨RX8, "check", "(LClassFileReader;)V"⟩
theorem q98 : (Jvm.Cond.initialized "ClassFileReader$Text") ∈ lw_all := lw_g (lw_at lw_m1 22 rfl) rfl
theorem q542 : (Jvm.Cond.instantiable "ClassFileReader$Text" (2 : Nat)) ∈ lw_all := lw_g (lw_at lw_m2 226 rfl) rfl
theorem q607 : (Jvm.Cond.instanceMethod ({ cls := "ClassFileReader$Text", name := "<init>", desc := "(ILjava/lang/String;)V" } : Jvm.MethodName)) ∈ lw_all := lw_g (lw_at lw_m3 51 rfl) rfl
theorem q608 : (Jvm.Cond.code ({ cls := "ClassFileReader$Text", name := "<init>", desc := "(ILjava/lang/String;)V" } : Jvm.MethodName) prog_15_method_1_code (3 : Nat) (Option.none : Option Jvm.ClassFile.FieldType)) ∈ lw_all := lw_g (lw_at lw_m3 52 rfl) rfl
theorem q609 : (Jvm.Cond.methodLink "ClassFileReader$Text" (1 : Nat) ({ cls := "ClassFileReader$Entry", name := "<init>", desc := "(I)V" } : Jvm.MethodName)) ∈ lw_all := lw_g (lw_at lw_m3 53 rfl) rfl
theorem q613 : (Jvm.Cond.fieldLink "ClassFileReader$Text" (7 : Nat) "ClassFileReader$Text" "text" "Ljava/lang/String;") ∈ lw_all := lw_g (lw_at lw_m3 57 rfl) rfl
theorem q620 : (Jvm.Cond.laysFinal "ClassFileReader$Text" "ClassFileReader$Text" "text" "Ljava/lang/String;") ∈ lw_all := lw_g (lw_at lw_m3 64 rfl) rfl
theorem q621 : (Jvm.Cond.soleField "ClassFileReader$Text" "text") ∈ lw_all := lw_g (lw_at lw_m3 65 rfl) rfl
theorem q622 : (Jvm.Cond.laysFinal "ClassFileReader$Text" "ClassFileReader$Entry" "place" "I") ∈ lw_all := lw_g (lw_at lw_m3 66 rfl) rfl
theorem q624 : (Jvm.Cond.superclass "ClassFileReader$Text" "ClassFileReader$Entry") ∈ lw_all := lw_g (lw_at lw_m3 68 rfl) rfl
theorem q768 : (Jvm.Cond.selects "ClassFileReader$Text" ({ cls := "ClassFileReader$Entry", name := "check", desc := "(LClassFileReader;)V" } : Jvm.MethodName) ({ cls := "ClassFileReader$Text", name := "check", desc := "(LClassFileReader;)V" } : Jvm.MethodName)) ∈ lw_all := lw_g (lw_at lw_m3 212 rfl) rfl
theorem q769 : (Jvm.Cond.instanceMethod ({ cls := "ClassFileReader$Text", name := "check", desc := "(LClassFileReader;)V" } : Jvm.MethodName)) ∈ lw_all := lw_g (lw_at lw_m3 213 rfl) rfl
theorem q770 : (Jvm.Cond.code ({ cls := "ClassFileReader$Text", name := "check", desc := "(LClassFileReader;)V" } : Jvm.MethodName) prog_15_method_2_code (2 : Nat) (Option.none : Option Jvm.ClassFile.FieldType)) ∈ lw_all := lw_g (lw_at lw_m3 214 rfl) rfl
theorem q1431 : (Jvm.Cond.castable "ClassFileReader$Text" "ClassFileReader$Entry") ∈ lw_tbl := lw_at lw_m6 155 rfl
theorem in_X8 : ∀ w ∈ wsX80, w ∈ lw_all := lw_in wsX80 [622, 620] (by decide +kernel) (by decide +kernel)
def RX9 : String := "ClassFileReader$Constant"
def TX9 : u_T := fun k => match k with
  | 0 => ("ClassFileReader$Entry", "place", "I", true)
  | 1 => ("ClassFileReader$Constant", "tag", "I", true)
  | _ => ("ClassFileReader$Constant", "value", "J", true)
def tyX9 : Nat → FieldType := fun k => match k with
  | 0 => .int
  | 1 => .int
  | _ => .long
abbrev wsX90 : List Cond := u_ws RX9 TX9 3
theorem nmX9 : ∀ a, a < 3 → ∀ b, b < 3 → a ≠ b → (TX9 a).2.1 ≠ (TX9 b).2.1 := by decide +kernel
theorem tyX9_ok : ∀ k, k < 3 → parseFieldDescriptor (TX9 k).2.2.1 = some (tyX9 k) := by decide +kernel
abbrev cX9_init : ByteArray := prog_2_method_1_code
def yX9_init : MethodName := ⟨RX9, "<init>", "(IIJ)V"⟩
abbrev cX9_check : ByteArray := prog_2_method_2_code
def yX9_check : MethodName := ⟨RX9, "check", "(LClassFileReader;)V"⟩
theorem q99 : (Jvm.Cond.initialized "ClassFileReader$Constant") ∈ lw_all := lw_g (lw_at lw_m1 23 rfl) rfl
theorem q626 : (Jvm.Cond.instantiable "ClassFileReader$Constant" (3 : Nat)) ∈ lw_all := lw_g (lw_at lw_m3 70 rfl) rfl
theorem q628 : (Jvm.Cond.instanceMethod ({ cls := "ClassFileReader$Constant", name := "<init>", desc := "(IIJ)V" } : Jvm.MethodName)) ∈ lw_all := lw_g (lw_at lw_m3 72 rfl) rfl
theorem q629 : (Jvm.Cond.code ({ cls := "ClassFileReader$Constant", name := "<init>", desc := "(IIJ)V" } : Jvm.MethodName) prog_2_method_1_code (5 : Nat) (Option.none : Option Jvm.ClassFile.FieldType)) ∈ lw_all := lw_g (lw_at lw_m3 73 rfl) rfl
theorem q630 : (Jvm.Cond.methodLink "ClassFileReader$Constant" (1 : Nat) ({ cls := "ClassFileReader$Entry", name := "<init>", desc := "(I)V" } : Jvm.MethodName)) ∈ lw_all := lw_g (lw_at lw_m3 74 rfl) rfl
theorem q631 : (Jvm.Cond.fieldLink "ClassFileReader$Constant" (7 : Nat) "ClassFileReader$Constant" "tag" "I") ∈ lw_all := lw_g (lw_at lw_m3 75 rfl) rfl
theorem q633 : (Jvm.Cond.fieldLink "ClassFileReader$Constant" (13 : Nat) "ClassFileReader$Constant" "value" "J") ∈ lw_all := lw_g (lw_at lw_m3 77 rfl) rfl
theorem q635 : (Jvm.Cond.laysFinal "ClassFileReader$Constant" "ClassFileReader$Constant" "tag" "I") ∈ lw_all := lw_g (lw_at lw_m3 79 rfl) rfl
theorem q636 : (Jvm.Cond.soleField "ClassFileReader$Constant" "tag") ∈ lw_all := lw_g (lw_at lw_m3 80 rfl) rfl
theorem q637 : (Jvm.Cond.laysFinal "ClassFileReader$Constant" "ClassFileReader$Constant" "value" "J") ∈ lw_all := lw_g (lw_at lw_m3 81 rfl) rfl
theorem q638 : (Jvm.Cond.soleField "ClassFileReader$Constant" "value") ∈ lw_all := lw_g (lw_at lw_m3 82 rfl) rfl
theorem q639 : (Jvm.Cond.laysFinal "ClassFileReader$Constant" "ClassFileReader$Entry" "place" "I") ∈ lw_all := lw_g (lw_at lw_m3 83 rfl) rfl
theorem q640 : (Jvm.Cond.superclass "ClassFileReader$Constant" "ClassFileReader$Entry") ∈ lw_all := lw_g (lw_at lw_m3 84 rfl) rfl
theorem q680 : (Jvm.Cond.selects "ClassFileReader$Constant" ({ cls := "ClassFileReader$Entry", name := "check", desc := "(LClassFileReader;)V" } : Jvm.MethodName) ({ cls := "ClassFileReader$Constant", name := "check", desc := "(LClassFileReader;)V" } : Jvm.MethodName)) ∈ lw_all := lw_g (lw_at lw_m3 124 rfl) rfl
theorem q681 : (Jvm.Cond.instanceMethod ({ cls := "ClassFileReader$Constant", name := "check", desc := "(LClassFileReader;)V" } : Jvm.MethodName)) ∈ lw_all := lw_g (lw_at lw_m3 125 rfl) rfl
theorem q682 : (Jvm.Cond.code ({ cls := "ClassFileReader$Constant", name := "check", desc := "(LClassFileReader;)V" } : Jvm.MethodName) prog_2_method_2_code (2 : Nat) (Option.none : Option Jvm.ClassFile.FieldType)) ∈ lw_all := lw_g (lw_at lw_m3 126 rfl) rfl
theorem q1432 : (Jvm.Cond.castable "ClassFileReader$Constant" "ClassFileReader$Entry") ∈ lw_tbl := lw_at lw_m6 156 rfl
theorem in_X9 : ∀ w ∈ wsX90, w ∈ lw_all := lw_in wsX90 [639, 635, 637] (by decide +kernel) (by decide +kernel)
theorem q76 : (Jvm.Cond.initialized "ClassFileReaderLaw") ∈ lw_all := lw_g (lw_at lw_m1 0 rfl) rfl
theorem q107 : (Jvm.Cond.classLink "ClassFileReaderLaw" (7 : Nat) "ClassFileReader") ∈ lw_all := lw_g (lw_at lw_m1 31 rfl) rfl
theorem q109 : (Jvm.Cond.methodLink "ClassFileReaderLaw" (9 : Nat) ({ cls := "ClassFileReader", name := "<init>", desc := "()V" } : Jvm.MethodName)) ∈ lw_all := lw_g (lw_at lw_m1 33 rfl) rfl
theorem q179 : (Jvm.Cond.methodLink "ClassFileReaderLaw" (15 : Nat) ({ cls := "ClassFileReader", name := "put", desc := "(JI)I" } : Jvm.MethodName)) ∈ lw_all := lw_g (lw_at lw_m1 103 rfl) rfl
theorem q183 : (Jvm.Cond.methodLink "ClassFileReaderLaw" (20 : Nat) ({ cls := "ClassFileReader", name := "patch", desc := "(II)I" } : Jvm.MethodName)) ∈ lw_all := lw_g (lw_at lw_m1 107 rfl) rfl
theorem q187 : (Jvm.Cond.methodLink "ClassFileReaderLaw" (25 : Nat) ({ cls := "ClassFileReader", name := "drop", desc := "()I" } : Jvm.MethodName)) ∈ lw_all := lw_g (lw_at lw_m1 111 rfl) rfl
theorem q191 : (Jvm.Cond.methodLink "ClassFileReaderLaw" (30 : Nat) ({ cls := "ClassFileReader", name := "read", desc := "()I" } : Jvm.MethodName)) ∈ lw_all := lw_g (lw_at lw_m1 115 rfl) rfl
theorem q1047 : (Jvm.Cond.methodLink "ClassFileReaderLaw" (34 : Nat) ({ cls := "ClassFileReader", name := "place", desc := "()I" } : Jvm.MethodName)) ∈ lw_all := lw_g (lw_at lw_m5 11 rfl) rfl
theorem q1051 : (Jvm.Cond.methodLink "ClassFileReaderLaw" (38 : Nat) ({ cls := "ClassFileReader", name := "number", desc := "(I)I" } : Jvm.MethodName)) ∈ lw_all := lw_g (lw_at lw_m5 15 rfl) rfl
theorem q1055 : (Jvm.Cond.methodLink "ClassFileReaderLaw" (43 : Nat) ({ cls := "ClassFileReader", name := "flags", desc := "(II)I" } : Jvm.MethodName)) ∈ lw_all := lw_g (lw_at lw_m5 19 rfl) rfl
theorem q1063 : (Jvm.Cond.methodLink "ClassFileReaderLaw" (47 : Nat) ({ cls := "ClassFileReader", name := "text", desc := "(III)I" } : Jvm.MethodName)) ∈ lw_all := lw_g (lw_at lw_m5 27 rfl) rfl
theorem q1081 : (Jvm.Cond.methodLink "ClassFileReaderLaw" (52 : Nat) ({ cls := "ClassFileReader", name := "exceptions", desc := "(I)I" } : Jvm.MethodName)) ∈ lw_all := lw_g (lw_at lw_m5 45 rfl) rfl
theorem q1089 : (Jvm.Cond.methodLink "ClassFileReaderLaw" (56 : Nat) ({ cls := "ClassFileReader", name := "exception", desc := "(III)I" } : Jvm.MethodName)) ∈ lw_all := lw_g (lw_at lw_m5 53 rfl) rfl
theorem q1093 : (Jvm.Cond.methodLink "ClassFileReaderLaw" (60 : Nat) ({ cls := "ClassFileReader", name := "constant", desc := "(I)J" } : Jvm.MethodName)) ∈ lw_all := lw_g (lw_at lw_m5 57 rfl) rfl
theorem q1097 : (Jvm.Cond.methodLink "ClassFileReaderLaw" (65 : Nat) ({ cls := "ClassFileReader", name := "deprecated", desc := "(II)I" } : Jvm.MethodName)) ∈ lw_all := lw_g (lw_at lw_m5 61 rfl) rfl
theorem q1101 : (Jvm.Cond.classLink "ClassFileReaderLaw" (10 : Nat) "ClassFileReaderModel") ∈ lw_all := lw_g (lw_at lw_m5 65 rfl) rfl
theorem q1103 : (Jvm.Cond.methodLink "ClassFileReaderLaw" (12 : Nat) ({ cls := "ClassFileReaderModel", name := "<init>", desc := "()V" } : Jvm.MethodName)) ∈ lw_all := lw_g (lw_at lw_m5 67 rfl) rfl
theorem q1138 : (Jvm.Cond.methodLink "ClassFileReaderLaw" (19 : Nat) ({ cls := "ClassFileReaderModel", name := "put", desc := "(JI)I" } : Jvm.MethodName)) ∈ lw_all := lw_g (lw_at lw_m5 102 rfl) rfl
theorem q1143 : (Jvm.Cond.methodLink "ClassFileReaderLaw" (24 : Nat) ({ cls := "ClassFileReaderModel", name := "patch", desc := "(II)I" } : Jvm.MethodName)) ∈ lw_all := lw_g (lw_at lw_m5 107 rfl) rfl
theorem q1147 : (Jvm.Cond.methodLink "ClassFileReaderLaw" (29 : Nat) ({ cls := "ClassFileReaderModel", name := "drop", desc := "()I" } : Jvm.MethodName)) ∈ lw_all := lw_g (lw_at lw_m5 111 rfl) rfl
theorem q1151 : (Jvm.Cond.methodLink "ClassFileReaderLaw" (33 : Nat) ({ cls := "ClassFileReaderModel", name := "read", desc := "()I" } : Jvm.MethodName)) ∈ lw_all := lw_g (lw_at lw_m5 115 rfl) rfl
theorem q1361 : (Jvm.Cond.methodLink "ClassFileReaderLaw" (37 : Nat) ({ cls := "ClassFileReaderModel", name := "place", desc := "()I" } : Jvm.MethodName)) ∈ lw_all := lw_g (lw_at lw_m6 85 rfl) rfl
theorem q1365 : (Jvm.Cond.methodLink "ClassFileReaderLaw" (42 : Nat) ({ cls := "ClassFileReaderModel", name := "number", desc := "(I)I" } : Jvm.MethodName)) ∈ lw_all := lw_g (lw_at lw_m6 89 rfl) rfl
theorem q1369 : (Jvm.Cond.methodLink "ClassFileReaderLaw" (46 : Nat) ({ cls := "ClassFileReaderModel", name := "flags", desc := "(II)I" } : Jvm.MethodName)) ∈ lw_all := lw_g (lw_at lw_m6 93 rfl) rfl
theorem q1381 : (Jvm.Cond.methodLink "ClassFileReaderLaw" (51 : Nat) ({ cls := "ClassFileReaderModel", name := "text", desc := "(III)I" } : Jvm.MethodName)) ∈ lw_all := lw_g (lw_at lw_m6 105 rfl) rfl
theorem q1401 : (Jvm.Cond.methodLink "ClassFileReaderLaw" (55 : Nat) ({ cls := "ClassFileReaderModel", name := "exceptions", desc := "(I)I" } : Jvm.MethodName)) ∈ lw_all := lw_g (lw_at lw_m6 125 rfl) rfl
theorem q1405 : (Jvm.Cond.methodLink "ClassFileReaderLaw" (59 : Nat) ({ cls := "ClassFileReaderModel", name := "exception", desc := "(III)I" } : Jvm.MethodName)) ∈ lw_all := lw_g (lw_at lw_m6 129 rfl) rfl
theorem q1409 : (Jvm.Cond.methodLink "ClassFileReaderLaw" (64 : Nat) ({ cls := "ClassFileReaderModel", name := "constant", desc := "(I)J" } : Jvm.MethodName)) ∈ lw_all := lw_g (lw_at lw_m6 133 rfl) rfl
theorem q1420 : (Jvm.Cond.methodLink "ClassFileReaderLaw" (68 : Nat) ({ cls := "ClassFileReaderModel", name := "deprecated", desc := "(II)I" } : Jvm.MethodName)) ∈ lw_all := lw_g (lw_at lw_m6 144 rfl) rfl
theorem q1424 : (Jvm.Cond.constantLong "ClassFileReaderLaw" (13 : Nat) (4294967295 : Int64)) ∈ lw_all := lw_g (lw_at lw_m6 148 rfl) rfl
theorem q456 : (Jvm.Cond.sameMethod "[B" "java/lang/Object" "clone" "()Ljava/lang/Object;") ∈ lw_all := lw_g (lw_at lw_m2 140 rfl) rfl
theorem q459 : (Jvm.Cond.selects "[B" ({ cls := "[B", name := "clone", desc := "()Ljava/lang/Object;" } : Jvm.MethodName) ({ cls := "java/lang/Object", name := "clone", desc := "()Ljava/lang/Object;" } : Jvm.MethodName)) ∈ lw_all := lw_g (lw_at lw_m2 143 rfl) rfl
theorem q460 : (Jvm.Cond.castable "[B" "java/lang/Cloneable") ∈ lw_tbl := lw_at lw_m2 144 rfl
theorem q94 : (Jvm.Cond.initialized "java/lang/System") ∈ lw_all := lw_g (lw_at lw_m1 18 rfl) rfl
theorem q466 : (Jvm.Cond.static ({ cls := "java/lang/System", name := "arraycopy", desc := "(Ljava/lang/Object;ILjava/lang/Object;II)V" } : Jvm.MethodName)) ∈ lw_all := lw_g (lw_at lw_m2 150 rfl) rfl
theorem q467 : (Jvm.Cond.native ({ cls := "java/lang/System", name := "arraycopy", desc := "(Ljava/lang/Object;ILjava/lang/Object;II)V" } : Jvm.MethodName)) ∈ lw_all := lw_g (lw_at lw_m2 151 rfl) rfl
theorem q949 : (Jvm.Cond.interfaceMethod "jdk/internal/access/JavaLangAccess" "jdk/internal/access/JavaLangAccess" "getUTF16Char" "([BI)C") ∈ lw_tbl := lw_at lw_m4 153 rfl
theorem q950 : (Jvm.Cond.declares ({ cls := "jdk/internal/access/JavaLangAccess", name := "getUTF16Char", desc := "([BI)C" } : Jvm.MethodName)) ∈ lw_tbl := lw_at lw_m4 154 rfl
theorem q116 : (Jvm.Cond.arrayOver (Jvm.ClassFile.FieldType.object "ClassFileReader$Entry")) ∈ lw_tbl := lw_at lw_m1 40 rfl
theorem q149 : (Jvm.Cond.arrayClass Jvm.ClassFile.FieldType.int) ∈ lw_all := lw_g (lw_at lw_m1 73 rfl) rfl
theorem q150 : (Jvm.Cond.arrayClass Jvm.ClassFile.FieldType.byte) ∈ lw_all := lw_g (lw_at lw_m1 74 rfl) rfl
theorem q1435 : (Jvm.Cond.arrayClass Jvm.ClassFile.FieldType.char) ∈ lw_all := lw_g (lw_at lw_m6 159 rfl) rfl
theorem q1436 : (Jvm.Cond.arrayClass Jvm.ClassFile.FieldType.short) ∈ lw_all := lw_g (lw_at lw_m6 160 rfl) rfl
end
section
/-! Abstract references (kind, address, text), values, and the field heap: kinds by address, fields by number, arrays, sizes, what room is left -/
abbrev Rf : Type := Option (Nat × Nat × List Int32)
abbrev AV : Type := Int32 ⊕ (Int64 ⊕ Rf)
abbrev vI (x : Int32) : AV := .inl x
abbrev vL (x : Int64) : AV := .inr (.inl x)
abbrev vR (x : Rf) : AV := .inr (.inr x)
/-- the machine's value of an abstract one -/
def cr (r : Rf) : Value := va_rf (r.map (fun q => q.2.1))
def cv (v : AV) : Value := match v with
  | .inl x => .int x
  | .inr (.inl x) => .long x
  | .inr (.inr r) => cr r
abbrev HS : Type := (Nat → Option (Nat × List Int32)) × (Nat → Nat → Int32) × (Nat → Nat → Int64) × (Nat → Nat → Rf) × (Nat → Nat) × (Nat → Nat → Int32) × (Nat → Nat → Int32) × (Nat → Nat → Rf) × Nat × Nat × Nat
/-- kind and text of the cell at an address -/
def hC (S : HS) (a : Nat) : Option (Nat × List Int32) := S.1 a
/-- int-like fields -/
def hI (S : HS) (f : Nat) (a : Nat) : Int32 := S.2.1 f a
/-- long fields -/
def hL (S : HS) (f : Nat) (a : Nat) : Int64 := S.2.2.1 f a
/-- reference fields -/
def hR (S : HS) (f : Nat) (a : Nat) : Rf := S.2.2.2.1 f a
/-- array lengths -/
def hN (S : HS) (a : Nat) : Nat := S.2.2.2.2.1 a
/-- int elements -/
def hA (S : HS) (a : Nat) (k : Nat) : Int32 := S.2.2.2.2.2.1 a k
/-- byte elements -/
def hY (S : HS) (a : Nat) (k : Nat) : Int32 := S.2.2.2.2.2.2.1 a k
/-- reference elements -/
def hP (S : HS) (a : Nat) (k : Nat) : Rf := S.2.2.2.2.2.2.2.1 a k
/-- how many cells -/
def hZ (S : HS) : Nat := S.2.2.2.2.2.2.2.2.1
/-- cells that may still be made -/
def hB (S : HS) : Nat := S.2.2.2.2.2.2.2.2.2.1
/-- slots that may still be made -/
def hU (S : HS) : Nat := S.2.2.2.2.2.2.2.2.2.2
def sI (S : HS) (f a : Nat) (v : Int32) : HS := (S.1, fun g b => if g = f ∧ b = a then v else S.2.1 g b, S.2.2.1, S.2.2.2.1, S.2.2.2.2.1, S.2.2.2.2.2.1, S.2.2.2.2.2.2.1, S.2.2.2.2.2.2.2.1, S.2.2.2.2.2.2.2.2.1, S.2.2.2.2.2.2.2.2.2.1, S.2.2.2.2.2.2.2.2.2.2)
def sL (S : HS) (f a : Nat) (v : Int64) : HS := (S.1, S.2.1, fun g b => if g = f ∧ b = a then v else S.2.2.1 g b, S.2.2.2.1, S.2.2.2.2.1, S.2.2.2.2.2.1, S.2.2.2.2.2.2.1, S.2.2.2.2.2.2.2.1, S.2.2.2.2.2.2.2.2.1, S.2.2.2.2.2.2.2.2.2.1, S.2.2.2.2.2.2.2.2.2.2)
def sR (S : HS) (f a : Nat) (v : Rf) : HS := (S.1, S.2.1, S.2.2.1, fun g b => if g = f ∧ b = a then v else S.2.2.2.1 g b, S.2.2.2.2.1, S.2.2.2.2.2.1, S.2.2.2.2.2.2.1, S.2.2.2.2.2.2.2.1, S.2.2.2.2.2.2.2.2.1, S.2.2.2.2.2.2.2.2.2.1, S.2.2.2.2.2.2.2.2.2.2)
def sA (S : HS) (a k : Nat) (v : Int32) : HS := (S.1, S.2.1, S.2.2.1, S.2.2.2.1, S.2.2.2.2.1, fun b j => if b = a ∧ j = k then v else S.2.2.2.2.2.1 b j, S.2.2.2.2.2.2.1, S.2.2.2.2.2.2.2.1, S.2.2.2.2.2.2.2.2.1, S.2.2.2.2.2.2.2.2.2.1, S.2.2.2.2.2.2.2.2.2.2)
def sY (S : HS) (a k : Nat) (v : Int32) : HS := (S.1, S.2.1, S.2.2.1, S.2.2.2.1, S.2.2.2.2.1, S.2.2.2.2.2.1, fun b j => if b = a ∧ j = k then v else S.2.2.2.2.2.2.1 b j, S.2.2.2.2.2.2.2.1, S.2.2.2.2.2.2.2.2.1, S.2.2.2.2.2.2.2.2.2.1, S.2.2.2.2.2.2.2.2.2.2)
def sP (S : HS) (a k : Nat) (v : Rf) : HS := (S.1, S.2.1, S.2.2.1, S.2.2.2.1, S.2.2.2.2.1, S.2.2.2.2.2.1, S.2.2.2.2.2.2.1, fun b j => if b = a ∧ j = k then v else S.2.2.2.2.2.2.2.1 b j, S.2.2.2.2.2.2.2.2.1, S.2.2.2.2.2.2.2.2.2.1, S.2.2.2.2.2.2.2.2.2.2)
/-- a new object of kind c with n fields, all zero or null -/
def sO (S : HS) (c n : Nat) : HS := (fun b => if b = hZ S then some (c, []) else S.1 b, fun g b => if b = hZ S then 0 else S.2.1 g b, fun g b => if b = hZ S then 0 else S.2.2.1 g b, fun g b => if b = hZ S then none else S.2.2.2.1 g b, S.2.2.2.2.1, S.2.2.2.2.2.1, S.2.2.2.2.2.2.1, S.2.2.2.2.2.2.2.1, hZ S + 1, hB S - 1, hU S - n)
/-- a new array of kind c and length n, all zero or null -/
def sN (S : HS) (c n : Nat) : HS := (fun b => if b = hZ S then some (c, []) else S.1 b, S.2.1, S.2.2.1, S.2.2.2.1, fun b => if b = hZ S then n else S.2.2.2.2.1 b, fun b j => if b = hZ S then 0 else S.2.2.2.2.2.1 b j, fun b j => if b = hZ S then 0 else S.2.2.2.2.2.2.1 b j, fun b j => if b = hZ S then none else S.2.2.2.2.2.2.2.1 b j, hZ S + 1, hB S - 1, hU S - n)
/-- a String at a, made out of the bytes at w, is done: its text is t -/
def sF (S : HS) (a w : Nat) (t : List Int32) : HS := (fun b => if b = a then some (14, t) else if b = w then some (104, t) else S.1 b, S.2.1, S.2.2.1, S.2.2.2.1, S.2.2.2.2.1, S.2.2.2.2.2.1, S.2.2.2.2.2.2.1, S.2.2.2.2.2.2.2.1, S.2.2.2.2.2.2.2.2.1, S.2.2.2.2.2.2.2.2.2.1, S.2.2.2.2.2.2.2.2.2.2)
theorem hC_sI (S : HS) (f a : Nat) (v : Int32) (b : Nat) : hC (sI S f a v) b = hC S b := rfl
theorem hI_sI (S : HS) (f a : Nat) (v : Int32) (g b : Nat) : hI (sI S f a v) g b = if g = f ∧ b = a then v else hI S g b := rfl
theorem hL_sI (S : HS) (f a : Nat) (v : Int32) (g b : Nat) : hL (sI S f a v) g b = hL S g b := rfl
theorem hR_sI (S : HS) (f a : Nat) (v : Int32) (g b : Nat) : hR (sI S f a v) g b = hR S g b := rfl
theorem hN_sI (S : HS) (f a : Nat) (v : Int32) (b : Nat) : hN (sI S f a v) b = hN S b := rfl
theorem hA_sI (S : HS) (f a : Nat) (v : Int32) (b j : Nat) : hA (sI S f a v) b j = hA S b j := rfl
theorem hY_sI (S : HS) (f a : Nat) (v : Int32) (b j : Nat) : hY (sI S f a v) b j = hY S b j := rfl
theorem hP_sI (S : HS) (f a : Nat) (v : Int32) (b j : Nat) : hP (sI S f a v) b j = hP S b j := rfl
theorem hZ_sI (S : HS) (f a : Nat) (v : Int32) : hZ (sI S f a v) = hZ S := rfl
theorem hB_sI (S : HS) (f a : Nat) (v : Int32) : hB (sI S f a v) = hB S := rfl
theorem hU_sI (S : HS) (f a : Nat) (v : Int32) : hU (sI S f a v) = hU S := rfl
theorem hC_sL (S : HS) (f a : Nat) (v : Int64) (b : Nat) : hC (sL S f a v) b = hC S b := rfl
theorem hI_sL (S : HS) (f a : Nat) (v : Int64) (g b : Nat) : hI (sL S f a v) g b = hI S g b := rfl
theorem hL_sL (S : HS) (f a : Nat) (v : Int64) (g b : Nat) : hL (sL S f a v) g b = if g = f ∧ b = a then v else hL S g b := rfl
theorem hR_sL (S : HS) (f a : Nat) (v : Int64) (g b : Nat) : hR (sL S f a v) g b = hR S g b := rfl
theorem hN_sL (S : HS) (f a : Nat) (v : Int64) (b : Nat) : hN (sL S f a v) b = hN S b := rfl
theorem hA_sL (S : HS) (f a : Nat) (v : Int64) (b j : Nat) : hA (sL S f a v) b j = hA S b j := rfl
theorem hY_sL (S : HS) (f a : Nat) (v : Int64) (b j : Nat) : hY (sL S f a v) b j = hY S b j := rfl
theorem hP_sL (S : HS) (f a : Nat) (v : Int64) (b j : Nat) : hP (sL S f a v) b j = hP S b j := rfl
theorem hZ_sL (S : HS) (f a : Nat) (v : Int64) : hZ (sL S f a v) = hZ S := rfl
theorem hB_sL (S : HS) (f a : Nat) (v : Int64) : hB (sL S f a v) = hB S := rfl
theorem hU_sL (S : HS) (f a : Nat) (v : Int64) : hU (sL S f a v) = hU S := rfl
theorem hC_sR (S : HS) (f a : Nat) (v : Rf) (b : Nat) : hC (sR S f a v) b = hC S b := rfl
theorem hI_sR (S : HS) (f a : Nat) (v : Rf) (g b : Nat) : hI (sR S f a v) g b = hI S g b := rfl
theorem hL_sR (S : HS) (f a : Nat) (v : Rf) (g b : Nat) : hL (sR S f a v) g b = hL S g b := rfl
theorem hR_sR (S : HS) (f a : Nat) (v : Rf) (g b : Nat) : hR (sR S f a v) g b = if g = f ∧ b = a then v else hR S g b := rfl
theorem hN_sR (S : HS) (f a : Nat) (v : Rf) (b : Nat) : hN (sR S f a v) b = hN S b := rfl
theorem hA_sR (S : HS) (f a : Nat) (v : Rf) (b j : Nat) : hA (sR S f a v) b j = hA S b j := rfl
theorem hY_sR (S : HS) (f a : Nat) (v : Rf) (b j : Nat) : hY (sR S f a v) b j = hY S b j := rfl
theorem hP_sR (S : HS) (f a : Nat) (v : Rf) (b j : Nat) : hP (sR S f a v) b j = hP S b j := rfl
theorem hZ_sR (S : HS) (f a : Nat) (v : Rf) : hZ (sR S f a v) = hZ S := rfl
theorem hB_sR (S : HS) (f a : Nat) (v : Rf) : hB (sR S f a v) = hB S := rfl
theorem hU_sR (S : HS) (f a : Nat) (v : Rf) : hU (sR S f a v) = hU S := rfl
theorem hC_sA (S : HS) (a k : Nat) (v : Int32) (b : Nat) : hC (sA S a k v) b = hC S b := rfl
theorem hI_sA (S : HS) (a k : Nat) (v : Int32) (g b : Nat) : hI (sA S a k v) g b = hI S g b := rfl
theorem hL_sA (S : HS) (a k : Nat) (v : Int32) (g b : Nat) : hL (sA S a k v) g b = hL S g b := rfl
theorem hR_sA (S : HS) (a k : Nat) (v : Int32) (g b : Nat) : hR (sA S a k v) g b = hR S g b := rfl
theorem hN_sA (S : HS) (a k : Nat) (v : Int32) (b : Nat) : hN (sA S a k v) b = hN S b := rfl
theorem hA_sA (S : HS) (a k : Nat) (v : Int32) (b j : Nat) : hA (sA S a k v) b j = if b = a ∧ j = k then v else hA S b j := rfl
theorem hY_sA (S : HS) (a k : Nat) (v : Int32) (b j : Nat) : hY (sA S a k v) b j = hY S b j := rfl
theorem hP_sA (S : HS) (a k : Nat) (v : Int32) (b j : Nat) : hP (sA S a k v) b j = hP S b j := rfl
theorem hZ_sA (S : HS) (a k : Nat) (v : Int32) : hZ (sA S a k v) = hZ S := rfl
theorem hB_sA (S : HS) (a k : Nat) (v : Int32) : hB (sA S a k v) = hB S := rfl
theorem hU_sA (S : HS) (a k : Nat) (v : Int32) : hU (sA S a k v) = hU S := rfl
theorem hC_sY (S : HS) (a k : Nat) (v : Int32) (b : Nat) : hC (sY S a k v) b = hC S b := rfl
theorem hI_sY (S : HS) (a k : Nat) (v : Int32) (g b : Nat) : hI (sY S a k v) g b = hI S g b := rfl
theorem hL_sY (S : HS) (a k : Nat) (v : Int32) (g b : Nat) : hL (sY S a k v) g b = hL S g b := rfl
theorem hR_sY (S : HS) (a k : Nat) (v : Int32) (g b : Nat) : hR (sY S a k v) g b = hR S g b := rfl
theorem hN_sY (S : HS) (a k : Nat) (v : Int32) (b : Nat) : hN (sY S a k v) b = hN S b := rfl
theorem hA_sY (S : HS) (a k : Nat) (v : Int32) (b j : Nat) : hA (sY S a k v) b j = hA S b j := rfl
theorem hY_sY (S : HS) (a k : Nat) (v : Int32) (b j : Nat) : hY (sY S a k v) b j = if b = a ∧ j = k then v else hY S b j := rfl
theorem hP_sY (S : HS) (a k : Nat) (v : Int32) (b j : Nat) : hP (sY S a k v) b j = hP S b j := rfl
theorem hZ_sY (S : HS) (a k : Nat) (v : Int32) : hZ (sY S a k v) = hZ S := rfl
theorem hB_sY (S : HS) (a k : Nat) (v : Int32) : hB (sY S a k v) = hB S := rfl
theorem hU_sY (S : HS) (a k : Nat) (v : Int32) : hU (sY S a k v) = hU S := rfl
theorem hC_sP (S : HS) (a k : Nat) (v : Rf) (b : Nat) : hC (sP S a k v) b = hC S b := rfl
theorem hI_sP (S : HS) (a k : Nat) (v : Rf) (g b : Nat) : hI (sP S a k v) g b = hI S g b := rfl
theorem hL_sP (S : HS) (a k : Nat) (v : Rf) (g b : Nat) : hL (sP S a k v) g b = hL S g b := rfl
theorem hR_sP (S : HS) (a k : Nat) (v : Rf) (g b : Nat) : hR (sP S a k v) g b = hR S g b := rfl
theorem hN_sP (S : HS) (a k : Nat) (v : Rf) (b : Nat) : hN (sP S a k v) b = hN S b := rfl
theorem hA_sP (S : HS) (a k : Nat) (v : Rf) (b j : Nat) : hA (sP S a k v) b j = hA S b j := rfl
theorem hY_sP (S : HS) (a k : Nat) (v : Rf) (b j : Nat) : hY (sP S a k v) b j = hY S b j := rfl
theorem hP_sP (S : HS) (a k : Nat) (v : Rf) (b j : Nat) : hP (sP S a k v) b j = if b = a ∧ j = k then v else hP S b j := rfl
theorem hZ_sP (S : HS) (a k : Nat) (v : Rf) : hZ (sP S a k v) = hZ S := rfl
theorem hB_sP (S : HS) (a k : Nat) (v : Rf) : hB (sP S a k v) = hB S := rfl
theorem hU_sP (S : HS) (a k : Nat) (v : Rf) : hU (sP S a k v) = hU S := rfl
theorem hC_sO (S : HS) (c n : Nat) (b : Nat) : hC (sO S c n) b = if b = hZ S then some (c, []) else hC S b := rfl
theorem hI_sO (S : HS) (c n : Nat) (g b : Nat) : hI (sO S c n) g b = if b = hZ S then 0 else hI S g b := rfl
theorem hL_sO (S : HS) (c n : Nat) (g b : Nat) : hL (sO S c n) g b = if b = hZ S then 0 else hL S g b := rfl
theorem hR_sO (S : HS) (c n : Nat) (g b : Nat) : hR (sO S c n) g b = if b = hZ S then none else hR S g b := rfl
theorem hN_sO (S : HS) (c n : Nat) (b : Nat) : hN (sO S c n) b = hN S b := rfl
theorem hA_sO (S : HS) (c n : Nat) (b j : Nat) : hA (sO S c n) b j = hA S b j := rfl
theorem hY_sO (S : HS) (c n : Nat) (b j : Nat) : hY (sO S c n) b j = hY S b j := rfl
theorem hP_sO (S : HS) (c n : Nat) (b j : Nat) : hP (sO S c n) b j = hP S b j := rfl
theorem hZ_sO (S : HS) (c n : Nat) : hZ (sO S c n) = hZ S + 1 := rfl
theorem hB_sO (S : HS) (c n : Nat) : hB (sO S c n) = hB S - 1 := rfl
theorem hU_sO (S : HS) (c n : Nat) : hU (sO S c n) = hU S - n := rfl
theorem hC_sN (S : HS) (c n : Nat) (b : Nat) : hC (sN S c n) b = if b = hZ S then some (c, []) else hC S b := rfl
theorem hI_sN (S : HS) (c n : Nat) (g b : Nat) : hI (sN S c n) g b = hI S g b := rfl
theorem hL_sN (S : HS) (c n : Nat) (g b : Nat) : hL (sN S c n) g b = hL S g b := rfl
theorem hR_sN (S : HS) (c n : Nat) (g b : Nat) : hR (sN S c n) g b = hR S g b := rfl
theorem hN_sN (S : HS) (c n : Nat) (b : Nat) : hN (sN S c n) b = if b = hZ S then n else hN S b := rfl
theorem hA_sN (S : HS) (c n : Nat) (b j : Nat) : hA (sN S c n) b j = if b = hZ S then 0 else hA S b j := rfl
theorem hY_sN (S : HS) (c n : Nat) (b j : Nat) : hY (sN S c n) b j = if b = hZ S then 0 else hY S b j := rfl
theorem hP_sN (S : HS) (c n : Nat) (b j : Nat) : hP (sN S c n) b j = if b = hZ S then none else hP S b j := rfl
theorem hZ_sN (S : HS) (c n : Nat) : hZ (sN S c n) = hZ S + 1 := rfl
theorem hB_sN (S : HS) (c n : Nat) : hB (sN S c n) = hB S - 1 := rfl
theorem hU_sN (S : HS) (c n : Nat) : hU (sN S c n) = hU S - n := rfl
theorem hC_sF (S : HS) (a w : Nat) (t : List Int32) (b : Nat) : hC (sF S a w t) b = if b = a then some (14, t) else if b = w then some (104, t) else hC S b := rfl
theorem hI_sF (S : HS) (a w : Nat) (t : List Int32) (g b : Nat) : hI (sF S a w t) g b = hI S g b := rfl
theorem hL_sF (S : HS) (a w : Nat) (t : List Int32) (g b : Nat) : hL (sF S a w t) g b = hL S g b := rfl
theorem hR_sF (S : HS) (a w : Nat) (t : List Int32) (g b : Nat) : hR (sF S a w t) g b = hR S g b := rfl
theorem hN_sF (S : HS) (a w : Nat) (t : List Int32) (b : Nat) : hN (sF S a w t) b = hN S b := rfl
theorem hA_sF (S : HS) (a w : Nat) (t : List Int32) (b j : Nat) : hA (sF S a w t) b j = hA S b j := rfl
theorem hY_sF (S : HS) (a w : Nat) (t : List Int32) (b j : Nat) : hY (sF S a w t) b j = hY S b j := rfl
theorem hP_sF (S : HS) (a w : Nat) (t : List Int32) (b j : Nat) : hP (sF S a w t) b j = hP S b j := rfl
theorem hZ_sF (S : HS) (a w : Nat) (t : List Int32) : hZ (sF S a w t) = hZ S := rfl
theorem hB_sF (S : HS) (a w : Nat) (t : List Int32) : hB (sF S a w t) = hB S := rfl
theorem hU_sF (S : HS) (a w : Nat) (t : List Int32) : hU (sF S a w t) = hU S := rfl
end
section
set_option maxRecDepth 100000
abbrev clW : List vw_C := [(RX0, TX0, 9), (RX1, TX1, 10), (RX3, TX3, 20), (RX4, TX4, 3), (RX5, TX5, 3), (RX6, TX6, 8), (RX8, TX8, 2), (RX9, TX9, 3), (RX10, TX10, 4), (RX11, TX11, 4), (RX12, TX12, 2), (RX13, TX13, 7), (RX14, TX14, 8), (RX15, TX15, 8), (RJ2, TJ2, 4), (RJ1, TJ1, 4)]
/-- the fields of a kind: 0 int, 1 long, 2 reference; and their numbers -/
def lay : Nat → List (Nat × Nat)
  | 0 => [(2, 0), (0, 1), (0, 2), (2, 3), (0, 4), (2, 5), (2, 6), (2, 7), (0, 8)]
  | 1 => [(2, 10), (0, 11), (2, 12), (2, 13), (2, 14), (0, 15), (0, 16), (0, 17), (0, 18), (0, 19)]
  | 2 => [(2, 20), (0, 21), (0, 22), (0, 23), (0, 24), (0, 25), (2, 26), (2, 27), (2, 28), (0, 29), (2, 30), (2, 31), (2, 32), (2, 33), (2, 34), (2, 35), (2, 36), (2, 37), (2, 38), (2, 39)]
  | 3 => [(2, 40), (2, 41), (0, 42)]
  | 4 => [(2, 43), (2, 44), (0, 45)]
  | 5 => [(2, 46), (2, 47), (2, 48), (2, 49), (2, 50), (0, 51), (0, 52), (0, 53)]
  | 6 => [(0, 54), (2, 55)]
  | 7 => [(0, 54), (0, 56), (1, 57)]
  | 8 => [(0, 54), (0, 58), (0, 59), (2, 60)]
  | 9 => [(0, 54), (0, 61), (0, 62), (0, 63)]
  | 10 => [(2, 64), (2, 65)]
  | 11 => [(2, 20), (0, 21), (0, 22), (0, 66), (2, 67), (2, 68), (2, 69)]
  | 12 => [(2, 20), (0, 21), (0, 22), (0, 66), (2, 67), (2, 68), (2, 69), (2, 70)]
  | 13 => [(2, 20), (0, 21), (0, 22), (0, 66), (2, 67), (2, 68), (2, 69), (1, 71)]
  | 14 => [(2, 72), (0, 73), (0, 74), (0, 75)]
  | 15 => [(2, 76), (0, 77), (0, 78), (0, 79)]
  | _ => []
def litByt : List (List Int32) := [[60, 99, 108, 105, 110, 105, 116, 62], [60, 105, 110, 105, 116, 62], [60, 105, 110, 105, 116, 62], [66], [67], [67, 111, 110, 115, 116, 97, 110, 116, 86, 97, 108, 117, 101], [68], [68, 101, 112, 114, 101, 99, 97, 116, 101, 100], [69, 120, 99, 101, 112, 116, 105, 111, 110, 115], [70], [73], [73, 110, 110, 101, 114, 67, 108, 97, 115, 115, 101, 115], [74], [76, 106, 97, 118, 97, 47, 108, 97, 110, 103, 47, 83, 116, 114, 105, 110, 103, 59], [78, 101, 115, 116, 72, 111, 115, 116], [78, 101, 115, 116, 77, 101, 109, 98, 101, 114, 115], [80, 101, 114, 109, 105, 116, 116, 101, 100, 83, 117, 98, 99, 108, 97, 115, 115, 101, 115], [82, 101, 99, 111, 114, 100], [83], [83, 105, 103, 110, 97, 116, 117, 114, 101], [90]]
/-- the String constants: class, entry, text -/
def litKey : List (String × Nat × String) := [("ClassFileReader", 316, "<clinit>"), ("ClassFileReader", 318, "<init>"), ("ClassFileReader$Pair", 46, "<init>"), ("ClassFileReader", 237, "B"), ("ClassFileReader", 235, "C"), ("ClassFileReader$Field", 17, "ConstantValue"), ("ClassFileReader", 244, "D"), ("ClassFileReader$Holder", 19, "Deprecated"), ("ClassFileReader$Method", 18, "Exceptions"), ("ClassFileReader", 240, "F"), ("ClassFileReader", 228, "I"), ("ClassFileReader$Mirror", 54, "InnerClasses"), ("ClassFileReader", 242, "J"), ("ClassFileReader", 246, "Ljava/lang/String;"), ("ClassFileReader$Mirror", 64, "NestHost"), ("ClassFileReader$Mirror", 60, "NestMembers"), ("ClassFileReader$Mirror", 62, "PermittedSubclasses"), ("ClassFileReader$Mirror", 66, "Record"), ("ClassFileReader", 233, "S"), ("ClassFileReader$Holder", 13, "Signature"), ("ClassFileReader", 239, "Z")]
abbrev litN : Nat := 21
theorem cw_ok (c : Nat) (C : String) (T : u_T) (N : Nat) (h : clW[c]? = some (C, T, N)) : (∀ w ∈ u_ws C T N, w ∈ lw_all) ∧ (∀ a, a < N → ∀ b, b < N → a ≠ b → (T a).2.1 ≠ (T b).2.1) ∧ (lay c).length = N ∧ ∃ ty : Nat → FieldType, ∀ k, k < N → parseFieldDescriptor (T k).2.2.1 = some (ty k) := by
  match c, h with
  | 0, h => cases h; exact ⟨in_X0, nmX0, rfl, tyX0, tyX0_ok⟩
  | 1, h => cases h; exact ⟨in_X1, nmX1, rfl, tyX1, tyX1_ok⟩
  | 2, h => cases h; exact ⟨in_X3, nmX3, rfl, tyX3, tyX3_ok⟩
  | 3, h => cases h; exact ⟨in_X4, nmX4, rfl, tyX4, tyX4_ok⟩
  | 4, h => cases h; exact ⟨in_X5, nmX5, rfl, tyX5, tyX5_ok⟩
  | 5, h => cases h; exact ⟨in_X6, nmX6, rfl, tyX6, tyX6_ok⟩
  | 6, h => cases h; exact ⟨in_X8, nmX8, rfl, tyX8, tyX8_ok⟩
  | 7, h => cases h; exact ⟨in_X9, nmX9, rfl, tyX9, tyX9_ok⟩
  | 8, h => cases h; exact ⟨in_X10, nmX10, rfl, tyX10, tyX10_ok⟩
  | 9, h => cases h; exact ⟨in_X11, nmX11, rfl, tyX11, tyX11_ok⟩
  | 10, h => cases h; exact ⟨in_X12, nmX12, rfl, tyX12, tyX12_ok⟩
  | 11, h => cases h; exact ⟨in_X13, nmX13, rfl, tyX13, tyX13_ok⟩
  | 12, h => cases h; exact ⟨in_X14, nmX14, rfl, tyX14, tyX14_ok⟩
  | 13, h => cases h; exact ⟨in_X15, nmX15, rfl, tyX15, tyX15_ok⟩
  | 14, h => cases h; exact ⟨in_J2, nmJ2, rfl, tyJ2, tyJ2_ok⟩
  | 15, h => cases h; exact ⟨in_J1, nmJ1, rfl, tyJ1, tyJ1_ok⟩
  | c + 16, h => simp [clW] at h
end
section
set_option maxRecDepth 100000
/-- what is fixed through a run: class numbers, array classes, the heap at the law's start, the String constants' addresses and their arrays' -/
abbrev GT : Type := va_G × (Nat → ClassId) × Heap × (Nat → Nat) × (Nat → Nat)
def gz (G : GT) : Nat := G.2.2.1.size
def gK (G : GT) : Nat → Nat := G.2.2.2.1
def gV (G : GT) : Nat → Nat := G.2.2.2.2
def gA (G : GT) : Nat → Prop := fun q => gz G ≤ q
def fv (S : HS) (q : Nat × Nat) (a : Nat) : Value := match q.1 with
  | 0 => .int (hI S q.2 a)
  | 1 => .long (hL S q.2 a)
  | _ => cr (hR S q.2 a)
/-- the cell that stands for an address of a kind -/
def cE (G : GT) (S : HS) (c a : Nat) : va_E :=
  if c < 16 then .inr (c, (lay c).map (fun q => fv S q a))
  else if c = 17 then .inr (14, (lay 14).map (fun q => fv S q a))
  else if c = 102 then .inl (G.2.1 2, hN S a, .inr (.inr (.inr (.inr (fun k => (hP S a k).map (fun q => q.2.1))))))
  else if c = 101 then .inl (G.2.1 1, hN S a, .inl (hY S a))
  else .inl (G.2.1 0, hN S a, .inl (hA S a))
def litT (j : Nat) : List Int32 := litByt.getD j []
def litB (j k : Nat) : Int32 := (litByt.getD j []).getD k 0
def litL (j : Nat) : Nat := (litByt.getD j []).length
/-- kinds whose cells are read off the field heap -/
def wr (c : Nat) : Bool := (decide (c < 16) && decide (c ≠ 5) && decide (c ≠ 14)) || decide (c = 17) || decide (c = 100) || decide (c = 101) || decide (c = 102)
/-- a text: letters of seven bits, not too many -/
def tok (t : List Int32) : Prop := t.length < 1000 ∧ ∀ b ∈ t, 0 ≤ b ∧ b ≤ 127
/-- String.hashCode -/
def hsh (t : List Int32) : Int32 := t.foldl (fun h b => 31 * h + b) 0
/-- the monitor of the object at a is free -/
def MF (H : Heap) (a : Nat) : Prop := ∀ cell : Cell, H[a]? = some cell → cell.monitor.owner = none ∧ cell.monitor.count = 0
/-- what a kind says of the machine's heap -/
def KC (G : GT) (S : HS) (H : Heap) (a c : Nat) (t : List Int32) : Prop :=
  (wr c = true ∧ t = [] ∧ gz G ≤ a ∧ va_at G.1 clW (a, cE G S c a) H) ∨
  (c = 5 ∧ t = [] ∧ gz G ≤ a ∧ MF H a ∧ ∃ w : List Value, w.length = 6 ∧ (hI S 99 a = 0 → w = [.null, .null, .null, .null, .null, .int 0]) ∧ va_at G.1 clW (a, .inr (5, w ++ [.int (hI S 52 a), .int (hI S 53 a)])) H) ∨
  (c = 14 ∧ gz G ≤ a ∧ ∃ (v : Nat) (h z : Int32), va_at G.1 clW (a, .inr (14, [.ref v, .int 0, .int h, .int z])) H ∧ hC S v = some (104, t) ∧ (h ≠ 0 → h = hsh t) ∧ (z ≠ 0 → hsh t = 0)) ∨
  (c = 104 ∧ gz G ≤ a ∧ tok t ∧ va_at G.1 clW (a, .inl (G.2.1 1, t.length, .inl (fun k => t.getD k 0))) H) ∨
  (c = 16 ∧ ∃ j, j < litN ∧ a = gK G j ∧ t = litT j) ∨
  (c = 103 ∧ ∃ j, j < litN ∧ a = gV G j ∧ t = litT j)
/-- a reference that names a cell of its kind and text -/
def lvR (S : HS) (r : Rf) : Prop := match r with
  | none => True
  | some q => hC S q.2.1 = some (q.1, q.2.2)
def lv (S : HS) (v : AV) : Prop := match v with
  | .inr (.inr r) => lvR S r
  | _ => True
def lvS (S : HS) : List AV → Prop
  | [] => True
  | v :: st => lv S v ∧ lvS S st
def lvL (S : HS) (ls : List (Option AV)) : Prop := ∀ (i : Nat) (v : AV), ls[i]? = some (some v) → lv S v
def Mono (S S' : HS) : Prop := ∀ a x, hC S a = some x → hC S' a = some x
theorem Mono.rf {S : HS} : Mono S S := fun _ _ h => h
theorem Mono.tr {S S1 S2 : HS} (h : Mono S S1) (h' : Mono S1 S2) : Mono S S2 := fun a x hx => h' a x (h a x hx)
theorem lvR.mono {S S' : HS} (h : Mono S S') {r : Rf} (k : lvR S r) : lvR S' r := by
  cases r with
  | none => trivial
  | some q => exact h _ _ k
theorem lv.mono {S S' : HS} (h : Mono S S') {v : AV} (k : lv S v) : lv S' v := by
  match v, k with
  | .inl x, _ => trivial
  | .inr (.inl x), _ => trivial
  | .inr (.inr r), k => exact lvR.mono h k
theorem lvS.mono {S S' : HS} (h : Mono S S') : ∀ {st : List AV}, lvS S st → lvS S' st
  | [], _ => trivial
  | _ :: _, k => ⟨lv.mono h k.1, lvS.mono h k.2⟩
theorem lvL.mono {S S' : HS} (h : Mono S S') {ls : List (Option AV)} (k : lvL S ls) : lvL S' ls := fun i v e => lv.mono h (k i v e)
def Rep (G : GT) (S : HS) (H : Heap) : Prop :=
  H.size = hZ S ∧ gz G ≤ H.size ∧ (∀ q : Nat, q < gz G → H[q]? = G.2.2.1[q]?) ∧
  (∀ a c t, hC S a = some (c, t) → a < hZ S ∧ KC G S H a c t) ∧ (∀ f a, lvR S (hR S f a)) ∧ (∀ a k, lvR S (hP S a k)) ∧
  ∀ j, j < litN → hC S (gK G j) = some (16, litT j) ∧ hC S (gV G j) = some (103, litT j)
/-- the same data at an address -/
def SD (S S' : HS) (b : Nat) : Prop := (∀ f, hI S' f b = hI S f b) ∧ (∀ f, hL S' f b = hL S f b) ∧ (∀ f, hR S' f b = hR S f b) ∧ hN S' b = hN S b ∧ (∀ k, hA S' b k = hA S b k) ∧ (∀ k, hY S' b k = hY S b k) ∧ ∀ k, hP S' b k = hP S b k
theorem cE_same {G : GT} {S S' : HS} {b d : Nat} (h : SD S S' b) : cE G S' d b = cE G S d b := by
  obtain ⟨o1, o2, o3, o4, o5, o6, o7⟩ := h
  unfold cE
  have e3 : (fun q => fv S' q b) = (fun q => fv S q b) := by
    funext q
    unfold fv
    rw [o1, o2, o3]
  have e4 : hP S' b = hP S b := funext o7
  have e5 : hA S' b = hA S b := funext o5
  have e6 : hY S' b = hY S b := funext o6
  rw [e3, e4, e5, e6, o4]
theorem KC.kept {G : GT} {S S' : HS} {H H' : Heap} {b d : Nat} {u : List Int32} (hd : SD S S' b) (hq : H'[b]? = H[b]?) (hm : Mono S S') (h : KC G S H b d u) : KC G S' H' b d u := by
  rcases h with ⟨h1, h2, h3, h4⟩ | ⟨h1, h2, h3, hmf, w, h4, hw0, h5⟩ | ⟨h1, h2, v, x, z, h3, h4, h5⟩ | ⟨h1, h2, h3, h4⟩ | h | h
  · exact Or.inl ⟨h1, h2, h3, by rw [cE_same hd]; exact h4.kept hq⟩
  · exact Or.inr (Or.inl ⟨h1, h2, h3, fun cell hc => hmf cell (by rw [← hq]; exact hc), w, h4, by rw [hd.1]; exact hw0, by rw [hd.1, hd.1]; exact h5.kept hq⟩)
  · exact Or.inr (Or.inr (Or.inl ⟨h1, h2, v, x, z, h3.kept hq, hm _ _ h4, h5⟩))
  · exact Or.inr (Or.inr (Or.inr (Or.inl ⟨h1, h2, h3, h4.kept hq⟩)))
  · exact Or.inr (Or.inr (Or.inr (Or.inr (Or.inl h))))
  · exact Or.inr (Or.inr (Or.inr (Or.inr (Or.inr h))))
theorem Rep.kc {G : GT} {S : HS} {H : Heap} (h : Rep G S H) {a c : Nat} {t : List Int32} (hc : hC S a = some (c, t)) : KC G S H a c t := (h.2.2.2.1 a c t hc).2
theorem Rep.lt {G : GT} {S : HS} {H : Heap} (h : Rep G S H) {a : Nat} {x : Nat × List Int32} (hc : hC S a = some x) : a < hZ S := (h.2.2.2.1 a x.1 x.2 hc).1
theorem Rep.at {G : GT} {S : HS} {H : Heap} (h : Rep G S H) {a c : Nat} {t : List Int32} (hc : hC S a = some (c, t)) (hw : wr c = true) : t = [] ∧ gz G ≤ a ∧ va_at G.1 clW (a, cE G S c a) H := by
  rcases h.kc hc with ⟨-, h2, h3, h4⟩ | ⟨h1, -⟩ | ⟨h1, -⟩ | ⟨h1, -⟩ | ⟨h1, -⟩ | ⟨h1, -⟩
  · exact ⟨h2, h3, h4⟩
  all_goals (subst h1; cases hw)
/-- one cell has changed -/
theorem Rep.set {G : GT} {S S' : HS} {H H1 : Heap} (h : Rep G S H) {a c : Nat} {t : List Int32} (hc : hC S a = some (c, t)) (hz : gz G ≤ a) (hC' : ∀ b, hC S' b = hC S b) (hZ' : hZ S' = hZ S)
    (ho : ∀ b, b ≠ a → SD S S' b) (hR' : ∀ f, lvR S (hR S' f a)) (hP' : ∀ k, lvR S (hP S' a k))
    (hs : H1.size = H.size) (hq : ∀ q : Nat, q ≠ a → H1[q]? = H[q]?) (ha : KC G S' H1 a c t) : Rep G S' H1 := by
  obtain ⟨r1, r2, r3, r4, r5, r6, r7⟩ := h
  have hm : Mono S S' := fun b x hx => by rw [hC']; exact hx
  refine ⟨by rw [hs, r1, hZ'], by rw [hs]; exact r2, fun q hlt => by rw [hq q (by omega)]; exact r3 q hlt, fun b d u hd => ?_, fun f b => ?_, fun b k => ?_, fun j hj => ?_⟩
  · rw [hC'] at hd
    rw [hZ']
    refine ⟨(r4 b d u hd).1, ?_⟩
    by_cases e : b = a
    · subst e
      cases hc.symm.trans hd
      exact ha
    · exact (r4 b d u hd).2.kept (ho b e) (hq b e) hm
  · by_cases e : b = a
    · subst e
      exact (hR' f).mono hm
    · rw [(ho b e).2.2.1]
      exact (r5 f b).mono hm
  · by_cases e : b = a
    · subst e
      exact (hP' k).mono hm
    · rw [(ho b e).2.2.2.2.2.2]
      exact (r6 b k).mono hm
  · rw [hC', hC']
    exact r7 j hj
/-- a cell has been made -/
theorem Rep.push {G : GT} {S S' : HS} {H H1 : Heap} (h : Rep G S H) {c : Nat} (hC' : ∀ b, hC S' b = if b = hZ S then some (c, []) else hC S b) (hZ' : hZ S' = hZ S + 1)
    (ho : ∀ b, b ≠ hZ S → SD S S' b) (hR' : ∀ f, hR S' f (hZ S) = none ∨ hR S' f (hZ S) = hR S f (hZ S)) (hP' : ∀ k, hP S' (hZ S) k = none ∨ hP S' (hZ S) k = hP S (hZ S) k)
    (hs : H1.size = H.size + 1) (hq : ∀ q : Nat, q < H.size → H1[q]? = H[q]?) (ha : KC G S' H1 (hZ S) c []) : Rep G S' H1 ∧ Mono S S' := by
  have hm : Mono S S' := fun b x hx => by rw [hC', if_neg (by have := h.lt hx; omega)]; exact hx
  refine ⟨?_, hm⟩
  obtain ⟨r1, r2, r3, r4, r5, r6, r7⟩ := h
  refine ⟨by rw [hs, r1, hZ'], by omega, fun q hlt => by rw [hq q (by omega)]; exact r3 q hlt, fun b d u hd => ?_, fun f b => ?_, fun b k => ?_, fun j hj => ?_⟩
  · rw [hC'] at hd
    rw [hZ']
    by_cases e : b = hZ S
    · rw [if_pos e] at hd
      cases hd
      subst e
      exact ⟨by omega, ha⟩
    · rw [if_neg e] at hd
      have := r4 b d u hd
      exact ⟨by omega, this.2.kept (ho b e) (hq b (by omega)) hm⟩
  · by_cases e : b = hZ S
    · subst e
      rcases hR' f with z | z
      · rw [z]; trivial
      · rw [z]; exact (r5 f _).mono hm
    · rw [(ho b e).2.2.1]
      exact (r5 f b).mono hm
  · by_cases e : b = hZ S
    · subst e
      rcases hP' k with z | z
      · rw [z]; trivial
      · rw [z]; exact (r6 _ k).mono hm
    · rw [(ho b e).2.2.2.2.2.2]
      exact (r6 b k).mono hm
  · exact ⟨hm _ _ (r7 j hj).1, hm _ _ (r7 j hj).2⟩
/-- the words that ride beside the lists: a nest mate's links, castable, declares -/
def nw : Cond → Bool
  | .fieldLinkNest .. => true
  | .methodLinkNest .. => true
  | .castable .. => true
  | .declares _ => true
  | .privateMethod _ => true
  | _ => false
theorem va_Nw.warmP {x : MethodName} {s U : State} (hW : s.WarmedH U.vm) (hZ : va_Nw (.privateMethod x) s) : va_Nw (.privateMethod x) U := va_tabs rfl (rfl : (s.setVm U.vm).vm = U.vm) (by rw [Cond.privateMethod_setVm hW.alike]; exact hZ)
theorem va_Nw.warm {w : Cond} (hw : nw w = true) {s U : State} (hW : s.WarmedH U.vm) (h : va_Nw w s) : va_Nw w U := by
  cases w <;> first | exact va_Nw.warmF hW h | exact va_Nw.warmM hW h | exact va_Nw.warmC hW h | exact va_Nw.warmD hW h | exact va_Nw.warmP hW h | (exact absurd hw Bool.false_ne_true)
def tysW (G : GT) : List (ClassId × FieldType) := [(G.2.1 0, .int), (G.2.1 1, .byte), (G.2.1 2, .object "ClassFileReader$Entry")]
/-- pairs of classes that are not castable: an instanceof that fails -/
def ncW : List (String × String) := [("ClassFileReader$Text", "ClassFileReader$Named"), ("ClassFileReader$Text", "ClassFileReader$Pair"), ("ClassFileReader$Text", "ClassFileReader$Constant"), ("ClassFileReader$Constant", "ClassFileReader$Text"), ("ClassFileReader$Constant", "ClassFileReader$Named"), ("ClassFileReader$Constant", "ClassFileReader$Pair"), ("ClassFileReader$Named", "ClassFileReader$Text"), ("ClassFileReader$Named", "ClassFileReader$Constant"), ("ClassFileReader$Named", "ClassFileReader$Pair"), ("ClassFileReader$Pair", "ClassFileReader$Text"), ("ClassFileReader$Pair", "ClassFileReader$Constant"), ("ClassFileReader$Pair", "ClassFileReader$Named")]
/-- a static field is laid, whatever else has become of the heap -/
def va_LS (G : GT) (o f d : String) (U : State) : Prop := ∀ (args : Array Value) (s' : State), s'.vm = U.vm → (∀ q : Nat, q < gz G → s'.heap[q]? = G.2.2.1[q]?) → (Cond.laysStatic o f d).before args s' = true
theorem va_LS.moved {G : GT} {o f d : String} {u U : State} (hvm : u.vm.Alike U.vm) (h : va_LS G o f d u) : va_LS G o f d U := by
  intro args s' hv hq
  have h1 := Cond.laysStatic_setVm (s := s'.setVm u.vm) (vm' := U.vm) hvm (h args (s'.setVm u.vm) rfl hq)
  have e : (s'.setVm u.vm).setVm U.vm = s' := by rw [← hv]; rfl
  rw [e] at h1
  exact h1
/-- what the tables say, all through a run -/
def EnvT (G : GT) (U : State) : Prop :=
  va_K G.1 clW (tysW G) U ∧ (∀ w ∈ lw_tbl, nw w = true → va_Nw w U) ∧
  (∀ j, j < litN → va_O "java/lang/String" (gK G j) (gA G) U G.2.2.1 ∧ va_OF "java/lang/String" "coder" "B" (.int 0) (gK G j) (gA G) U G.2.2.1 ∧ va_OF "java/lang/String" "value" "[B" (.ref (gV G j)) (gK G j) (gA G) U G.2.2.1 ∧ va_T .byte (gV G j) (litL j) (fun k => .int (litB j k)) (gA G) U G.2.2.1 ∧
    ∀ q, litKey[j]? = some q → vk_R q.1 q.2.1 q.2.2 (gK G j) U) ∧
  va_Z "java/lang/String" "COMPACT_STRINGS" "Z" (.int 1) (gA G) U G.2.2.1 ∧
  va_Zq "java/lang/Throwable" "UNASSIGNED_STACK" "[Ljava/lang/StackTraceElement;" (gA G) U G.2.2.1 ∧
  va_Zq "java/lang/Throwable" "SUPPRESSED_SENTINEL" "Ljava/util/List;" (gA G) U G.2.2.1 ∧
  va_Zq "jdk/internal/util/Preconditions" "SIOOBE_FORMATTER" "Ljava/util/function/BiFunction;" (gA G) U G.2.2.1 ∧
  va_AO "ClassFileReader$Entry" U ∧ (∀ q ∈ ncW, va_Nc q.1 q.2 U) ∧ va_LS G "java/lang/Throwable" "UNASSIGNED_STACK" "[Ljava/lang/StackTraceElement;" U ∧ va_LS G "java/lang/Throwable" "SUPPRESSED_SENTINEL" "Ljava/util/List;" U
theorem EnvT.moved {G : GT} {s U : State} (hW : s.WarmedH U.vm) (h : EnvT G s) : EnvT G U := by
  obtain ⟨h1, h2, h3, h4, h5, h6, h7, h8, h9, h10, h11⟩ := h
  refine ⟨va_K.moved hW.alike h1, fun w hw hn => (h2 w hw hn).warm hn hW, fun j hj => ?_, h4.moved hW.alike, h5.moved hW.alike, h6.moved hW.alike, h7.moved hW.alike, h8.moved hW.alike, fun q hq => (h9 q hq).moved hW.alike, h10.moved hW.alike, h11.moved hW.alike⟩
  obtain ⟨k1, k2, k3, k4, k5⟩ := h3 j hj
  exact ⟨k1.moved hW.alike, k2.moved hW.alike, k3.moved hW.alike, k4.moved hW.alike, fun q hq => (k5 q hq).warm hW⟩
end
section
set_option maxRecDepth 100000
/-- an invocation: program, launch, environment, room, state, method, arguments, frames below, method's row, code; what is fixed; the heap at its start -/
abbrev Iv : Type := Program × Launch × Env × Room × State × MethodId × Array Value × List Frame × Method × Code × GT × HS
def rmD (d : Nat) (S : HS) : Room := { frames := d, cells := hB S, slots := hU S, locals := 64 * d }
def Cx : Iv → String → ByteArray → Nat → Option FieldType → Nat → List (Nat × Nat × Nat × Nat) → Bool → Prop
  | (p, l, e, R, s, m, args, below, meth, c, G, S0), own, cc, nL, ret, d, hs, ini =>
    p.tables.exec = Jvm.exec ∧ c.code = cc ∧ c.maxLocals = nL ∧ s.vm.findClass own = some m.cls ∧ (∀ w ∈ lw_all, w.before args s = true) ∧ EnvT G s ∧ meth.sig.returnType = ret ∧ meth.locks = false ∧ R = rmD d S0 ∧
      c.exceptionTable.toList = tableOf hs ∧ (ini = true → meth.name = "<init>") ∧ l.stackTraces = false ∧ Rep G S0 s.heap
/-- the locals -/
def LV (la : Array Slot) (ls : List (Option Value)) : Prop := la.size = ls.length ∧ lv_wf la ∧ ∀ (k : Nat) (v : Value), ls[k]? = some (some v) → la[k]? = some (Slot.val v)
def lc (ls : List (Option AV)) : List (Option Value) := ls.map (fun o => o.map cv)
/-- an end: a value or nothing is returned, or the Malformed at an address is thrown -/
abbrev OA : Type := Option AV ⊕ Nat
def co (o : OA) : Outcome := match o with
  | .inl v => .returned (v.map cv)
  | .inr a => .threw a
def lvO (S : HS) (o : OA) : Prop := match o with
  | .inl none => True
  | .inl (some v) => lv S v
  | .inr a => hC S a = some (5, [])
/-- between an invocation's start and a point of it -/
def Bs (G : GT) (S0 S : HS) (H : Heap) (locs : List Loc) : Prop := Rep G S H ∧ (∀ q ∈ locs, gz G ≤ q.base) ∧ hB S ≤ hB S0 ∧ hU S ≤ hU S0 ∧ Mono S0 S
/-- what a method's end says -/
def PostC {σ : Type} (ρ : σ → HS → Prop) (G : GT) (S0 : HS) (O : OA → σ → Prop) (st : State) (o : Outcome) (t : State) : Prop :=
  st.WarmedH t.vm ∧ ∃ (S' : HS) (x' : σ) (L : List Loc) (oa : OA), st.sameButNew ({ t with vm := st.vm } : State) L (hB S0 - hB S') (hU S0 - hU S') ∧ Bs G S0 S' t.heap L ∧ ρ x' S' ∧ o = co oa ∧ lvO S' oa ∧ O oa x'
def Fin' {σ : Type} (ρ : σ → HS → Prop) (below : List Frame) (G : GT) (S0 : HS) (O : OA → σ → Prop) (s : State) : State → Prop := fun t => ∃ o, t.status = .running ∧ Ended t below o ∧ PostC ρ G S0 O s o t
/-- from this point on the invocation comes to its end with O; x: the state in the words of ρ -/
def Y {σ : Type} (ρ : σ → HS → Prop) : Iv → (OA → σ → Prop) → Nat → List (Option AV) → List AV → σ → Prop
  | (p, l, e, R, s, m, args, below, meth, c, G, S0), O, pc, ls, st, x =>
    ∀ (S : HS) (H : Heap) (locs : List Loc) (la : Array Slot), ρ x S → Bs G S0 S H locs → LV la (lc ls) → lvL S ls → lvS S st →
      W p l e R s m args below meth c H locs (hB S0 - hB S) (hU S0 - hU S) (Fin' ρ below G S0 O s) (F0 m pc la (st.map cv))
theorem W.Qmono {p : Program} {l : Launch} {e : Env} {R : Room} {s : State} {m : MethodId} {args : Array Value} {below : List Frame} {meth : Method} {c : Code} {H : Heap} {locs : List Loc} {cells slots : Nat} {Q Q2 : State → Prop} {g : JFrame} (h : ∀ t, Q t → Q2 t)
    (k : W p l e R s m args below meth c H locs cells slots Q g) : W p l e R s m args below meth c H locs cells slots Q2 g := by
  intro T hT X
  obtain ⟨t, a, b⟩ := k T hT X
  exact ⟨t, a, h t b⟩
theorem va_rf_cat (r : Option Nat) : (va_rf r).category = 1 := by cases r <;> rfl
theorem cr_cat (r : Rf) : (cr r).category = 1 := va_rf_cat _
theorem lc_get {ls : List (Option AV)} {i : Nat} {v : AV} (h : ls[i]? = some (some v)) : (lc ls)[i]? = some (some (cv v)) := by
  unfold lc
  rw [List.getElem?_map, h]
  rfl
theorem lc_len (ls : List (Option AV)) : (lc ls).length = ls.length := List.length_map _
theorem lc_set (ls : List (Option AV)) (i : Nat) (v : AV) : lc (ls.set i (some v)) = (lc ls).set i (some (cv v)) := by
  unfold lc
  rw [List.map_set]
  rfl
theorem lc_set2 (ls : List (Option AV)) (i : Nat) (v : AV) : lc ((ls.set i (some v)).set (i + 1) none) = ((lc ls).set i (some (cv v))).set (i + 1) none := by
  unfold lc
  rw [List.map_set, List.map_set]
  rfl
theorem lvL.set {S : HS} {ls : List (Option AV)} {i : Nat} {v : AV} (h : lvL S ls) (hv : lv S v) : lvL S (ls.set i (some v)) := by
  intro j w hw
  rw [List.getElem?_set] at hw
  split at hw
  · split at hw
    · cases hw; exact hv
    · cases hw
  · exact h j w hw
theorem lvL.setN {S : HS} {ls : List (Option AV)} {i : Nat} (h : lvL S ls) : lvL S (ls.set i none) := by
  intro j w hw
  rw [List.getElem?_set] at hw
  split at hw
  · split at hw
    · cases hw
    · cases hw
  · exact h j w hw
/-- what stands ahead of a place is of one slot -/
def okp (ls : List (Option Value)) : Nat → Prop
  | 0 => True
  | j + 1 => match ls[j]? with
    | some (some w) => w.category = 1
    | _ => True
/-- the same, said of abstract values -/
def oka (ls : List (Option AV)) : Nat → Prop
  | 0 => True
  | j + 1 => match ls[j]? with
    | some (some (.inr (.inl _))) => False
    | _ => True
theorem oka.ok {ls : List (Option AV)} {i : Nat} (h : oka ls i) : okp (lc ls) i := by
  cases i with
  | zero => trivial
  | succ j =>
    simp only [okp, lc, List.getElem?_map]
    simp only [oka] at h
    cases hj : ls[j]? with
    | none => simp
    | some o =>
      cases o with
      | none => simp
      | some v =>
        rw [hj] at h
        match v, h with
        | .inl x, _ => simp [cv, Value.category]
        | .inr (.inr r), _ => simp [cv, cr_cat]
        | .inr (.inl x), h => exact False.elim h

def asl (ls : List (Option Value)) : List (Nat × Value) := (List.range ls.length).filterMap (fun k => match ls[k]? with
  | some (some v) => some (k, v)
  | _ => none)
theorem asl_mem {ls : List (Option Value)} {k : Nat} {v : Value} : (k, v) ∈ asl ls ↔ ls[k]? = some (some v) := by
  unfold asl
  rw [List.mem_filterMap]
  constructor
  · rintro ⟨a, -, ha⟩
    split at ha
    · rename_i w hw
      cases ha
      exact hw
    · cases ha
  · intro h
    refine ⟨k, List.mem_range.mpr (List.getElem?_eq_some_iff.mp h).1, ?_⟩
    rw [h]
theorem LV.has {la : Array Slot} {ls : List (Option Value)} (h : LV la ls) : lv_has la ls.length (asl ls) := ⟨h.1, h.2.1, fun q hq => h.2.2 q.1 q.2 (asl_mem.mp hq)⟩
theorem LV.st1 {la : Array Slot} {ls : List (Option Value)} {i : Nat} {v : Value} (hi : i < ls.length) (hp : okp ls i) (h : lv_has la ls.length ((i, v) :: (asl ls).filter (fun q => !(q.1 == i) && !(q.1 + 1 == i && q.2.category == 2)))) : LV la (ls.set i (some v)) := by
  refine ⟨by rw [List.length_set]; exact h.1, h.2.1, fun k w hk => ?_⟩
  by_cases e : k = i
  · subst e
    rw [List.getElem?_set_self hi] at hk
    cases hk
    exact h.2.2 (k, v) List.mem_cons_self
  · rw [List.getElem?_set_ne (Ne.symm e)] at hk
    refine h.2.2 (k, w) (List.mem_cons_of_mem _ (List.mem_filter.mpr ⟨asl_mem.mpr hk, ?_⟩))
    simp only [Bool.and_eq_true, Bool.not_eq_true', beq_eq_false_iff_ne, ne_eq, Bool.and_eq_false_iff]
    refine ⟨e, ?_⟩
    by_cases e2 : k + 1 = i
    · right
      subst e2
      simp only [okp, hk] at hp
      omega
    · exact Or.inl e2
theorem LV.st2 {la : Array Slot} {ls : List (Option Value)} {i : Nat} {v : Value} (hi : i + 1 < ls.length) (hp : okp ls i) (h : lv_has la ls.length ((i, v) :: (asl ls).filter (fun q => !(q.1 == i) && (!(q.1 == i + 1) && !(q.1 + 1 == i && q.2.category == 2))))) : LV la ((ls.set i (some v)).set (i + 1) none) := by
  refine ⟨by rw [List.length_set, List.length_set]; exact h.1, h.2.1, fun k w hk => ?_⟩
  by_cases e3 : k = i + 1
  · subst e3
    rw [List.getElem?_set_self (by rw [List.length_set]; exact hi)] at hk
    cases hk
  · rw [List.getElem?_set_ne (Ne.symm e3)] at hk
    by_cases e : k = i
    · subst e
      rw [List.getElem?_set_self (by omega)] at hk
      cases hk
      exact h.2.2 (k, v) List.mem_cons_self
    · rw [List.getElem?_set_ne (Ne.symm e)] at hk
      refine h.2.2 (k, w) (List.mem_cons_of_mem _ (List.mem_filter.mpr ⟨asl_mem.mpr hk, ?_⟩))
      simp only [Bool.and_eq_true, Bool.not_eq_true', beq_eq_false_iff_ne, ne_eq, Bool.and_eq_false_iff]
      refine ⟨e, e3, ?_⟩
      by_cases e2 : k + 1 = i
      · right
        subst e2
        simp only [okp, hk] at hp
        omega
      · exact Or.inl e2
section YR
variable {σ : Type} {ρ : σ → HS → Prop} {I : Iv} {own : String} {cc : ByteArray} {nL : Nat} {ret : Option FieldType} {d : Nat} {hs : List (Nat × Nat × Nat × Nat)} {ini : Bool} {O : OA → σ → Prop} {pc : Nat} {ls : List (Option AV)} {st : List AV} {x : σ}
theorem y_iconst {n : Int} {v : Int32} (cx : Cx I own cc nL ret d hs ini) (hd : decode cc pc = .ok (.iconst n, 1)) (hn : Int32.ofInt n = v) (k : Y ρ I O (pc + 1) ls (vI v :: st) x) : Y ρ I O pc ls (st) x := by
  obtain ⟨p, l, e, R, s, m, args, below, meth, c, G, S0⟩ := I
  obtain ⟨hx, hb, -⟩ := cx
  intro S H locs la hS hbs hv hw1 hw2
  exact lv_iconst hx hb hd hn (k S H locs la hS hbs hv hw1 ⟨trivial, hw2⟩)
theorem y_bipush {n : Int} {v : Int32} (cx : Cx I own cc nL ret d hs ini) (hd : decode cc pc = .ok (.bipush n, 2)) (hn : (Int8.ofInt n).toInt32 = v) (k : Y ρ I O (pc + 2) ls (vI v :: st) x) : Y ρ I O pc ls (st) x := by
  obtain ⟨p, l, e, R, s, m, args, below, meth, c, G, S0⟩ := I
  obtain ⟨hx, hb, -⟩ := cx
  intro S H locs la hS hbs hv hw1 hw2
  exact lv_bipush hx hb hd hn (k S H locs la hS hbs hv hw1 ⟨trivial, hw2⟩)
theorem y_sipush {n : Int} {v : Int32} (cx : Cx I own cc nL ret d hs ini) (hd : decode cc pc = .ok (.sipush n, 3)) (hn : (Int16.ofInt n).toInt32 = v) (k : Y ρ I O (pc + 3) ls (vI v :: st) x) : Y ρ I O pc ls (st) x := by
  obtain ⟨p, l, e, R, s, m, args, below, meth, c, G, S0⟩ := I
  obtain ⟨hx, hb, -⟩ := cx
  intro S H locs la hS hbs hv hw1 hw2
  exact lv_sipush hx hb hd hn (k S H locs la hS hbs hv hw1 ⟨trivial, hw2⟩)
theorem y_lconst {n : Fin 2} {v : Int64} (cx : Cx I own cc nL ret d hs ini) (hd : decode cc pc = .ok (.lconst n, 1)) (hn : Int64.ofNat (n : Nat) = v) (k : Y ρ I O (pc + 1) ls (vL v :: st) x) : Y ρ I O pc ls (st) x := by
  obtain ⟨p, l, e, R, s, m, args, below, meth, c, G, S0⟩ := I
  obtain ⟨hx, hb, -⟩ := cx
  intro S H locs la hS hbs hv hw1 hw2
  exact lv_lconst hx hb hd hn (k S H locs la hS hbs hv hw1 ⟨trivial, hw2⟩)
theorem y_null (cx : Cx I own cc nL ret d hs ini) (hd : decode cc pc = .ok (.aconst_null, 1)) (k : Y ρ I O (pc + 1) ls (vR none :: st) x) : Y ρ I O pc ls (st) x := by
  obtain ⟨p, l, e, R, s, m, args, below, meth, c, G, S0⟩ := I
  obtain ⟨hx, hb, -⟩ := cx
  intro S H locs la hS hbs hv hw1 hw2
  exact lv_null hx hb hd (k S H locs la hS hbs hv hw1 ⟨trivial, hw2⟩)
theorem y_iadd {x1 y1 : Int32} (cx : Cx I own cc nL ret d hs ini) (hd : decode cc pc = .ok (.iadd, 1)) (k : Y ρ I O (pc + 1) ls (vI (x1 + y1) :: st) x) : Y ρ I O pc ls (vI y1 :: vI x1 :: st) x := by
  obtain ⟨p, l, e, R, s, m, args, below, meth, c, G, S0⟩ := I
  obtain ⟨hx, hb, -⟩ := cx
  intro S H locs la hS hbs hv hw1 hw2
  exact lv_iadd hx hb hd (k S H locs la hS hbs hv hw1 ⟨trivial, hw2.2.2⟩)
theorem y_isub {x1 y1 : Int32} (cx : Cx I own cc nL ret d hs ini) (hd : decode cc pc = .ok (.isub, 1)) (k : Y ρ I O (pc + 1) ls (vI (x1 - y1) :: st) x) : Y ρ I O pc ls (vI y1 :: vI x1 :: st) x := by
  obtain ⟨p, l, e, R, s, m, args, below, meth, c, G, S0⟩ := I
  obtain ⟨hx, hb, -⟩ := cx
  intro S H locs la hS hbs hv hw1 hw2
  exact lv_isub hx hb hd (k S H locs la hS hbs hv hw1 ⟨trivial, hw2.2.2⟩)
theorem y_imul {x1 y1 : Int32} (cx : Cx I own cc nL ret d hs ini) (hd : decode cc pc = .ok (.imul, 1)) (k : Y ρ I O (pc + 1) ls (vI (x1 * y1) :: st) x) : Y ρ I O pc ls (vI y1 :: vI x1 :: st) x := by
  obtain ⟨p, l, e, R, s, m, args, below, meth, c, G, S0⟩ := I
  obtain ⟨hx, hb, -⟩ := cx
  intro S H locs la hS hbs hv hw1 hw2
  exact lv_imul hx hb hd (k S H locs la hS hbs hv hw1 ⟨trivial, hw2.2.2⟩)
theorem y_iand {x1 y1 : Int32} (cx : Cx I own cc nL ret d hs ini) (hd : decode cc pc = .ok (.iand, 1)) (k : Y ρ I O (pc + 1) ls (vI (x1 &&& y1) :: st) x) : Y ρ I O pc ls (vI y1 :: vI x1 :: st) x := by
  obtain ⟨p, l, e, R, s, m, args, below, meth, c, G, S0⟩ := I
  obtain ⟨hx, hb, -⟩ := cx
  intro S H locs la hS hbs hv hw1 hw2
  exact lv_iand hx hb hd (k S H locs la hS hbs hv hw1 ⟨trivial, hw2.2.2⟩)
theorem y_ior {x1 y1 : Int32} (cx : Cx I own cc nL ret d hs ini) (hd : decode cc pc = .ok (.ior, 1)) (k : Y ρ I O (pc + 1) ls (vI (x1 ||| y1) :: st) x) : Y ρ I O pc ls (vI y1 :: vI x1 :: st) x := by
  obtain ⟨p, l, e, R, s, m, args, below, meth, c, G, S0⟩ := I
  obtain ⟨hx, hb, -⟩ := cx
  intro S H locs la hS hbs hv hw1 hw2
  exact lv_ior hx hb hd (k S H locs la hS hbs hv hw1 ⟨trivial, hw2.2.2⟩)
theorem y_ishl {x1 y1 : Int32} (cx : Cx I own cc nL ret d hs ini) (hd : decode cc pc = .ok (.ishl, 1)) (k : Y ρ I O (pc + 1) ls (vI (x1 <<< (y1 &&& 31)) :: st) x) : Y ρ I O pc ls (vI y1 :: vI x1 :: st) x := by
  obtain ⟨p, l, e, R, s, m, args, below, meth, c, G, S0⟩ := I
  obtain ⟨hx, hb, -⟩ := cx
  intro S H locs la hS hbs hv hw1 hw2
  exact lv_ishl hx hb hd (k S H locs la hS hbs hv hw1 ⟨trivial, hw2.2.2⟩)
theorem y_ishr {x1 y1 : Int32} (cx : Cx I own cc nL ret d hs ini) (hd : decode cc pc = .ok (.ishr, 1)) (k : Y ρ I O (pc + 1) ls (vI (x1 >>> (y1 &&& 31)) :: st) x) : Y ρ I O pc ls (vI y1 :: vI x1 :: st) x := by
  obtain ⟨p, l, e, R, s, m, args, below, meth, c, G, S0⟩ := I
  obtain ⟨hx, hb, -⟩ := cx
  intro S H locs la hS hbs hv hw1 hw2
  exact lv_ishr hx hb hd (k S H locs la hS hbs hv hw1 ⟨trivial, hw2.2.2⟩)
theorem y_iushr {x1 y1 : Int32} (cx : Cx I own cc nL ret d hs ini) (hd : decode cc pc = .ok (.iushr, 1)) (k : Y ρ I O (pc + 1) ls (vI ((x1.toUInt32 >>> (y1.toUInt32 &&& Int32.toUInt32 31)).toInt32) :: st) x) : Y ρ I O pc ls (vI y1 :: vI x1 :: st) x := by
  obtain ⟨p, l, e, R, s, m, args, below, meth, c, G, S0⟩ := I
  obtain ⟨hx, hb, -⟩ := cx
  intro S H locs la hS hbs hv hw1 hw2
  exact lv_iushr hx hb hd rfl (k S H locs la hS hbs hv hw1 ⟨trivial, hw2.2.2⟩)
theorem y_irem {x1 y1 : Int32} (cx : Cx I own cc nL ret d hs ini) (hd : decode cc pc = .ok (.irem, 1)) (hne : ¬ y1 = 0) (k : Y ρ I O (pc + 1) ls (vI (x1 - x1 / y1 * y1) :: st) x) : Y ρ I O pc ls (vI y1 :: vI x1 :: st) x := by
  obtain ⟨p, l, e, R, s, m, args, below, meth, c, G, S0⟩ := I
  obtain ⟨hx, hb, -⟩ := cx
  intro S H locs la hS hbs hv hw1 hw2
  exact lv_irem hx hb hd hne (k S H locs la hS hbs hv hw1 ⟨trivial, hw2.2.2⟩)
theorem y_ineg {x1 : Int32} (cx : Cx I own cc nL ret d hs ini) (hd : decode cc pc = .ok (.ineg, 1)) (k : Y ρ I O (pc + 1) ls (vI (-x1) :: st) x) : Y ρ I O pc ls (vI x1 :: st) x := by
  obtain ⟨p, l, e, R, s, m, args, below, meth, c, G, S0⟩ := I
  obtain ⟨hx, hb, -⟩ := cx
  intro S H locs la hS hbs hv hw1 hw2
  exact lv_ineg hx hb hd (k S H locs la hS hbs hv hw1 ⟨trivial, hw2.2⟩)
theorem y_ladd {x1 y1 : Int64} (cx : Cx I own cc nL ret d hs ini) (hd : decode cc pc = .ok (.ladd, 1)) (k : Y ρ I O (pc + 1) ls (vL (x1 + y1) :: st) x) : Y ρ I O pc ls (vL y1 :: vL x1 :: st) x := by
  obtain ⟨p, l, e, R, s, m, args, below, meth, c, G, S0⟩ := I
  obtain ⟨hx, hb, -⟩ := cx
  intro S H locs la hS hbs hv hw1 hw2
  exact lv_ladd hx hb hd (k S H locs la hS hbs hv hw1 ⟨trivial, hw2.2.2⟩)
theorem y_lsub {x1 y1 : Int64} (cx : Cx I own cc nL ret d hs ini) (hd : decode cc pc = .ok (.lsub, 1)) (k : Y ρ I O (pc + 1) ls (vL (x1 - y1) :: st) x) : Y ρ I O pc ls (vL y1 :: vL x1 :: st) x := by
  obtain ⟨p, l, e, R, s, m, args, below, meth, c, G, S0⟩ := I
  obtain ⟨hx, hb, -⟩ := cx
  intro S H locs la hS hbs hv hw1 hw2
  exact lv_lsub hx hb hd (k S H locs la hS hbs hv hw1 ⟨trivial, hw2.2.2⟩)
theorem y_lmul {x1 y1 : Int64} (cx : Cx I own cc nL ret d hs ini) (hd : decode cc pc = .ok (.lmul, 1)) (k : Y ρ I O (pc + 1) ls (vL (x1 * y1) :: st) x) : Y ρ I O pc ls (vL y1 :: vL x1 :: st) x := by
  obtain ⟨p, l, e, R, s, m, args, below, meth, c, G, S0⟩ := I
  obtain ⟨hx, hb, -⟩ := cx
  intro S H locs la hS hbs hv hw1 hw2
  exact lv_lmul hx hb hd (k S H locs la hS hbs hv hw1 ⟨trivial, hw2.2.2⟩)
theorem y_land {x1 y1 : Int64} (cx : Cx I own cc nL ret d hs ini) (hd : decode cc pc = .ok (.land, 1)) (k : Y ρ I O (pc + 1) ls (vL (x1 &&& y1) :: st) x) : Y ρ I O pc ls (vL y1 :: vL x1 :: st) x := by
  obtain ⟨p, l, e, R, s, m, args, below, meth, c, G, S0⟩ := I
  obtain ⟨hx, hb, -⟩ := cx
  intro S H locs la hS hbs hv hw1 hw2
  exact lv_land hx hb hd (k S H locs la hS hbs hv hw1 ⟨trivial, hw2.2.2⟩)
theorem y_lor {x1 y1 : Int64} (cx : Cx I own cc nL ret d hs ini) (hd : decode cc pc = .ok (.lor, 1)) (k : Y ρ I O (pc + 1) ls (vL (x1 ||| y1) :: st) x) : Y ρ I O pc ls (vL y1 :: vL x1 :: st) x := by
  obtain ⟨p, l, e, R, s, m, args, below, meth, c, G, S0⟩ := I
  obtain ⟨hx, hb, -⟩ := cx
  intro S H locs la hS hbs hv hw1 hw2
  exact lv_lor hx hb hd (k S H locs la hS hbs hv hw1 ⟨trivial, hw2.2.2⟩)
theorem y_lshl {x1 : Int64} {y1 : Int32} (cx : Cx I own cc nL ret d hs ini) (hd : decode cc pc = .ok (.lshl, 1)) (k : Y ρ I O (pc + 1) ls (vL (x1 <<< (y1.toInt64 &&& 63)) :: st) x) : Y ρ I O pc ls (vI y1 :: vL x1 :: st) x := by
  obtain ⟨p, l, e, R, s, m, args, below, meth, c, G, S0⟩ := I
  obtain ⟨hx, hb, -⟩ := cx
  intro S H locs la hS hbs hv hw1 hw2
  exact lv_lshl hx hb hd rfl (k S H locs la hS hbs hv hw1 ⟨trivial, hw2.2.2⟩)
theorem y_lshr {x1 : Int64} {y1 : Int32} (cx : Cx I own cc nL ret d hs ini) (hd : decode cc pc = .ok (.lshr, 1)) (k : Y ρ I O (pc + 1) ls (vL (x1 >>> (y1.toInt64 &&& 63)) :: st) x) : Y ρ I O pc ls (vI y1 :: vL x1 :: st) x := by
  obtain ⟨p, l, e, R, s, m, args, below, meth, c, G, S0⟩ := I
  obtain ⟨hx, hb, -⟩ := cx
  intro S H locs la hS hbs hv hw1 hw2
  exact lv_lshr hx hb hd rfl (k S H locs la hS hbs hv hw1 ⟨trivial, hw2.2.2⟩)
theorem y_i2l {x1 : Int32} (cx : Cx I own cc nL ret d hs ini) (hd : decode cc pc = .ok (.i2l, 1)) (k : Y ρ I O (pc + 1) ls (vL x1.toInt64 :: st) x) : Y ρ I O pc ls (vI x1 :: st) x := by
  obtain ⟨p, l, e, R, s, m, args, below, meth, c, G, S0⟩ := I
  obtain ⟨hx, hb, -⟩ := cx
  intro S H locs la hS hbs hv hw1 hw2
  exact lv_i2l hx hb hd rfl (k S H locs la hS hbs hv hw1 ⟨trivial, hw2.2⟩)
theorem y_l2i {x1 : Int64} (cx : Cx I own cc nL ret d hs ini) (hd : decode cc pc = .ok (.l2i, 1)) (k : Y ρ I O (pc + 1) ls (vI x1.toInt32 :: st) x) : Y ρ I O pc ls (vL x1 :: st) x := by
  obtain ⟨p, l, e, R, s, m, args, below, meth, c, G, S0⟩ := I
  obtain ⟨hx, hb, -⟩ := cx
  intro S H locs la hS hbs hv hw1 hw2
  exact lv_l2i hx hb hd rfl (k S H locs la hS hbs hv hw1 ⟨trivial, hw2.2⟩)
theorem y_i2b {x1 : Int32} (cx : Cx I own cc nL ret d hs ini) (hd : decode cc pc = .ok (.i2b, 1)) (k : Y ρ I O (pc + 1) ls (vI x1.toInt8.toInt32 :: st) x) : Y ρ I O pc ls (vI x1 :: st) x := by
  obtain ⟨p, l, e, R, s, m, args, below, meth, c, G, S0⟩ := I
  obtain ⟨hx, hb, -⟩ := cx
  intro S H locs la hS hbs hv hw1 hw2
  exact lv_i2b hx hb hd rfl (k S H locs la hS hbs hv hw1 ⟨trivial, hw2.2⟩)
theorem y_i2c {x1 : Int32} (cx : Cx I own cc nL ret d hs ini) (hd : decode cc pc = .ok (.i2c, 1)) (k : Y ρ I O (pc + 1) ls (vI (x1.toUInt32 % 65536).toInt32 :: st) x) : Y ρ I O pc ls (vI x1 :: st) x := by
  obtain ⟨p, l, e, R, s, m, args, below, meth, c, G, S0⟩ := I
  obtain ⟨hx, hb, -⟩ := cx
  intro S H locs la hS hbs hv hw1 hw2
  exact lv_i2c hx hb hd rfl (k S H locs la hS hbs hv hw1 ⟨trivial, hw2.2⟩)
theorem y_lcmp {x1 y1 : Int64} (cx : Cx I own cc nL ret d hs ini) (hd : decode cc pc = .ok (.lcmp, 1)) (k : Y ρ I O (pc + 1) ls (vI (lg_cmp x1 y1) :: st) x) : Y ρ I O pc ls (vL y1 :: vL x1 :: st) x := by
  obtain ⟨p, l, e, R, s, m, args, below, meth, c, G, S0⟩ := I
  obtain ⟨hx, hb, -⟩ := cx
  intro S H locs la hS hbs hv hw1 hw2
  exact W.lcmp hx hb hd (k S H locs la hS hbs hv hw1 ⟨trivial, hw2.2.2⟩)
theorem y_dupi {x1 : Int32} (cx : Cx I own cc nL ret d hs ini) (hd : decode cc pc = .ok (.dup, 1)) (k : Y ρ I O (pc + 1) ls (vI x1 :: vI x1 :: st) x) : Y ρ I O pc ls (vI x1 :: st) x := by
  obtain ⟨p, l, e, R, s, m, args, below, meth, c, G, S0⟩ := I
  obtain ⟨hx, hb, -⟩ := cx
  intro S H locs la hS hbs hv hw1 hw2
  exact lv_dup hx hb hd rfl (k S H locs la hS hbs hv hw1 ⟨trivial, hw2⟩)
theorem y_dupr {x1 : Rf} (cx : Cx I own cc nL ret d hs ini) (hd : decode cc pc = .ok (.dup, 1)) (k : Y ρ I O (pc + 1) ls (vR x1 :: vR x1 :: st) x) : Y ρ I O pc ls (vR x1 :: st) x := by
  obtain ⟨p, l, e, R, s, m, args, below, meth, c, G, S0⟩ := I
  obtain ⟨hx, hb, -⟩ := cx
  intro S H locs la hS hbs hv hw1 hw2
  exact lv_dup hx hb hd (cr_cat x1) (k S H locs la hS hbs hv hw1 ⟨hw2.1, hw2⟩)
theorem y_popi {x1 : Int32} (cx : Cx I own cc nL ret d hs ini) (hd : decode cc pc = .ok (.pop, 1)) (k : Y ρ I O (pc + 1) ls (st) x) : Y ρ I O pc ls (vI x1 :: st) x := by
  obtain ⟨p, l, e, R, s, m, args, below, meth, c, G, S0⟩ := I
  obtain ⟨hx, hb, -⟩ := cx
  intro S H locs la hS hbs hv hw1 hw2
  exact lv_pop hx hb hd rfl (k S H locs la hS hbs hv hw1 hw2.2)
theorem y_popr {x1 : Rf} (cx : Cx I own cc nL ret d hs ini) (hd : decode cc pc = .ok (.pop, 1)) (k : Y ρ I O (pc + 1) ls (st) x) : Y ρ I O pc ls (vR x1 :: st) x := by
  obtain ⟨p, l, e, R, s, m, args, below, meth, c, G, S0⟩ := I
  obtain ⟨hx, hb, -⟩ := cx
  intro S H locs la hS hbs hv hw1 hw2
  exact lv_pop hx hb hd (cr_cat x1) (k S H locs la hS hbs hv hw1 hw2.2)
theorem y_dup_x1ir {x1 : Int32} {y1 : Rf} (cx : Cx I own cc nL ret d hs ini) (hd : decode cc pc = .ok (.dup_x1, 1)) (k : Y ρ I O (pc + 1) ls (vI x1 :: vR y1 :: vI x1 :: st) x) : Y ρ I O pc ls (vI x1 :: vR y1 :: st) x := by
  obtain ⟨p, l, e, R, s, m, args, below, meth, c, G, S0⟩ := I
  obtain ⟨hx, hb, -⟩ := cx
  intro S H locs la hS hbs hv hw1 hw2
  exact lv_dup_x1 hx hb hd rfl (cr_cat y1) (k S H locs la hS hbs hv hw1 ⟨trivial, hw2.2.1, trivial, hw2.2.2⟩)
theorem y_iload_n {x1 : Int32} {kf : Fin 4} (i : Nat) (cx : Cx I own cc nL ret d hs ini) (hd : decode cc pc = .ok (.iload_n kf, 1)) (hi : (kf : Nat) = i) (hg : ls[i]? = some (some (vI x1))) (k : Y ρ I O (pc + 1) ls (vI x1 :: st) x) : Y ρ I O pc ls st x := by
  obtain ⟨p, l, e, R, s, m, args, below, meth, c, G, S0⟩ := I
  obtain ⟨hx, hb, -⟩ := cx
  intro S H locs la hS hbs hv hw1 hw2
  have k := k S H locs la hS hbs hv hw1 ⟨hw1 i _ hg, hw2⟩
  have hg := hv.2.2 i _ (lc_get hg)
  exact lv_iload_n hx hb hd hi hg k
theorem y_iload {x1 : Int32} (i : Nat) (cx : Cx I own cc nL ret d hs ini) (hd : decode cc pc = .ok (.iload i, 2)) (hg : ls[i]? = some (some (vI x1))) (k : Y ρ I O (pc + 2) ls (vI x1 :: st) x) : Y ρ I O pc ls st x := by
  obtain ⟨p, l, e, R, s, m, args, below, meth, c, G, S0⟩ := I
  obtain ⟨hx, hb, -⟩ := cx
  intro S H locs la hS hbs hv hw1 hw2
  have k := k S H locs la hS hbs hv hw1 ⟨hw1 i _ hg, hw2⟩
  have hg := hv.2.2 i _ (lc_get hg)
  exact lv_iload hx hb hd hg k
theorem y_lload_n {x1 : Int64} {kf : Fin 4} (i : Nat) (cx : Cx I own cc nL ret d hs ini) (hd : decode cc pc = .ok (.lload_n kf, 1)) (hi : (kf : Nat) = i) (hg : ls[i]? = some (some (vL x1))) (k : Y ρ I O (pc + 1) ls (vL x1 :: st) x) : Y ρ I O pc ls st x := by
  obtain ⟨p, l, e, R, s, m, args, below, meth, c, G, S0⟩ := I
  obtain ⟨hx, hb, -⟩ := cx
  intro S H locs la hS hbs hv hw1 hw2
  have k := k S H locs la hS hbs hv hw1 ⟨hw1 i _ hg, hw2⟩
  have hg := hv.2.2 i _ (lc_get hg)
  exact lv_lload_n hx hb hd hi hg k
theorem y_lload {x1 : Int64} (i : Nat) (cx : Cx I own cc nL ret d hs ini) (hd : decode cc pc = .ok (.lload i, 2)) (hg : ls[i]? = some (some (vL x1))) (k : Y ρ I O (pc + 2) ls (vL x1 :: st) x) : Y ρ I O pc ls st x := by
  obtain ⟨p, l, e, R, s, m, args, below, meth, c, G, S0⟩ := I
  obtain ⟨hx, hb, -⟩ := cx
  intro S H locs la hS hbs hv hw1 hw2
  have k := k S H locs la hS hbs hv hw1 ⟨hw1 i _ hg, hw2⟩
  have hg := hv.2.2 i _ (lc_get hg)
  exact lv_lload hx hb hd hg k
theorem y_aload_n {x1 : Rf} {kf : Fin 4} (i : Nat) (cx : Cx I own cc nL ret d hs ini) (hd : decode cc pc = .ok (.aload_n kf, 1)) (hi : (kf : Nat) = i) (hg : ls[i]? = some (some (vR x1))) (k : Y ρ I O (pc + 1) ls (vR x1 :: st) x) : Y ρ I O pc ls st x := by
  obtain ⟨p, l, e, R, s, m, args, below, meth, c, G, S0⟩ := I
  obtain ⟨hx, hb, -⟩ := cx
  intro S H locs la hS hbs hv hw1 hw2
  have k := k S H locs la hS hbs hv hw1 ⟨hw1 i _ hg, hw2⟩
  have hg := hv.2.2 i _ (lc_get hg)
  cases x1 with
  | none => exact lv_aload_nN hx hb hd hi hg k
  | some a => exact lv_aload_n hx hb hd hi hg k
theorem y_aload {x1 : Rf} (i : Nat) (cx : Cx I own cc nL ret d hs ini) (hd : decode cc pc = .ok (.aload i, 2)) (hg : ls[i]? = some (some (vR x1))) (k : Y ρ I O (pc + 2) ls (vR x1 :: st) x) : Y ρ I O pc ls st x := by
  obtain ⟨p, l, e, R, s, m, args, below, meth, c, G, S0⟩ := I
  obtain ⟨hx, hb, -⟩ := cx
  intro S H locs la hS hbs hv hw1 hw2
  have k := k S H locs la hS hbs hv hw1 ⟨hw1 i _ hg, hw2⟩
  have hg := hv.2.2 i _ (lc_get hg)
  cases x1 with
  | none => exact lv_aloadN hx hb hd hg k
  | some a => exact lv_aload hx hb hd hg k
theorem y_istore_n {x1 : Int32} {kf : Fin 4} (i : Nat) (ls' : List (Option AV)) (cx : Cx I own cc nL ret d hs ini) (hd : decode cc pc = .ok (.istore_n kf, 1)) (hi : (kf : Nat) = i) (hlt : i < ls.length) (hp : oka ls i) (hls : ls.set i (some (vI x1)) = ls') (k : Y ρ I O (pc + 1) ls' st x) : Y ρ I O pc ls (vI x1 :: st) x := by
  subst hls
  obtain ⟨p, l, e, R, s, m, args, below, meth, c, G, S0⟩ := I
  obtain ⟨hx, hb, -⟩ := cx
  intro S H locs la hS hbs hv hw1 hw2
  have hh := hv.has
  rw [lc_len] at hh
  exact lv_istore_n hx hb hd hi hh hlt rfl (fun la' h' => k S H locs la' hS hbs (by rw [lc_set]; exact LV.st1 (by rw [lc_len]; exact hlt) hp.ok (by rw [lc_len]; exact h')) (hw1.set hw2.1) hw2.2)
theorem y_istore {x1 : Int32} (i : Nat) (ls' : List (Option AV)) (cx : Cx I own cc nL ret d hs ini) (hd : decode cc pc = .ok (.istore i, 2)) (hlt : i < ls.length) (hp : oka ls i) (hls : ls.set i (some (vI x1)) = ls') (k : Y ρ I O (pc + 2) ls' st x) : Y ρ I O pc ls (vI x1 :: st) x := by
  subst hls
  obtain ⟨p, l, e, R, s, m, args, below, meth, c, G, S0⟩ := I
  obtain ⟨hx, hb, -⟩ := cx
  intro S H locs la hS hbs hv hw1 hw2
  have hh := hv.has
  rw [lc_len] at hh
  exact lv_istore hx hb hd hh hlt rfl (fun la' h' => k S H locs la' hS hbs (by rw [lc_set]; exact LV.st1 (by rw [lc_len]; exact hlt) hp.ok (by rw [lc_len]; exact h')) (hw1.set hw2.1) hw2.2)
theorem y_lstore_n {x1 : Int64} {kf : Fin 4} (i : Nat) (ls' : List (Option AV)) (cx : Cx I own cc nL ret d hs ini) (hd : decode cc pc = .ok (.lstore_n kf, 1)) (hi : (kf : Nat) = i) (hlt : i + 1 < ls.length) (hp : oka ls i) (hls : (ls.set i (some (vL x1))).set (i + 1) none = ls') (k : Y ρ I O (pc + 1) ls' st x) : Y ρ I O pc ls (vL x1 :: st) x := by
  subst hls
  obtain ⟨p, l, e, R, s, m, args, below, meth, c, G, S0⟩ := I
  obtain ⟨hx, hb, -⟩ := cx
  intro S H locs la hS hbs hv hw1 hw2
  have hh := hv.has
  rw [lc_len] at hh
  exact lv_lstore_n hx hb hd hi hh hlt rfl (fun la' h' => k S H locs la' hS hbs (by rw [lc_set2]; exact LV.st2 (by rw [lc_len]; exact hlt) hp.ok (by rw [lc_len]; exact h')) ((hw1.set hw2.1).setN) hw2.2)
theorem y_lstore {x1 : Int64} (i : Nat) (ls' : List (Option AV)) (cx : Cx I own cc nL ret d hs ini) (hd : decode cc pc = .ok (.lstore i, 2)) (hlt : i + 1 < ls.length) (hp : oka ls i) (hls : (ls.set i (some (vL x1))).set (i + 1) none = ls') (k : Y ρ I O (pc + 2) ls' st x) : Y ρ I O pc ls (vL x1 :: st) x := by
  subst hls
  obtain ⟨p, l, e, R, s, m, args, below, meth, c, G, S0⟩ := I
  obtain ⟨hx, hb, -⟩ := cx
  intro S H locs la hS hbs hv hw1 hw2
  have hh := hv.has
  rw [lc_len] at hh
  exact lv_lstore hx hb hd hh hlt rfl (fun la' h' => k S H locs la' hS hbs (by rw [lc_set2]; exact LV.st2 (by rw [lc_len]; exact hlt) hp.ok (by rw [lc_len]; exact h')) ((hw1.set hw2.1).setN) hw2.2)
theorem y_astore_n {x1 : Rf} {kf : Fin 4} (i : Nat) (ls' : List (Option AV)) (cx : Cx I own cc nL ret d hs ini) (hd : decode cc pc = .ok (.astore_n kf, 1)) (hi : (kf : Nat) = i) (hlt : i < ls.length) (hp : oka ls i) (hls : ls.set i (some (vR x1)) = ls') (k : Y ρ I O (pc + 1) ls' st x) : Y ρ I O pc ls (vR x1 :: st) x := by
  subst hls
  obtain ⟨p, l, e, R, s, m, args, below, meth, c, G, S0⟩ := I
  obtain ⟨hx, hb, -⟩ := cx
  intro S H locs la hS hbs hv hw1 hw2
  have hh := hv.has
  rw [lc_len] at hh
  cases x1 with
  | none => exact lv_astore_nN hx hb hd hi hh hlt rfl (fun la' h' => k S H locs la' hS hbs (by rw [lc_set]; exact LV.st1 (by rw [lc_len]; exact hlt) hp.ok (by rw [lc_len]; exact h')) (hw1.set hw2.1) hw2.2)
  | some a => exact lv_astore_n hx hb hd hi hh hlt rfl (fun la' h' => k S H locs la' hS hbs (by rw [lc_set]; exact LV.st1 (by rw [lc_len]; exact hlt) hp.ok (by rw [lc_len]; exact h')) (hw1.set hw2.1) hw2.2)
theorem y_astore {x1 : Rf} (i : Nat) (ls' : List (Option AV)) (cx : Cx I own cc nL ret d hs ini) (hd : decode cc pc = .ok (.astore i, 2)) (hlt : i < ls.length) (hp : oka ls i) (hls : ls.set i (some (vR x1)) = ls') (k : Y ρ I O (pc + 2) ls' st x) : Y ρ I O pc ls (vR x1 :: st) x := by
  subst hls
  obtain ⟨p, l, e, R, s, m, args, below, meth, c, G, S0⟩ := I
  obtain ⟨hx, hb, -⟩ := cx
  intro S H locs la hS hbs hv hw1 hw2
  have hh := hv.has
  rw [lc_len] at hh
  cases x1 with
  | none => exact lv_astoreN hx hb hd hh hlt rfl (fun la' h' => k S H locs la' hS hbs (by rw [lc_set]; exact LV.st1 (by rw [lc_len]; exact hlt) hp.ok (by rw [lc_len]; exact h')) (hw1.set hw2.1) hw2.2)
  | some a => exact lv_astore hx hb hd hh hlt rfl (fun la' h' => k S H locs la' hS hbs (by rw [lc_set]; exact LV.st1 (by rw [lc_len]; exact hlt) hp.ok (by rw [lc_len]; exact h')) (hw1.set hw2.1) hw2.2)
theorem y_iinc {x1 v : Int32} {n : Int} (i : Nat) (ls' : List (Option AV)) (cx : Cx I own cc nL ret d hs ini) (hd : decode cc pc = .ok (.iinc i n, 3)) (hg : ls[i]? = some (some (vI x1))) (hn : Int32.ofInt n = v) (hp : oka ls i) (hls : ls.set i (some (vI (x1 + v))) = ls') (k : Y ρ I O (pc + 3) ls' st x) : Y ρ I O pc ls st x := by
  subst hls
  obtain ⟨p, l, e, R, s, m, args, below, meth, c, G, S0⟩ := I
  obtain ⟨hx, hb, -⟩ := cx
  intro S H locs la hS hbs hv hw1 hw2
  have hh := hv.has
  rw [lc_len] at hh
  have hlt : i < ls.length := (List.getElem?_eq_some_iff.mp hg).1
  obtain ⟨j, hj⟩ := List.getElem?_of_mem (asl_mem.mpr (lc_get hg))
  exact lv_iinc hx hb hd hh hj (by rw [hn]) hlt rfl (fun la' h' => k S H locs la' hS hbs (by rw [lc_set]; exact LV.st1 (by rw [lc_len]; exact hlt) hp.ok (by rw [lc_len]; exact h')) (hw1.set trivial) hw2)
/-- fewer locals known -/
def lsub : List (Option AV) → List (Option AV) → Prop
  | [], [] => True
  | none :: a, _ :: b => lsub a b
  | some v :: a, w :: b => w = some v ∧ lsub a b
  | _, _ => False
theorem lsub.len : ∀ {a b : List (Option AV)}, lsub a b → a.length = b.length
  | [], [], _ => rfl
  | none :: a, _ :: b, h => by rw [List.length_cons, List.length_cons, lsub.len (a := a) (b := b) h]
  | some v :: a, w :: b, h => by rw [List.length_cons, List.length_cons, lsub.len (a := a) (b := b) h.2]
theorem lsub.get : ∀ {a b : List (Option AV)}, lsub a b → ∀ (k : Nat) (v : AV), a[k]? = some (some v) → b[k]? = some (some v)
  | [], [], _, k, v, h => by simp at h
  | none :: a, w :: b, h, 0, v, e => by simp at e
  | none :: a, w :: b, h, k + 1, v, e => by
    rw [List.getElem?_cons_succ] at e ⊢
    exact lsub.get (a := a) (b := b) h k v e
  | some u :: a, w :: b, h, 0, v, e => by
    rw [List.getElem?_cons_zero] at e ⊢
    cases e
    rw [h.1]
  | some u :: a, w :: b, h, k + 1, v, e => by
    rw [List.getElem?_cons_succ] at e ⊢
    exact lsub.get (a := a) (b := b) h.2 k v e
theorem y_less (ls' : List (Option AV)) (h : lsub ls' ls) (k : Y ρ I O pc ls' st x) : Y ρ I O pc ls st x := by
  obtain ⟨p, l, e, R, s, m, args, below, meth, c, G, S0⟩ := I
  intro S H locs la hS hbs hv hw1 hw2
  refine k S H locs la hS hbs ⟨by rw [lc_len, h.len, ← lc_len]; exact hv.1, hv.2.1, fun j v hj => ?_⟩ (fun i v e => hw1 i v (h.get i v e)) hw2
  unfold lc at hj
  rw [List.getElem?_map] at hj
  cases hjj : ls'[j]? with
  | none => rw [hjj] at hj; cases hj
  | some w =>
    rw [hjj] at hj
    cases w with
    | none => cases hj
    | some u =>
      cases hj
      exact hv.2.2 j _ (lc_get (h.get j u hjj))
theorem y_goto {off : Int} (tgt : Nat) (cx : Cx I own cc nL ret d hs ini) (hd : decode cc pc = .ok (.goto off, 3)) (ht : (pc : Int) + off = (tgt : Int)) (k : Y ρ I O tgt ls st x) : Y ρ I O pc ls st x := by
  obtain ⟨p, l, e, R, s, m, args, below, meth, c, G, S0⟩ := I
  obtain ⟨hx, hb, -⟩ := cx
  intro S H locs la hS hbs hv hw1 hw2
  exact lv_goto hx hb hd ht (k S H locs la hS hbs hv hw1 hw2)
theorem y_if_eq {x1 : Int32} {off : Int} (tgt : Nat) (cx : Cx I own cc nL ret d hs ini) (hd : decode cc pc = .ok (.ifCond .eq off, 3)) (ht : (pc : Int) + off = (tgt : Int)) (kt : x1 = 0 → Y ρ I O tgt ls st x) (kf : ¬ x1 = 0 → Y ρ I O (pc + 3) ls st x) : Y ρ I O pc ls (vI x1 :: st) x := by
  obtain ⟨p, l, e, R, s, m, args, below, meth, c, G, S0⟩ := I
  obtain ⟨hx, hb, -⟩ := cx
  intro S H locs la hS hbs hv hw1 hw2
  exact lv_if_eq hx hb hd ht (fun z => kt z S H locs la hS hbs hv hw1 hw2.2) (fun z => kf z S H locs la hS hbs hv hw1 hw2.2)
theorem y_icmp_eq {x1 y1 : Int32} {off : Int} (tgt : Nat) (cx : Cx I own cc nL ret d hs ini) (hd : decode cc pc = .ok (.if_icmp .eq off, 3)) (ht : (pc : Int) + off = (tgt : Int)) (kt : x1 = y1 → Y ρ I O tgt ls st x) (kf : ¬ x1 = y1 → Y ρ I O (pc + 3) ls st x) : Y ρ I O pc ls (vI y1 :: vI x1 :: st) x := by
  obtain ⟨p, l, e, R, s, m, args, below, meth, c, G, S0⟩ := I
  obtain ⟨hx, hb, -⟩ := cx
  intro S H locs la hS hbs hv hw1 hw2
  exact lv_icmp_eq hx hb hd ht (fun z => kt z S H locs la hS hbs hv hw1 hw2.2.2) (fun z => kf z S H locs la hS hbs hv hw1 hw2.2.2)
theorem y_if_lt {x1 : Int32} {off : Int} (tgt : Nat) (cx : Cx I own cc nL ret d hs ini) (hd : decode cc pc = .ok (.ifCond .lt off, 3)) (ht : (pc : Int) + off = (tgt : Int)) (kt : x1 < 0 → Y ρ I O tgt ls st x) (kf : ¬ x1 < 0 → Y ρ I O (pc + 3) ls st x) : Y ρ I O pc ls (vI x1 :: st) x := by
  obtain ⟨p, l, e, R, s, m, args, below, meth, c, G, S0⟩ := I
  obtain ⟨hx, hb, -⟩ := cx
  intro S H locs la hS hbs hv hw1 hw2
  exact lv_if_lt hx hb hd ht (fun z => kt z S H locs la hS hbs hv hw1 hw2.2) (fun z => kf z S H locs la hS hbs hv hw1 hw2.2)
theorem y_icmp_lt {x1 y1 : Int32} {off : Int} (tgt : Nat) (cx : Cx I own cc nL ret d hs ini) (hd : decode cc pc = .ok (.if_icmp .lt off, 3)) (ht : (pc : Int) + off = (tgt : Int)) (kt : x1 < y1 → Y ρ I O tgt ls st x) (kf : ¬ x1 < y1 → Y ρ I O (pc + 3) ls st x) : Y ρ I O pc ls (vI y1 :: vI x1 :: st) x := by
  obtain ⟨p, l, e, R, s, m, args, below, meth, c, G, S0⟩ := I
  obtain ⟨hx, hb, -⟩ := cx
  intro S H locs la hS hbs hv hw1 hw2
  exact lv_icmp_lt hx hb hd ht (fun z => kt z S H locs la hS hbs hv hw1 hw2.2.2) (fun z => kf z S H locs la hS hbs hv hw1 hw2.2.2)
theorem y_if_ge {x1 : Int32} {off : Int} (tgt : Nat) (cx : Cx I own cc nL ret d hs ini) (hd : decode cc pc = .ok (.ifCond .ge off, 3)) (ht : (pc : Int) + off = (tgt : Int)) (kt : 0 ≤ x1 → Y ρ I O tgt ls st x) (kf : ¬ 0 ≤ x1 → Y ρ I O (pc + 3) ls st x) : Y ρ I O pc ls (vI x1 :: st) x := by
  obtain ⟨p, l, e, R, s, m, args, below, meth, c, G, S0⟩ := I
  obtain ⟨hx, hb, -⟩ := cx
  intro S H locs la hS hbs hv hw1 hw2
  exact lv_if_ge hx hb hd ht (fun z => kt z S H locs la hS hbs hv hw1 hw2.2) (fun z => kf z S H locs la hS hbs hv hw1 hw2.2)
theorem y_icmp_ge {x1 y1 : Int32} {off : Int} (tgt : Nat) (cx : Cx I own cc nL ret d hs ini) (hd : decode cc pc = .ok (.if_icmp .ge off, 3)) (ht : (pc : Int) + off = (tgt : Int)) (kt : y1 ≤ x1 → Y ρ I O tgt ls st x) (kf : ¬ y1 ≤ x1 → Y ρ I O (pc + 3) ls st x) : Y ρ I O pc ls (vI y1 :: vI x1 :: st) x := by
  obtain ⟨p, l, e, R, s, m, args, below, meth, c, G, S0⟩ := I
  obtain ⟨hx, hb, -⟩ := cx
  intro S H locs la hS hbs hv hw1 hw2
  exact lv_icmp_ge hx hb hd ht (fun z => kt z S H locs la hS hbs hv hw1 hw2.2.2) (fun z => kf z S H locs la hS hbs hv hw1 hw2.2.2)
theorem y_if_gt {x1 : Int32} {off : Int} (tgt : Nat) (cx : Cx I own cc nL ret d hs ini) (hd : decode cc pc = .ok (.ifCond .gt off, 3)) (ht : (pc : Int) + off = (tgt : Int)) (kt : 0 < x1 → Y ρ I O tgt ls st x) (kf : ¬ 0 < x1 → Y ρ I O (pc + 3) ls st x) : Y ρ I O pc ls (vI x1 :: st) x := by
  obtain ⟨p, l, e, R, s, m, args, below, meth, c, G, S0⟩ := I
  obtain ⟨hx, hb, -⟩ := cx
  intro S H locs la hS hbs hv hw1 hw2
  exact lv_if_gt hx hb hd ht (fun z => kt z S H locs la hS hbs hv hw1 hw2.2) (fun z => kf z S H locs la hS hbs hv hw1 hw2.2)
theorem y_icmp_gt {x1 y1 : Int32} {off : Int} (tgt : Nat) (cx : Cx I own cc nL ret d hs ini) (hd : decode cc pc = .ok (.if_icmp .gt off, 3)) (ht : (pc : Int) + off = (tgt : Int)) (kt : y1 < x1 → Y ρ I O tgt ls st x) (kf : ¬ y1 < x1 → Y ρ I O (pc + 3) ls st x) : Y ρ I O pc ls (vI y1 :: vI x1 :: st) x := by
  obtain ⟨p, l, e, R, s, m, args, below, meth, c, G, S0⟩ := I
  obtain ⟨hx, hb, -⟩ := cx
  intro S H locs la hS hbs hv hw1 hw2
  exact lv_icmp_gt hx hb hd ht (fun z => kt z S H locs la hS hbs hv hw1 hw2.2.2) (fun z => kf z S H locs la hS hbs hv hw1 hw2.2.2)
theorem y_if_le {x1 : Int32} {off : Int} (tgt : Nat) (cx : Cx I own cc nL ret d hs ini) (hd : decode cc pc = .ok (.ifCond .le off, 3)) (ht : (pc : Int) + off = (tgt : Int)) (kt : x1 ≤ 0 → Y ρ I O tgt ls st x) (kf : ¬ x1 ≤ 0 → Y ρ I O (pc + 3) ls st x) : Y ρ I O pc ls (vI x1 :: st) x := by
  obtain ⟨p, l, e, R, s, m, args, below, meth, c, G, S0⟩ := I
  obtain ⟨hx, hb, -⟩ := cx
  intro S H locs la hS hbs hv hw1 hw2
  exact lv_if_le hx hb hd ht (fun z => kt z S H locs la hS hbs hv hw1 hw2.2) (fun z => kf z S H locs la hS hbs hv hw1 hw2.2)
theorem y_icmp_le {x1 y1 : Int32} {off : Int} (tgt : Nat) (cx : Cx I own cc nL ret d hs ini) (hd : decode cc pc = .ok (.if_icmp .le off, 3)) (ht : (pc : Int) + off = (tgt : Int)) (kt : x1 ≤ y1 → Y ρ I O tgt ls st x) (kf : ¬ x1 ≤ y1 → Y ρ I O (pc + 3) ls st x) : Y ρ I O pc ls (vI y1 :: vI x1 :: st) x := by
  obtain ⟨p, l, e, R, s, m, args, below, meth, c, G, S0⟩ := I
  obtain ⟨hx, hb, -⟩ := cx
  intro S H locs la hS hbs hv hw1 hw2
  exact lv_icmp_le hx hb hd ht (fun z => kt z S H locs la hS hbs hv hw1 hw2.2.2) (fun z => kf z S H locs la hS hbs hv hw1 hw2.2.2)
theorem y_if_ne {x1 : Int32} {off : Int} (tgt : Nat) (cx : Cx I own cc nL ret d hs ini) (hd : decode cc pc = .ok (.ifCond .ne off, 3)) (ht : (pc : Int) + off = (tgt : Int)) (kt : ¬ x1 = 0 → Y ρ I O tgt ls st x) (kf : x1 = 0 → Y ρ I O (pc + 3) ls st x) : Y ρ I O pc ls (vI x1 :: st) x := by
  obtain ⟨p, l, e, R, s, m, args, below, meth, c, G, S0⟩ := I
  obtain ⟨hx, hb, -⟩ := cx
  intro S H locs la hS hbs hv hw1 hw2
  exact lv_if_ne hx hb hd ht (fun z => kt z S H locs la hS hbs hv hw1 hw2.2) (fun z => kf z S H locs la hS hbs hv hw1 hw2.2)
theorem y_icmp_ne {x1 y1 : Int32} {off : Int} (tgt : Nat) (cx : Cx I own cc nL ret d hs ini) (hd : decode cc pc = .ok (.if_icmp .ne off, 3)) (ht : (pc : Int) + off = (tgt : Int)) (kt : ¬ x1 = y1 → Y ρ I O tgt ls st x) (kf : x1 = y1 → Y ρ I O (pc + 3) ls st x) : Y ρ I O pc ls (vI y1 :: vI x1 :: st) x := by
  obtain ⟨p, l, e, R, s, m, args, below, meth, c, G, S0⟩ := I
  obtain ⟨hx, hb, -⟩ := cx
  intro S H locs la hS hbs hv hw1 hw2
  exact lv_icmp_ne hx hb hd ht (fun z => kt z S H locs la hS hbs hv hw1 hw2.2.2) (fun z => kf z S H locs la hS hbs hv hw1 hw2.2.2)
theorem y_ifnull {x1 : Rf} {off : Int} (tgt : Nat) (cx : Cx I own cc nL ret d hs ini) (hd : decode cc pc = .ok (.ifnull off, 3)) (ht : (pc : Int) + off = (tgt : Int)) (kt : x1 = none → Y ρ I O tgt ls st x) (kf : ¬ x1 = none → Y ρ I O (pc + 3) ls st x) : Y ρ I O pc ls (vR x1 :: st) x := by
  obtain ⟨p, l, e, R, s, m, args, below, meth, c, G, S0⟩ := I
  obtain ⟨hx, hb, -⟩ := cx
  intro S H locs la hS hbs hv hw1 hw2
  cases x1 with
  | none => exact lv_ifnullN hx hb hd ht (kt rfl S H locs la hS hbs hv hw1 hw2.2)
  | some a => exact lv_ifnull hx hb hd (kf (fun z => by cases z) S H locs la hS hbs hv hw1 hw2.2)
theorem y_ifnonnull {x1 : Rf} {off : Int} (tgt : Nat) (cx : Cx I own cc nL ret d hs ini) (hd : decode cc pc = .ok (.ifnonnull off, 3)) (ht : (pc : Int) + off = (tgt : Int)) (kt : ¬ x1 = none → Y ρ I O tgt ls st x) (kf : x1 = none → Y ρ I O (pc + 3) ls st x) : Y ρ I O pc ls (vR x1 :: st) x := by
  obtain ⟨p, l, e, R, s, m, args, below, meth, c, G, S0⟩ := I
  obtain ⟨hx, hb, -⟩ := cx
  intro S H locs la hS hbs hv hw1 hw2
  cases x1 with
  | none => exact lv_ifnonnullN hx hb hd (kf rfl S H locs la hS hbs hv hw1 hw2.2)
  | some a => exact lv_ifnonnull hx hb hd ht (kt (fun z => by cases z) S H locs la hS hbs hv hw1 hw2.2)
theorem y_acmp_ne {c1 a1 c2 a2 : Nat} {t1 t2 : List Int32} {off : Int} (tgt : Nat) (cx : Cx I own cc nL ret d hs ini) (hd : decode cc pc = .ok (.if_acmp .ne off, 3)) (ht : (pc : Int) + off = (tgt : Int)) (kt : ¬ a1 = a2 → Y ρ I O tgt ls st x) (kf : a1 = a2 → t1 = t2 → Y ρ I O (pc + 3) ls st x) : Y ρ I O pc ls (vR (some (c2, a2, t2)) :: vR (some (c1, a1, t1)) :: st) x := by
  obtain ⟨p, l, e, R, s, m, args, below, meth, c, G, S0⟩ := I
  obtain ⟨hx, hb, -⟩ := cx
  intro S H locs la hS hbs hv hw1 hw2
  refine lv_acmp_ne (rx := some a1) (ry := some a2) hx hb hd ht (fun z => kt (fun y => z (by rw [y])) S H locs la hS hbs hv hw1 hw2.2.2) (fun z => ?_)
  have z : a1 = a2 := Option.some.inj z
  refine kf z ?_ S H locs la hS hbs hv hw1 hw2.2.2
  subst z
  have e1 : hC S a1 = some (c2, t2) := hw2.1
  have e2 : hC S a1 = some (c1, t1) := hw2.2.1
  rw [e1] at e2
  cases e2
  rfl
/-- a switch, case by case -/
def SW (x : Int32) (K : Nat → Prop) : List (Int32 × Nat) → Nat → Prop
  | [], dt => K dt
  | q :: r, dt => (x = q.1 → K q.2) ∧ (¬ x = q.1 → SW x K r dt)
theorem SW.look {x : Int32} {K : Nat → Prop} {pc dt : Nat} {dflt : Int} (hdt : (pc : Int) + dflt = (dt : Int)) : ∀ (ps : List (Int × Int)) (cs : List (Int32 × Nat)), ps.map (fun q => (q.1, (pc : Int) + q.2)) = cs.map (fun q => (q.1.toInt, (q.2 : Int))) → SW x K cs dt →
    ∃ (off : Int) (tgt : Nat), Op.lookupswitch.offset ps dflt x.toInt = off ∧ (pc : Int) + off = (tgt : Int) ∧ K tgt
  | [], [], _, h => ⟨dflt, dt, rfl, hdt, h⟩
  | [], c :: cs, he, _ => by simp at he
  | q :: ps, [], he, _ => by simp at he
  | q :: ps, c :: cs, he, h => by
    simp only [List.map_cons, List.cons.injEq, Prod.mk.injEq] at he
    obtain ⟨⟨e1, e2⟩, e3⟩ := he
    obtain ⟨qa, qb⟩ := q
    by_cases hx : x = c.1
    · refine ⟨qb, c.2, ?_, e2, h.1 hx⟩
      rw [Op.lookupswitch.offset_cons, if_pos (by rw [hx]; exact e1)]
    · obtain ⟨off, tgt, h1, h2, h3⟩ := SW.look hdt ps cs e3 (h.2 hx)
      refine ⟨off, tgt, ?_, h2, h3⟩
      rw [lv_osw hx e1.symm]
      exact h1
theorem y_lsw {x1 : Int32} {dflt : Int} {ps : Array (Int × Int)} {len : Nat} (cs : List (Int32 × Nat)) (dt : Nat) (cx : Cx I own cc nL ret d hs ini) (hd : decode cc pc = .ok (.lookupswitch dflt ps, len)) (hp : (ps.toList.zip (ps.toList.drop 1)).all (fun (a, next) => a.1 < next.1) = true) (hc : ps.toList.map (fun q => (q.1, (pc : Int) + q.2)) = cs.map (fun q => (q.1.toInt, (q.2 : Int)))) (hdt : (pc : Int) + dflt = (dt : Int))
    (k : SW x1 (fun t => Y ρ I O t ls st x) cs dt) : Y ρ I O pc ls (vI x1 :: st) x := by
  obtain ⟨off, tgt, h1, h2, h3⟩ := SW.look hdt ps.toList cs hc k
  obtain ⟨p, l, e, R, s, m, args, below, meth, c, G, S0⟩ := I
  obtain ⟨hx, hb, -⟩ := cx
  intro S H locs la hS hbs hv hw1 hw2
  exact lv_lookup hx hb hd hp h1 h2 (h3 S H locs la hS hbs hv hw1 hw2.2)
theorem SW.tab {x : Int32} {K : Nat → Prop} {pc dt : Nat} : ∀ (offs : List Int) (lo : Int) (cs : List (Int32 × Nat)), cs.map (fun q => (q.1.toInt, (q.2 : Int))) = offs.mapIdx (fun i o => (lo + (i : Int), (pc : Int) + o)) → SW x K cs dt →
    (∃ (off : Int) (tgt : Nat), lo ≤ x.toInt ∧ offs[(x.toInt - lo).toNat]? = some off ∧ (pc : Int) + off = (tgt : Int) ∧ K tgt) ∨ ((x.toInt < lo ∨ lo + offs.length ≤ x.toInt) ∧ K dt)
  | [], lo, [], _, h => Or.inr ⟨by simp; omega, h⟩
  | [], lo, c :: cs, he, _ => by simp at he
  | o :: offs, lo, [], he, _ => by simp at he
  | o :: offs, lo, c :: cs, he, h => by
    rw [List.mapIdx_cons] at he
    simp only [List.map_cons, List.cons.injEq, Prod.mk.injEq] at he
    obtain ⟨⟨e1, e2⟩, e3⟩ := he
    by_cases hx : x = c.1
    · refine Or.inl ⟨o, c.2, by rw [hx, e1]; simp, ?_, e2.symm, h.1 hx⟩
      have : (x.toInt - lo).toNat = 0 := by rw [hx, e1]; simp
      rw [this]; rfl
    · have hne : x.toInt ≠ lo := fun z => hx (Int32.toInt_inj.mp (by rw [z, e1]; simp))
      rcases SW.tab offs (lo + 1) cs (by rw [e3]; congr 1; funext i o; congr 1; omega) (h.2 hx) with ⟨off, tgt, a0, a1, a2, a3⟩ | ⟨a1, a2⟩
      · refine Or.inl ⟨off, tgt, by omega, ?_, a2, a3⟩
        have : (x.toInt - lo).toNat = (x.toInt - (lo + 1)).toNat + 1 := by omega
        rw [this, List.getElem?_cons_succ]
        exact a1
      · refine Or.inr ⟨?_, a2⟩
        rw [List.length_cons]
        omega
theorem y_tsw {x1 : Int32} {dflt lo hi : Int} {offs : Array Int} {len : Nat} (cs : List (Int32 × Nat)) (dt : Nat) (cx : Cx I own cc nL ret d hs ini) (hd : decode cc pc = .ok (.tableswitch dflt lo hi offs, len)) (hc : cs.map (fun q => (q.1.toInt, (q.2 : Int))) = offs.toList.mapIdx (fun i o => (lo + (i : Int), (pc : Int) + o))) (hh : lo + offs.toList.length = hi + 1) (hdt : (pc : Int) + dflt = (dt : Int))
    (k : SW x1 (fun t => Y ρ I O t ls st x) cs dt) : Y ρ I O pc ls (vI x1 :: st) x := by
  rcases SW.tab offs.toList lo cs hc k with ⟨off, tgt, a0, a1, a2, a3⟩ | ⟨a1, a2⟩
  · have hlt : (x1.toInt - lo).toNat < offs.toList.length := (List.getElem?_eq_some_iff.mp a1).1
    obtain ⟨p, l, e, R, s, m, args, below, meth, c, G, S0⟩ := I
    obtain ⟨hx, hb, -⟩ := cx
    intro S H locs la hS hbs hv hw1 hw2
    exact lv_tableIn hx hb hd (by omega) (by omega) (by rw [← Array.getElem?_toList]; exact a1) a2 (a3 S H locs la hS hbs hv hw1 hw2.2)
  · obtain ⟨p, l, e, R, s, m, args, below, meth, c, G, S0⟩ := I
    obtain ⟨hx, hb, -⟩ := cx
    intro S H locs la hS hbs hv hw1 hw2
    exact lv_tableOut hx hb hd (by omega) hdt (a2 S H locs la hS hbs hv hw1 hw2.2)
theorem y_iret {v : Int32} (cx : Cx I own cc nL (some .int) d hs ini) (hd : decode cc pc = .ok (.ireturn, 1)) (k : O (.inl (some (vI v))) x) : Y ρ I O pc ls [vI v] x := by
  obtain ⟨p, l, e, R, s, m, args, below, meth, c, G, S0⟩ := I
  obtain ⟨hx, hb, -, -, -, -, hrt, hlk, -⟩ := cx
  intro S H locs la hS hbs hv hw1 hw2
  refine W.Qmono ?_ (W.iret (Qc := fun _ _ o t => t.heap = H ∧ o = .returned (some (.int v))) (free := fun q => gz G ≤ q) hx hb hrt (fun t ht _ => ⟨ht, rfl⟩) hbs.2.1 hd hlk)
  rintro t ⟨o, a1, a2, ⟨a3, a4⟩, L, ⟨-, a5, a6⟩, a7⟩
  exact ⟨o, a1, a2, a5, S, x, L, .inl (some (vI v)), a6, ⟨by rw [a3]; exact hbs.1, a7, hbs.2.2⟩, hS, a4, trivial, k⟩
theorem y_zret {v : Int32} {ty : FieldType} (cx : Cx I own cc nL (some ty) d hs ini) (hn : narrow ty (.int v) = .int v) (hd : decode cc pc = .ok (.ireturn, 1)) (k : O (.inl (some (vI v))) x) : Y ρ I O pc ls [vI v] x := by
  obtain ⟨p, l, e, R, s, m, args, below, meth, c, G, S0⟩ := I
  obtain ⟨hx, hb, -, -, -, -, hrt, hlk, -⟩ := cx
  intro S H locs la hS hbs hv hw1 hw2
  refine W.Qmono ?_ (W.zret (Qc := fun _ _ o t => t.heap = H ∧ o = .returned (some (.int v))) (free := fun q => gz G ≤ q) hx hb hrt hn (fun t ht _ => ⟨ht, rfl⟩) hbs.2.1 hd hlk)
  rintro t ⟨o, a1, a2, ⟨a3, a4⟩, L, ⟨-, a5, a6⟩, a7⟩
  exact ⟨o, a1, a2, a5, S, x, L, .inl (some (vI v)), a6, ⟨by rw [a3]; exact hbs.1, a7, hbs.2.2⟩, hS, a4, trivial, k⟩
theorem y_lret {v : Int64} (cx : Cx I own cc nL (some .long) d hs ini) (hd : decode cc pc = .ok (.lreturn, 1)) (k : O (.inl (some (vL v))) x) : Y ρ I O pc ls [vL v] x := by
  obtain ⟨p, l, e, R, s, m, args, below, meth, c, G, S0⟩ := I
  obtain ⟨hx, hb, -, -, -, -, hrt, hlk, -⟩ := cx
  intro S H locs la hS hbs hv hw1 hw2
  refine W.Qmono ?_ (W.lret (Qc := fun _ _ o t => t.heap = H ∧ o = .returned (some (.long v))) (free := fun q => gz G ≤ q) hx hb hrt (fun t ht _ => ⟨ht, rfl⟩) hbs.2.1 hd hlk)
  rintro t ⟨o, a1, a2, ⟨a3, a4⟩, L, ⟨-, a5, a6⟩, a7⟩
  exact ⟨o, a1, a2, a5, S, x, L, .inl (some (vL v)), a6, ⟨by rw [a3]; exact hbs.1, a7, hbs.2.2⟩, hS, a4, trivial, k⟩
theorem y_vret (cx : Cx I own cc nL none d hs ini) (hd : decode cc pc = .ok (.return_, 1)) (k : O (.inl none) x) : Y ρ I O pc ls [] x := by
  obtain ⟨p, l, e, R, s, m, args, below, meth, c, G, S0⟩ := I
  obtain ⟨hx, hb, -, -, -, -, hrt, hlk, -⟩ := cx
  intro S H locs la hS hbs hv hw1 hw2
  refine W.Qmono ?_ (W.vret (Qc := fun _ _ o t => t.heap = H ∧ o = .returned none) (free := fun q => gz G ≤ q) hx hb hrt (fun t ht _ => ⟨ht, rfl⟩) hbs.2.1 hd hlk)
  rintro t ⟨o, a1, a2, ⟨a3, a4⟩, L, ⟨-, a5, a6⟩, a7⟩
  exact ⟨o, a1, a2, a5, S, x, L, .inl none, a6, ⟨by rw [a3]; exact hbs.1, a7, hbs.2.2⟩, hS, a4, trivial, k⟩
theorem y_aret {r : Rf} {rt : FieldType} (cx : Cx I own cc nL (some rt) d hs ini) (hn : (∃ n, rt = .object n) ∨ ∃ t, rt = .array t) (hd : decode cc pc = .ok (.areturn, 1)) (k : O (.inl (some (vR r))) x) : Y ρ I O pc ls [vR r] x := by
  obtain ⟨p, l, e, R, s, m, args, below, meth, c, G, S0⟩ := I
  obtain ⟨hx, hb, -, -, -, -, hrt, hlk, -⟩ := cx
  intro S H locs la hS hbs hv hw1 hw2
  refine W.Qmono ?_ (W.aret (Qc := fun _ _ o t => t.heap = H ∧ o = .returned (some (cr r))) (free := fun q => gz G ≤ q) hx hb hrt hn (by cases r with | none => exact Or.inl rfl | some a => exact Or.inr ⟨_, rfl⟩) (fun t ht _ => ⟨ht, rfl⟩) hbs.2.1 hd hlk)
  rintro t ⟨o, a1, a2, ⟨a3, a4⟩, L, ⟨-, a5, a6⟩, a7⟩
  exact ⟨o, a1, a2, a5, S, x, L, .inl (some (vR r)), a6, ⟨by rw [a3]; exact hbs.1, a7, hbs.2.2⟩, hS, a4, hw2.1, k⟩
end YR
end
section
set_option maxRecDepth 100000
def ck (c : Nat) : Nat := if c = 17 then 14 else c
/-- kinds that are objects, read off the field heap -/
def ob (c : Nat) : Bool := (decide (c < 16) && decide (c ≠ 5) && decide (c ≠ 14)) || decide (c = 17)
theorem ob_wr {c : Nat} (h : ob c = true) : wr c = true := by
  unfold ob at h
  unfold wr
  rw [h]
  rfl
theorem ck_lt {c : Nat} (h : ob c = true) : ck c < 16 := by
  unfold ck
  simp only [ob, Bool.or_eq_true, Bool.and_eq_true, decide_eq_true_eq] at h
  split <;> omega
theorem cE_obj {G : GT} {S : HS} {c a : Nat} (h : ob c = true) : cE G S c a = .inr (ck c, (lay (ck c)).map (fun q => fv S q a)) := by
  simp only [ob, Bool.or_eq_true, Bool.and_eq_true, decide_eq_true_eq] at h
  unfold cE ck
  by_cases e : c = 17
  · subst e
    rfl
  · rw [if_pos (by omega), if_neg e]
/-- the field f, of this kind, owner, name, descriptor, stands in every class of the list -/
def FE (cs : List Nat) (kd f : Nat) (o nm ds : String) (fin : Bool) : Prop := ∀ c ∈ cs, ∃ (C : String) (T : u_T) (N k : Nat), ob c = true ∧ clW[ck c]? = some (C, T, N) ∧ k < N ∧ (lay (ck c))[k]? = some (kd, f) ∧ (T k).1 = o ∧ (T k).2.1 = nm ∧ (T k).2.2.1 = ds ∧ (T k).2.2.2 = fin
def LK (own : String) (idx : Nat) (ref nm ds : String) : Prop := Cond.fieldLink own idx ref nm ds ∈ lw_all ∨ ∃ host, Cond.fieldLinkNest own idx ref nm ds host ∈ lw_tbl
def SF (ref o nm ds : String) : Prop := ref = o ∨ Cond.sameField ref o nm ds ∈ lw_all
theorem lay_nd : ∀ c, c < 16 → (lay c).Nodup := by decide +kernel
theorem va_P.one {D : va_G} {cl : List vw_C} {q : Nat × va_E} {H : Heap} (h : va_at D cl q H) : va_P D cl [q] H := by
  intro k x hx
  have hz : k < 1 := (List.getElem?_eq_some_iff.mp hx).1
  rw [show k = 0 by omega] at hx
  cases hx
  exact h
theorem SF.use {args : Array Value} {s : State} {ref o nm ds : String} (h : SF ref o nm ds) (hts : ∀ w ∈ lw_all, w.before args s = true) : ∀ x, s.fieldFound? o nm ds = some x → s.fieldFound? ref nm ds = some x := by
  rcases h with rfl | h
  · exact fun _ h => h
  · exact u_same (hts _ h)
section WH
variable {p : Program} {l : Launch} {e : Env} {R : Room} {s : State} {m : MethodId} {args : Array Value} {below : List Frame} {meth : Method} {c : Code} {H : Heap} {locs : List Loc} {cells slots : Nat} {Q : State → Prop}
variable {cc : ByteArray} {pc : Nat} {la : Array Slot} {st : List Value} {G : GT} {own : String}
theorem w_getf {ci kk N idx a : Nat} {T : u_T} {C ref : String} {vs : List Value} {v : Value} (hx : p.tables.exec = Jvm.exec) (hb : c.code = cc) (hown : s.vm.findClass own = some m.cls) (hts : ∀ w ∈ lw_all, w.before args s = true) (hE : EnvT G s) (hcl : clW[ci]? = some (C, T, N)) (hkN : kk < N)
    (hat : va_at G.1 clW (a, .inr (ci, vs)) H) (hvv : vs[kk]? = some v) (hlk : LK own idx ref (T kk).2.1 (T kk).2.2.1) (hsf : SF ref (T kk).1 (T kk).2.1 (T kk).2.2.1) (hd : decode cc pc = .ok (.getfield idx, 3))
    (k : W p l e R s m args below meth c H locs cells slots Q (F0 m (pc + 3) la (v :: st))) : W p l e R s m args below meth c H locs cells slots Q (F0 m pc la (.ref a :: st)) := by
  obtain ⟨hin, hnm, hlen, ty, hty⟩ := cw_ok ci C T N hcl
  rcases hlk with hw | ⟨host, hw⟩
  · exact va_get (D := G.1) (cl := clW) (ci := ci) (C := C) (T := T) (N := N) (ref := ref) hx hb hts hin hown hE.1 (va_P.one hat) 0 rfl hcl kk hkN (hts _ hw) (hsf.use hts) hvv hd k
  · exact va_getN (D := G.1) (cl := clW) (ci := ci) (C := C) (T := T) (N := N) (ref := ref) (host := host) hx hb hts hin hown hE.1 (va_P.one hat) 0 rfl hcl kk hkN (va_Nw.use rfl (hE.2.1 _ hw rfl)) (hsf.use hts) hvv hd k
/-- one field of one object is written -/
theorem w_putf {ci kk N idx a : Nat} {T : u_T} {C ref : String} {vs : List Value} {v : Value} {ty : FieldType} {ini : Bool} (hx : p.tables.exec = Jvm.exec) (hb : c.code = cc) (hown : s.vm.findClass own = some m.cls) (hts : ∀ w ∈ lw_all, w.before args s = true) (hE : EnvT G s) (hini : ini = true → meth.name = "<init>") (hcl : clW[ci]? = some (C, T, N)) (hkN : kk < N)
    (hat : va_at G.1 clW (a, .inr (ci, vs)) H) (hkl : kk < vs.length) (hlk : LK own idx ref (T kk).2.1 (T kk).2.2.1) (hsf : SF ref (T kk).1 (T kk).2.1 (T kk).2.2.1) (hfin : (T kk).2.2.2 = false ∨ ((T kk).2.2.2 = true ∧ ini = true ∧ (T kk).1 = own ∧ Cond.fieldLink own idx ref (T kk).2.1 (T kk).2.2.1 ∈ lw_all))
    (hpd : parseFieldDescriptor (T kk).2.2.1 = some ty) (hn : narrow ty v = v) (hft : fits ty v = true) (hd : decode cc pc = .ok (.putfield idx, 3))
    (k : ∀ (H' : Heap) (i : Nat), H'.size = H.size → (∀ q, q ≠ a → H'[q]? = H[q]?) → va_at G.1 clW (a, .inr (ci, vs.set kk v)) H' → (MF H a → MF H' a) → W p l e R s m args below meth c H' (locs ++ [⟨a, i⟩]) cells slots Q (F0 m (pc + 3) la st)) : W p l e R s m args below meth c H locs cells slots Q (F0 m pc la (v :: .ref a :: st)) := by
  obtain ⟨hin, hnm, hlen, ty0, hty⟩ := cw_ok ci C T N hcl
  have hap := va_apart (own := own) hts hin ty0 hty hnm hE.1 hcl
  obtain ⟨r, g1, cell, q1, q2, q3, q4⟩ := va_P.one hat 0 _ rfl
  have hr0 : r = (C, T, N) := Option.some.inj (g1.symm.trans hcl)
  subst hr0
  obtain ⟨hS, hfc, kC, hkC, hkind⟩ := hE.1.1 ci _ hcl
  obtain ⟨cf, kf, fi, fd, hi, hsl⟩ := hS kk hkN
  have hsame := hsf.use hts
  have hlay0 := hts _ (hin _ (u_in_lay hkN))
  have hst := (u_facts hfc hkC (u_lays hts hin hkN) hi).1
  have fin2 : ∀ H' : Heap, H'[a]? = some (cell.setSlot fd.slot v) → H'.size = H.size → (∀ q, q ≠ a → H'[q]? = H[q]?) → W p l e R s m args below meth c H' (locs ++ [⟨a, fd.slot⟩]) cells slots Q (F0 m (pc + 3) la st) := by
    intro H' a1 a2 a3
    rw [hsl] at a1
    refine k H' _ a2 a3 ?_ (fun hmf cell' hc' => ?_)
    rotate_left
    · rw [a1] at hc'
      cases hc'
      exact hmf cell q1
    exact ⟨_, hcl, t_OB.to (V := updV (vp_V vs) kk v) ⟨_, a1, q2, q3, t_set q4 hap hkN v⟩ (fun j _ => vp_updV_set hkl v j)⟩
  unfold u_lay at hlay0
  rcases hfin with z | ⟨z, zi, zo, zw⟩
  · rw [if_neg (by rw [z]; decide)] at hlay0
    have h6 := u_store hfc hkC hkind hlay0 hi hpd hn hft
    rcases hlk with hw | ⟨host, hw⟩
    · exact W.putK hx hb (f := fd) ⟨hown, hts _ hw, ⟨_, _, _, hsame _ hi⟩, hst⟩ (by rw [q2]; exact h6) q1 q3 (by rw [hsl]; exact k2_hasslot (q4 kk hkN)) rfl rfl hd fin2
    · exact va_WputK hx hb (f := fd) hown (va_Nw.use rfl (hE.2.1 _ hw rfl)) (hsame _ hi) hst (by rw [q2]; exact h6) q1 q3 (by rw [hsl]; exact k2_hasslot (q4 kk hkN)) rfl rfl hd fin2
  · rw [if_pos z] at hlay0
    have hcf : m.cls = cf := by
      obtain ⟨_, _, c', _, _, _, -, -, hf', -, -, -, hown2, -⟩ := Cond.laysFinal_spec hlay0
      have e9 : c' = cf := by have := hi.symm.trans hf'; simp at this; exact this.1.symm
      rw [zo] at hown2
      rw [← e9]; exact Option.some.inj (hown.symm.trans hown2)
    have h6 := u_fits hfc hkC hkind (Or.inr hlay0) hi hpd hn hft
    exact W.putFinK hx hb hown (hts _ zw) (hsame _ hi) hst hcf (hini zi) (by rw [q2]; exact h6) q1 q3 (by rw [hsl]; exact k2_hasslot (q4 kk hkN)) rfl rfl hd fin2
end WH
theorem Bs.put {G : GT} {S0 S S' : HS} {H H' : Heap} {locs : List Loc} {a i : Nat} (h : Bs G S0 S H locs) (hr : Rep G S' H') (hz : gz G ≤ a) (hm : Mono S S') (h1 : hB S' = hB S) (h2 : hU S' = hU S) : Bs G S0 S' H' (locs ++ [⟨a, i⟩]) := by
  obtain ⟨b1, b2, b3, b4, b5⟩ := h
  refine ⟨hr, fun q hq => ?_, by rw [h1]; exact b3, by rw [h2]; exact b4, b5.tr hm⟩
  rcases List.mem_append.mp hq with z | z
  · exact b2 q z
  · rw [List.mem_singleton.mp z]
    exact hz
def fa (S : HS) (q : Nat × Nat) (a : Nat) : AV := match q.1 with
  | 0 => vI (hI S q.2 a)
  | 1 => vL (hL S q.2 a)
  | _ => vR (hR S q.2 a)
theorem fa_cv (S : HS) (q : Nat × Nat) (a : Nat) : cv (fa S q a) = fv S q a := by
  obtain ⟨q1, q2⟩ := q
  match q1 with
  | 0 => rfl
  | 1 => rfl
  | n + 2 => rfl
section YH
variable {I : Iv} {own : String} {cc : ByteArray} {nL : Nat} {ret : Option FieldType} {d : Nat} {hs : List (Nat × Nat × Nat × Nat)} {ini : Bool} {O : OA → HS → Prop} {pc : Nat} {ls : List (Option AV)} {st : List AV} {S : HS}
theorem y_getf {cs : List Nat} {kd f idx c a : Nat} {t : List Int32} {ref o nm ds : String} {fin : Bool} (cx : Cx I own cc nL ret d hs ini) (hF : FE cs kd f o nm ds fin) (hlk : LK own idx ref nm ds) (hsf : SF ref o nm ds) (hd : decode cc pc = .ok (.getfield idx, 3)) (hc : c ∈ cs) (k : Y Eq I O (pc + 3) ls (fa S (kd, f) a :: st) S) : Y Eq I O pc ls (vR (some (c, a, t)) :: st) S := by
  obtain ⟨C, T, N, kk, hob, hcl, hkN, hlay, e1, e2, e3, -⟩ := hF c hc
  obtain ⟨p, l, e, R, s, m, args, below, meth, c0, G, S0⟩ := I
  obtain ⟨hx, hb, hml, hown, hts, hE, -⟩ := cx
  intro S' H locs la hS hbs hv hw1 hw2
  subst hS
  have hat := (hbs.1.at hw2.1 (ob_wr hob)).2.2
  rw [cE_obj hob] at hat
  refine w_getf hx hb hown hts hE hcl hkN hat (v := fv S (kd, f) a) (by rw [List.getElem?_map, hlay]; rfl) (by rw [e2, e3]; exact hlk) (by rw [e1, e2, e3]; exact hsf) hd ?_
  rw [← fa_cv]
  refine k S H locs la rfl hbs hv hw1 ⟨?_, hw2.2⟩
  unfold fa
  split
  · trivial
  · trivial
  · exact hbs.1.2.2.2.2.1 _ _
theorem y_getI {cs : List Nat} {f idx c a : Nat} {t : List Int32} {ref o nm ds : String} {fin : Bool} (cx : Cx I own cc nL ret d hs ini) (hF : FE cs 0 f o nm ds fin) (hlk : LK own idx ref nm ds) (hsf : SF ref o nm ds) (hd : decode cc pc = .ok (.getfield idx, 3)) (hc : c ∈ cs) (k : Y Eq I O (pc + 3) ls (vI (hI S f a) :: st) S) : Y Eq I O pc ls (vR (some (c, a, t)) :: st) S := y_getf cx hF hlk hsf hd hc k
theorem y_getL {cs : List Nat} {f idx c a : Nat} {t : List Int32} {ref o nm ds : String} {fin : Bool} (cx : Cx I own cc nL ret d hs ini) (hF : FE cs 1 f o nm ds fin) (hlk : LK own idx ref nm ds) (hsf : SF ref o nm ds) (hd : decode cc pc = .ok (.getfield idx, 3)) (hc : c ∈ cs) (k : Y Eq I O (pc + 3) ls (vL (hL S f a) :: st) S) : Y Eq I O pc ls (vR (some (c, a, t)) :: st) S := y_getf cx hF hlk hsf hd hc k
theorem y_getR {cs : List Nat} {f idx c a : Nat} {t : List Int32} {ref o nm ds : String} {fin : Bool} (cx : Cx I own cc nL ret d hs ini) (hF : FE cs 2 f o nm ds fin) (hlk : LK own idx ref nm ds) (hsf : SF ref o nm ds) (hd : decode cc pc = .ok (.getfield idx, 3)) (hc : c ∈ cs) (k : Y Eq I O (pc + 3) ls (vR (hR S f a) :: st) S) : Y Eq I O pc ls (vR (some (c, a, t)) :: st) S := y_getf cx hF hlk hsf hd hc k
theorem y_putf {cs : List Nat} {kd f idx c a : Nat} {t : List Int32} {ref o nm ds : String} {fin : Bool} {v : AV} {ty : FieldType} (S' : HS) (cx : Cx I own cc nL ret d hs ini) (hF : FE cs kd f o nm ds fin) (hlk : LK own idx ref nm ds) (hsf : SF ref o nm ds) (hfin : fin = false ∨ (fin = true ∧ ini = true ∧ o = own ∧ Cond.fieldLink own idx ref nm ds ∈ lw_all)) (hd : decode cc pc = .ok (.putfield idx, 3)) (hc : c ∈ cs)
    (hpd : parseFieldDescriptor ds = some ty) (hn : narrow ty (cv v) = cv v) (hft : fits ty (cv v) = true)
    (hC' : ∀ b, hC S' b = hC S b) (hZ' : hZ S' = hZ S) (hB' : hB S' = hB S) (hU' : hU S' = hU S) (ho : ∀ b, b ≠ a → SD S S' b) (hR' : lv S v → (∀ g, lvR S (hR S g a)) → ∀ g, lvR S (hR S' g a)) (hN' : hN S' a = hN S a) (hP' : ∀ k, hP S' a k = hP S a k)
    (hv1 : fv S' (kd, f) a = cv v) (hv2 : ∀ q, q ∈ lay (ck c) → q ≠ (kd, f) → fv S' q a = fv S q a) (k : Y Eq I O (pc + 3) ls st S') : Y Eq I O pc ls (v :: vR (some (c, a, t)) :: st) S := by
  obtain ⟨C, T, N, kk, hob, hcl, hkN, hlay, e1, e2, e3, e4⟩ := hF c hc
  obtain ⟨p, l, e, R, s, m, args, below, meth, c0, G, S0⟩ := I
  obtain ⟨hx, hb, hml, hown, hts, hE, -, -, -, -, hini, -⟩ := cx
  intro S1 H locs la hS hbs hv hw1 hw2
  subst hS
  have hca : hC S a = some (c, t) := hw2.2.1
  obtain ⟨ht, hza, hat⟩ := hbs.1.at hca (ob_wr hob)
  rw [cE_obj hob] at hat
  have hkl : kk < (lay (ck c)).length := (List.getElem?_eq_some_iff.mp hlay).1
  have hlist : (lay (ck c)).map (fun q => fv S' q a) = ((lay (ck c)).map (fun q => fv S q a)).set kk (cv v) := by
    apply List.ext_getElem?
    intro j
    by_cases hj : j = kk
    · subst hj
      rw [List.getElem?_set_self (by rw [List.length_map]; exact hkl), List.getElem?_map, hlay]
      show some (fv S' (kd, f) a) = _
      rw [hv1]
    · rw [List.getElem?_set_ne (Ne.symm hj), List.getElem?_map, List.getElem?_map]
      cases hjj : (lay (ck c))[j]? with
      | none => rfl
      | some q =>
        show some (fv S' q a) = some (fv S q a)
        rw [hv2 q (List.mem_of_getElem? hjj) (fun z => hj ((List.getElem?_inj (List.getElem?_eq_some_iff.mp hjj).1 (lay_nd _ (ck_lt hob))).mp (by rw [hjj, hlay, z])))]
  refine w_putf hx hb hown hts hE hini hcl hkN hat (by rw [List.length_map]; exact hkl) (by rw [e2, e3]; exact hlk) (by rw [e1, e2, e3]; exact hsf) (by rw [e1, e2, e3, e4]; exact hfin) (by rw [e3]; exact hpd) hn hft hd ?_
  intro H' i a2 a3 hat' _
  rw [← hlist, ← cE_obj (G := G) hob] at hat'
  have hm : Mono S S' := fun b x hx => by rw [hC']; exact hx
  have hr' : Rep G S' H' := hbs.1.set hca hza hC' hZ' ho (hR' hw2.1 (fun g => hbs.1.2.2.2.2.1 g a)) (fun k => by rw [hP']; exact hbs.1.2.2.2.2.2.1 a k) a2 a3 (Or.inl ⟨ob_wr hob, ht, hza, hat'⟩)
  refine W.cs (cells' := hB S0 - hB S') (slots' := hU S0 - hU S') (by rw [hB']) (by rw [hU']) ?_
  exact k S' H' _ la rfl (hbs.put hr' hza hm hB' hU') hv (hw1.mono hm) (lvS.mono hm hw2.2.2)
theorem y_putI {cs : List Nat} {f idx c a : Nat} {t : List Int32} {ref o nm ds : String} {fin : Bool} {v : Int32} {ty : FieldType} (cx : Cx I own cc nL ret d hs ini) (hF : FE cs 0 f o nm ds fin) (hlk : LK own idx ref nm ds) (hsf : SF ref o nm ds) (hfin : fin = false ∨ (fin = true ∧ ini = true ∧ o = own ∧ Cond.fieldLink own idx ref nm ds ∈ lw_all)) (hd : decode cc pc = .ok (.putfield idx, 3)) (hc : c ∈ cs)
    (hpd : parseFieldDescriptor ds = some ty) (hn : narrow ty (.int v) = .int v ∧ fits ty (.int v) = true) (k : Y Eq I O (pc + 3) ls st (sI S f a v)) : Y Eq I O pc ls (vI v :: vR (some (c, a, t)) :: st) S := by
  refine y_putf (sI S f a v) cx hF hlk hsf hfin hd hc hpd hn.1 hn.2 (fun _ => rfl) rfl rfl rfl (fun b hb => ⟨fun g => ?_, fun _ => rfl, fun _ => rfl, rfl, fun _ => rfl, fun _ => rfl, fun _ => rfl⟩) (fun _ h => h) rfl (fun _ => rfl) ?_ (fun q _ hq => ?_) k
  · rw [hI_sI, if_neg (fun z => hb z.2)]
  · show Value.int (hI (sI S f a v) f a) = _
    rw [hI_sI, if_pos ⟨rfl, rfl⟩]
    rfl
  · obtain ⟨q1, q2⟩ := q
    unfold fv
    split
    · rename_i e0
      have e0 : q1 = 0 := e0
      rw [hI_sI, if_neg (fun z => hq (by rw [e0]; exact congrArg _ z.1))]
    · rfl
    · rfl
theorem y_putL {cs : List Nat} {f idx c a : Nat} {t : List Int32} {ref o nm ds : String} {fin : Bool} {v : Int64} (cx : Cx I own cc nL ret d hs ini) (hF : FE cs 1 f o nm ds fin) (hlk : LK own idx ref nm ds) (hsf : SF ref o nm ds) (hfin : fin = false ∨ (fin = true ∧ ini = true ∧ o = own ∧ Cond.fieldLink own idx ref nm ds ∈ lw_all)) (hd : decode cc pc = .ok (.putfield idx, 3)) (hc : c ∈ cs)
    (hpd : parseFieldDescriptor ds = some .long) (k : Y Eq I O (pc + 3) ls st (sL S f a v)) : Y Eq I O pc ls (vL v :: vR (some (c, a, t)) :: st) S := by
  refine y_putf (sL S f a v) cx hF hlk hsf hfin hd hc hpd rfl rfl (fun _ => rfl) rfl rfl rfl (fun b hb => ⟨fun _ => rfl, fun g => ?_, fun _ => rfl, rfl, fun _ => rfl, fun _ => rfl, fun _ => rfl⟩) (fun _ h => h) rfl (fun _ => rfl) ?_ (fun q _ hq => ?_) k
  · rw [hL_sL, if_neg (fun z => hb z.2)]
  · show Value.long (hL (sL S f a v) f a) = _
    rw [hL_sL, if_pos ⟨rfl, rfl⟩]
    rfl
  · obtain ⟨q1, q2⟩ := q
    unfold fv
    split
    · rfl
    · rename_i e0
      have e0 : q1 = 1 := e0
      rw [hL_sL, if_neg (fun z => hq (by rw [e0]; exact congrArg _ z.1))]
    · rfl
theorem lay_ok : ∀ c, c < 16 → ∀ q ∈ lay c, q.1 = 0 ∨ q.1 = 1 ∨ q.1 = 2 := by decide +kernel
theorem y_putR {cs : List Nat} {f idx c a : Nat} {t : List Int32} {ref o nm ds : String} {fin : Bool} {v : Rf} {ty : FieldType} (cx : Cx I own cc nL ret d hs ini) (hF : FE cs 2 f o nm ds fin) (hlk : LK own idx ref nm ds) (hsf : SF ref o nm ds) (hfin : fin = false ∨ (fin = true ∧ ini = true ∧ o = own ∧ Cond.fieldLink own idx ref nm ds ∈ lw_all)) (hd : decode cc pc = .ok (.putfield idx, 3)) (hc : c ∈ cs)
    (hpd : parseFieldDescriptor ds = some ty) (hty : (∃ n, ty = .object n) ∨ ∃ t, ty = .array t) (k : Y Eq I O (pc + 3) ls st (sR S f a v)) : Y Eq I O pc ls (vR v :: vR (some (c, a, t)) :: st) S := by
  have hob : ob c = true := (hF c hc).choose_spec.choose_spec.choose_spec.choose_spec.1
  refine y_putf (sR S f a v) cx hF hlk hsf hfin hd hc hpd (by rcases hty with ⟨n, rfl⟩ | ⟨n, rfl⟩ <;> cases v <;> rfl) (by rcases hty with ⟨n, rfl⟩ | ⟨n, rfl⟩ <;> cases v <;> rfl) (fun _ => rfl) rfl rfl rfl (fun b hb => ⟨fun _ => rfl, fun _ => rfl, fun g => ?_, rfl, fun _ => rfl, fun _ => rfl, fun _ => rfl⟩) (fun hl h g => ?_) rfl (fun _ => rfl) ?_ (fun q hm hq => ?_) k
  · rw [hR_sR, if_neg (fun z => hb z.2)]
  · rw [hR_sR]
    split
    · exact hl
    · exact h g
  · show cr (hR (sR S f a v) f a) = _
    rw [hR_sR, if_pos ⟨rfl, rfl⟩]
    rfl
  · obtain ⟨q1, q2⟩ := q
    have hq1 := lay_ok _ (ck_lt hob) _ hm
    unfold fv
    split
    · rfl
    · rfl
    · rename_i e0 e1
      have e2 : q1 = 2 := by
        rcases hq1 with z | z | z
        · exact absurd z e0
        · exact absurd z e1
        · exact z
      rw [hR_sR, if_neg (fun z => hq (by rw [e2]; exact congrArg _ z.1))]
end YH
end
section
set_option maxRecDepth 100000
/-- the default of a field by its sort -/
def dz (q : Nat × Nat) : Value := match q.1 with
  | 0 => .int 0
  | 1 => .long 0
  | _ => .null
theorem cw_def (c : Nat) (C : String) (T : u_T) (N : Nat) (h : clW[c]? = some (C, T, N)) : ∃ ty : Nat → FieldType, (∀ k, k < N → parseFieldDescriptor (T k).2.2.1 = some (ty k)) ∧ ∀ k, k < N → defaultValue (ty k) = vp_V ((lay c).map dz) k := by
  match c, h with
  | 0, h => cases h; exact ⟨tyX0, tyX0_ok, fun k hk => (match k, hk with | 0, _ => rfl | 1, _ => rfl | 2, _ => rfl | 3, _ => rfl | 4, _ => rfl | 5, _ => rfl | 6, _ => rfl | 7, _ => rfl | 8, _ => rfl | k + 9, hk => absurd hk (by omega))⟩
  | 1, h => cases h; exact ⟨tyX1, tyX1_ok, fun k hk => (match k, hk with | 0, _ => rfl | 1, _ => rfl | 2, _ => rfl | 3, _ => rfl | 4, _ => rfl | 5, _ => rfl | 6, _ => rfl | 7, _ => rfl | 8, _ => rfl | 9, _ => rfl | k + 10, hk => absurd hk (by omega))⟩
  | 2, h => cases h; exact ⟨tyX3, tyX3_ok, fun k hk => (match k, hk with | 0, _ => rfl | 1, _ => rfl | 2, _ => rfl | 3, _ => rfl | 4, _ => rfl | 5, _ => rfl | 6, _ => rfl | 7, _ => rfl | 8, _ => rfl | 9, _ => rfl | 10, _ => rfl | 11, _ => rfl | 12, _ => rfl | 13, _ => rfl | 14, _ => rfl | 15, _ => rfl | 16, _ => rfl | 17, _ => rfl | 18, _ => rfl | 19, _ => rfl | k + 20, hk => absurd hk (by omega))⟩
  | 3, h => cases h; exact ⟨tyX4, tyX4_ok, fun k hk => (match k, hk with | 0, _ => rfl | 1, _ => rfl | 2, _ => rfl | k + 3, hk => absurd hk (by omega))⟩
  | 4, h => cases h; exact ⟨tyX5, tyX5_ok, fun k hk => (match k, hk with | 0, _ => rfl | 1, _ => rfl | 2, _ => rfl | k + 3, hk => absurd hk (by omega))⟩
  | 5, h => cases h; exact ⟨tyX6, tyX6_ok, fun k hk => (match k, hk with | 0, _ => rfl | 1, _ => rfl | 2, _ => rfl | 3, _ => rfl | 4, _ => rfl | 5, _ => rfl | 6, _ => rfl | 7, _ => rfl | k + 8, hk => absurd hk (by omega))⟩
  | 6, h => cases h; exact ⟨tyX8, tyX8_ok, fun k hk => (match k, hk with | 0, _ => rfl | 1, _ => rfl | k + 2, hk => absurd hk (by omega))⟩
  | 7, h => cases h; exact ⟨tyX9, tyX9_ok, fun k hk => (match k, hk with | 0, _ => rfl | 1, _ => rfl | 2, _ => rfl | k + 3, hk => absurd hk (by omega))⟩
  | 8, h => cases h; exact ⟨tyX10, tyX10_ok, fun k hk => (match k, hk with | 0, _ => rfl | 1, _ => rfl | 2, _ => rfl | 3, _ => rfl | k + 4, hk => absurd hk (by omega))⟩
  | 9, h => cases h; exact ⟨tyX11, tyX11_ok, fun k hk => (match k, hk with | 0, _ => rfl | 1, _ => rfl | 2, _ => rfl | 3, _ => rfl | k + 4, hk => absurd hk (by omega))⟩
  | 10, h => cases h; exact ⟨tyX12, tyX12_ok, fun k hk => (match k, hk with | 0, _ => rfl | 1, _ => rfl | k + 2, hk => absurd hk (by omega))⟩
  | 11, h => cases h; exact ⟨tyX13, tyX13_ok, fun k hk => (match k, hk with | 0, _ => rfl | 1, _ => rfl | 2, _ => rfl | 3, _ => rfl | 4, _ => rfl | 5, _ => rfl | 6, _ => rfl | k + 7, hk => absurd hk (by omega))⟩
  | 12, h => cases h; exact ⟨tyX14, tyX14_ok, fun k hk => (match k, hk with | 0, _ => rfl | 1, _ => rfl | 2, _ => rfl | 3, _ => rfl | 4, _ => rfl | 5, _ => rfl | 6, _ => rfl | 7, _ => rfl | k + 8, hk => absurd hk (by omega))⟩
  | 13, h => cases h; exact ⟨tyX15, tyX15_ok, fun k hk => (match k, hk with | 0, _ => rfl | 1, _ => rfl | 2, _ => rfl | 3, _ => rfl | 4, _ => rfl | 5, _ => rfl | 6, _ => rfl | 7, _ => rfl | k + 8, hk => absurd hk (by omega))⟩
  | 14, h => cases h; exact ⟨tyJ2, tyJ2_ok, fun k hk => (match k, hk with | 0, _ => rfl | 1, _ => rfl | 2, _ => rfl | 3, _ => rfl | k + 4, hk => absurd hk (by omega))⟩
  | 15, h => cases h; exact ⟨tyJ1, tyJ1_ok, fun k hk => (match k, hk with | 0, _ => rfl | 1, _ => rfl | 2, _ => rfl | 3, _ => rfl | k + 4, hk => absurd hk (by omega))⟩
  | c + 16, h => simp [clW] at h
/-- the class of a kind -/
def cn : Nat → String
  | 0 => RX0
  | 1 => RX1
  | 2 => RX3
  | 3 => RX4
  | 4 => RX5
  | 5 => RX6
  | 6 => RX8
  | 7 => RX9
  | 8 => RX10
  | 9 => RX11
  | 10 => RX12
  | 11 => RX13
  | 12 => RX14
  | 13 => RX15
  | 14 => RJ2
  | 15 => RJ1
  | _ => RJ2
theorem cn_ok (c : Nat) (hc : c < 16) : ∃ (T : u_T) (N : Nat), clW[c]? = some (cn c, T, N) := by
  match c, hc with
  | 0, _ => exact ⟨TX0, 9, rfl⟩
  | 1, _ => exact ⟨TX1, 10, rfl⟩
  | 2, _ => exact ⟨TX3, 20, rfl⟩
  | 3, _ => exact ⟨TX4, 3, rfl⟩
  | 4, _ => exact ⟨TX5, 3, rfl⟩
  | 5, _ => exact ⟨TX6, 8, rfl⟩
  | 6, _ => exact ⟨TX8, 2, rfl⟩
  | 7, _ => exact ⟨TX9, 3, rfl⟩
  | 8, _ => exact ⟨TX10, 4, rfl⟩
  | 9, _ => exact ⟨TX11, 4, rfl⟩
  | 10, _ => exact ⟨TX12, 2, rfl⟩
  | 11, _ => exact ⟨TX13, 7, rfl⟩
  | 12, _ => exact ⟨TX14, 8, rfl⟩
  | 13, _ => exact ⟨TX15, 8, rfl⟩
  | 14, _ => exact ⟨TJ2, 4, rfl⟩
  | 15, _ => exact ⟨TJ1, 4, rfl⟩
  | c + 16, h => exact absurd h (by omega)
theorem fe_0 : FE [0] 2 0 "ClassFileReader" "bytes" "[I" true := List.forall_mem_cons.mpr ⟨⟨RX0, TX0, 9, 0, by decide, rfl, by decide, rfl, rfl, rfl, rfl, rfl⟩, fun _ h => absurd h List.not_mem_nil⟩
theorem fe_1 : FE [0] 0 1 "ClassFileReader" "size" "I" false := List.forall_mem_cons.mpr ⟨⟨RX0, TX0, 9, 1, by decide, rfl, by decide, rfl, rfl, rfl, rfl, rfl⟩, fun _ h => absurd h List.not_mem_nil⟩
theorem fe_2 : FE [0] 0 2 "ClassFileReader" "at" "I" false := List.forall_mem_cons.mpr ⟨⟨RX0, TX0, 9, 2, by decide, rfl, by decide, rfl, rfl, rfl, rfl, rfl⟩, fun _ h => absurd h List.not_mem_nil⟩
theorem fe_3 : FE [0] 2 3 "ClassFileReader" "pool" "[LClassFileReader$Entry;" true := List.forall_mem_cons.mpr ⟨⟨RX0, TX0, 9, 3, by decide, rfl, by decide, rfl, rfl, rfl, rfl, rfl⟩, fun _ h => absurd h List.not_mem_nil⟩
theorem fe_4 : FE [0] 0 4 "ClassFileReader" "poolCount" "I" false := List.forall_mem_cons.mpr ⟨⟨RX0, TX0, 9, 4, by decide, rfl, by decide, rfl, rfl, rfl, rfl, rfl⟩, fun _ h => absurd h List.not_mem_nil⟩
theorem fe_5 : FE [0] 2 5 "ClassFileReader" "builder" "Ljava/lang/StringBuilder;" true := List.forall_mem_cons.mpr ⟨⟨RX0, TX0, 9, 5, by decide, rfl, by decide, rfl, rfl, rfl, rfl, rfl⟩, fun _ h => absurd h List.not_mem_nil⟩
theorem fe_6 : FE [0] 2 6 "ClassFileReader" "mirror" "LClassFileReader$Mirror;" false := List.forall_mem_cons.mpr ⟨⟨RX0, TX0, 9, 6, by decide, rfl, by decide, rfl, rfl, rfl, rfl, rfl⟩, fun _ h => absurd h List.not_mem_nil⟩
theorem fe_7 : FE [0] 2 7 "ClassFileReader" "fresh" "LClassFileReader$Mirror;" false := List.forall_mem_cons.mpr ⟨⟨RX0, TX0, 9, 7, by decide, rfl, by decide, rfl, rfl, rfl, rfl, rfl⟩, fun _ h => absurd h List.not_mem_nil⟩
theorem fe_8 : FE [0] 0 8 "ClassFileReader" "place" "I" false := List.forall_mem_cons.mpr ⟨⟨RX0, TX0, 9, 8, by decide, rfl, by decide, rfl, rfl, rfl, rfl, rfl⟩, fun _ h => absurd h List.not_mem_nil⟩
theorem fe_10 : FE [1] 2 10 "ClassFileReaderModel" "bytes" "[I" true := List.forall_mem_cons.mpr ⟨⟨RX1, TX1, 10, 0, by decide, rfl, by decide, rfl, rfl, rfl, rfl, rfl⟩, fun _ h => absurd h List.not_mem_nil⟩
theorem fe_11 : FE [1] 0 11 "ClassFileReaderModel" "size" "I" false := List.forall_mem_cons.mpr ⟨⟨RX1, TX1, 10, 1, by decide, rfl, by decide, rfl, rfl, rfl, rfl, rfl⟩, fun _ h => absurd h List.not_mem_nil⟩
theorem fe_12 : FE [1] 2 12 "ClassFileReaderModel" "notes" "[I" true := List.forall_mem_cons.mpr ⟨⟨RX1, TX1, 10, 2, by decide, rfl, by decide, rfl, rfl, rfl, rfl, rfl⟩, fun _ h => absurd h List.not_mem_nil⟩
theorem fe_13 : FE [1] 2 13 "ClassFileReaderModel" "mirror" "[I" true := List.forall_mem_cons.mpr ⟨⟨RX1, TX1, 10, 3, by decide, rfl, by decide, rfl, rfl, rfl, rfl, rfl⟩, fun _ h => absurd h List.not_mem_nil⟩
theorem fe_14 : FE [1] 2 14 "ClassFileReaderModel" "kept" "[I" true := List.forall_mem_cons.mpr ⟨⟨RX1, TX1, 10, 4, by decide, rfl, by decide, rfl, rfl, rfl, rfl, rfl⟩, fun _ h => absurd h List.not_mem_nil⟩
theorem fe_15 : FE [1] 0 15 "ClassFileReaderModel" "any" "Z" false := List.forall_mem_cons.mpr ⟨⟨RX1, TX1, 10, 5, by decide, rfl, by decide, rfl, rfl, rfl, rfl, rfl⟩, fun _ h => absurd h List.not_mem_nil⟩
theorem fe_16 : FE [1] 0 16 "ClassFileReaderModel" "mirrored" "Z" false := List.forall_mem_cons.mpr ⟨⟨RX1, TX1, 10, 6, by decide, rfl, by decide, rfl, rfl, rfl, rfl, rfl⟩, fun _ h => absurd h List.not_mem_nil⟩
theorem fe_17 : FE [1] 0 17 "ClassFileReaderModel" "at" "I" false := List.forall_mem_cons.mpr ⟨⟨RX1, TX1, 10, 7, by decide, rfl, by decide, rfl, rfl, rfl, rfl, rfl⟩, fun _ h => absurd h List.not_mem_nil⟩
theorem fe_18 : FE [1] 0 18 "ClassFileReaderModel" "code" "I" false := List.forall_mem_cons.mpr ⟨⟨RX1, TX1, 10, 8, by decide, rfl, by decide, rfl, rfl, rfl, rfl, rfl⟩, fun _ h => absurd h List.not_mem_nil⟩
theorem fe_19 : FE [1] 0 19 "ClassFileReaderModel" "wrong" "I" false := List.forall_mem_cons.mpr ⟨⟨RX1, TX1, 10, 9, by decide, rfl, by decide, rfl, rfl, rfl, rfl, rfl⟩, fun _ h => absurd h List.not_mem_nil⟩
theorem fe_20 : FE [2, 11, 12, 13] 2 20 "ClassFileReader$Holder" "signature" "Ljava/lang/String;" false := List.forall_mem_cons.mpr ⟨⟨RX3, TX3, 20, 0, by decide, rfl, by decide, rfl, rfl, rfl, rfl, rfl⟩, List.forall_mem_cons.mpr ⟨⟨RX13, TX13, 7, 0, by decide, rfl, by decide, rfl, rfl, rfl, rfl, rfl⟩, List.forall_mem_cons.mpr ⟨⟨RX14, TX14, 8, 0, by decide, rfl, by decide, rfl, rfl, rfl, rfl, rfl⟩, List.forall_mem_cons.mpr ⟨⟨RX15, TX15, 8, 0, by decide, rfl, by decide, rfl, rfl, rfl, rfl, rfl⟩, fun _ h => absurd h List.not_mem_nil⟩⟩⟩⟩
theorem fe_21 : FE [2, 11, 12, 13] 0 21 "ClassFileReader$Holder" "deprecated" "Z" false := List.forall_mem_cons.mpr ⟨⟨RX3, TX3, 20, 1, by decide, rfl, by decide, rfl, rfl, rfl, rfl, rfl⟩, List.forall_mem_cons.mpr ⟨⟨RX13, TX13, 7, 1, by decide, rfl, by decide, rfl, rfl, rfl, rfl, rfl⟩, List.forall_mem_cons.mpr ⟨⟨RX14, TX14, 8, 1, by decide, rfl, by decide, rfl, rfl, rfl, rfl, rfl⟩, List.forall_mem_cons.mpr ⟨⟨RX15, TX15, 8, 1, by decide, rfl, by decide, rfl, rfl, rfl, rfl, rfl⟩, fun _ h => absurd h List.not_mem_nil⟩⟩⟩⟩
theorem fe_22 : FE [2, 11, 12, 13] 0 22 "ClassFileReader$Holder" "seen" "I" false := List.forall_mem_cons.mpr ⟨⟨RX3, TX3, 20, 2, by decide, rfl, by decide, rfl, rfl, rfl, rfl, rfl⟩, List.forall_mem_cons.mpr ⟨⟨RX13, TX13, 7, 2, by decide, rfl, by decide, rfl, rfl, rfl, rfl, rfl⟩, List.forall_mem_cons.mpr ⟨⟨RX14, TX14, 8, 2, by decide, rfl, by decide, rfl, rfl, rfl, rfl, rfl⟩, List.forall_mem_cons.mpr ⟨⟨RX15, TX15, 8, 2, by decide, rfl, by decide, rfl, rfl, rfl, rfl, rfl⟩, fun _ h => absurd h List.not_mem_nil⟩⟩⟩⟩
theorem fe_23 : FE [2] 0 23 "ClassFileReader$Mirror" "major" "I" false := List.forall_mem_cons.mpr ⟨⟨RX3, TX3, 20, 3, by decide, rfl, by decide, rfl, rfl, rfl, rfl, rfl⟩, fun _ h => absurd h List.not_mem_nil⟩
theorem fe_24 : FE [2] 0 24 "ClassFileReader$Mirror" "flags" "I" false := List.forall_mem_cons.mpr ⟨⟨RX3, TX3, 20, 4, by decide, rfl, by decide, rfl, rfl, rfl, rfl, rfl⟩, fun _ h => absurd h List.not_mem_nil⟩
theorem fe_25 : FE [2] 0 25 "ClassFileReader$Mirror" "pool" "I" false := List.forall_mem_cons.mpr ⟨⟨RX3, TX3, 20, 5, by decide, rfl, by decide, rfl, rfl, rfl, rfl, rfl⟩, fun _ h => absurd h List.not_mem_nil⟩
theorem fe_26 : FE [2] 2 26 "ClassFileReader$Mirror" "name" "Ljava/lang/String;" false := List.forall_mem_cons.mpr ⟨⟨RX3, TX3, 20, 6, by decide, rfl, by decide, rfl, rfl, rfl, rfl, rfl⟩, fun _ h => absurd h List.not_mem_nil⟩
theorem fe_27 : FE [2] 2 27 "ClassFileReader$Mirror" "parent" "Ljava/lang/String;" false := List.forall_mem_cons.mpr ⟨⟨RX3, TX3, 20, 7, by decide, rfl, by decide, rfl, rfl, rfl, rfl, rfl⟩, fun _ h => absurd h List.not_mem_nil⟩
theorem fe_28 : FE [2] 2 28 "ClassFileReader$Mirror" "host" "Ljava/lang/String;" false := List.forall_mem_cons.mpr ⟨⟨RX3, TX3, 20, 8, by decide, rfl, by decide, rfl, rfl, rfl, rfl, rfl⟩, fun _ h => absurd h List.not_mem_nil⟩
theorem fe_29 : FE [2] 0 29 "ClassFileReader$Mirror" "record" "Z" false := List.forall_mem_cons.mpr ⟨⟨RX3, TX3, 20, 9, by decide, rfl, by decide, rfl, rfl, rfl, rfl, rfl⟩, fun _ h => absurd h List.not_mem_nil⟩
theorem fe_30 : FE [2] 2 30 "ClassFileReader$Mirror" "interfaces" "LClassFileReader$Links;" true := List.forall_mem_cons.mpr ⟨⟨RX3, TX3, 20, 10, by decide, rfl, by decide, rfl, rfl, rfl, rfl, rfl⟩, fun _ h => absurd h List.not_mem_nil⟩
theorem fe_31 : FE [2] 2 31 "ClassFileReader$Mirror" "fields" "LClassFileReader$Members;" true := List.forall_mem_cons.mpr ⟨⟨RX3, TX3, 20, 11, by decide, rfl, by decide, rfl, rfl, rfl, rfl, rfl⟩, fun _ h => absurd h List.not_mem_nil⟩
theorem fe_32 : FE [2] 2 32 "ClassFileReader$Mirror" "methods" "LClassFileReader$Members;" true := List.forall_mem_cons.mpr ⟨⟨RX3, TX3, 20, 12, by decide, rfl, by decide, rfl, rfl, rfl, rfl, rfl⟩, fun _ h => absurd h List.not_mem_nil⟩
theorem fe_33 : FE [2] 2 33 "ClassFileReader$Mirror" "components" "LClassFileReader$Members;" true := List.forall_mem_cons.mpr ⟨⟨RX3, TX3, 20, 13, by decide, rfl, by decide, rfl, rfl, rfl, rfl, rfl⟩, fun _ h => absurd h List.not_mem_nil⟩
theorem fe_34 : FE [2] 2 34 "ClassFileReader$Mirror" "inner" "LClassFileReader$Links;" true := List.forall_mem_cons.mpr ⟨⟨RX3, TX3, 20, 14, by decide, rfl, by decide, rfl, rfl, rfl, rfl, rfl⟩, fun _ h => absurd h List.not_mem_nil⟩
theorem fe_35 : FE [2] 2 35 "ClassFileReader$Mirror" "outer" "LClassFileReader$Links;" true := List.forall_mem_cons.mpr ⟨⟨RX3, TX3, 20, 15, by decide, rfl, by decide, rfl, rfl, rfl, rfl, rfl⟩, fun _ h => absurd h List.not_mem_nil⟩
theorem fe_36 : FE [2] 2 36 "ClassFileReader$Mirror" "simple" "LClassFileReader$Links;" true := List.forall_mem_cons.mpr ⟨⟨RX3, TX3, 20, 16, by decide, rfl, by decide, rfl, rfl, rfl, rfl, rfl⟩, fun _ h => absurd h List.not_mem_nil⟩
theorem fe_37 : FE [2] 2 37 "ClassFileReader$Mirror" "innerFlags" "[I" true := List.forall_mem_cons.mpr ⟨⟨RX3, TX3, 20, 17, by decide, rfl, by decide, rfl, rfl, rfl, rfl, rfl⟩, fun _ h => absurd h List.not_mem_nil⟩
theorem fe_38 : FE [2] 2 38 "ClassFileReader$Mirror" "mates" "LClassFileReader$Links;" true := List.forall_mem_cons.mpr ⟨⟨RX3, TX3, 20, 18, by decide, rfl, by decide, rfl, rfl, rfl, rfl, rfl⟩, fun _ h => absurd h List.not_mem_nil⟩
theorem fe_39 : FE [2] 2 39 "ClassFileReader$Mirror" "permitted" "LClassFileReader$Links;" true := List.forall_mem_cons.mpr ⟨⟨RX3, TX3, 20, 19, by decide, rfl, by decide, rfl, rfl, rfl, rfl, rfl⟩, fun _ h => absurd h List.not_mem_nil⟩
theorem fe_40 : FE [3] 2 40 "ClassFileReader$Links" "first" "LClassFileReader$Link;" false := List.forall_mem_cons.mpr ⟨⟨RX4, TX4, 3, 0, by decide, rfl, by decide, rfl, rfl, rfl, rfl, rfl⟩, fun _ h => absurd h List.not_mem_nil⟩
theorem fe_41 : FE [3] 2 41 "ClassFileReader$Links" "last" "LClassFileReader$Link;" false := List.forall_mem_cons.mpr ⟨⟨RX4, TX4, 3, 1, by decide, rfl, by decide, rfl, rfl, rfl, rfl, rfl⟩, fun _ h => absurd h List.not_mem_nil⟩
theorem fe_42 : FE [3] 0 42 "ClassFileReader$Links" "count" "I" false := List.forall_mem_cons.mpr ⟨⟨RX4, TX4, 3, 2, by decide, rfl, by decide, rfl, rfl, rfl, rfl, rfl⟩, fun _ h => absurd h List.not_mem_nil⟩
theorem fe_43 : FE [4] 2 43 "ClassFileReader$Members" "first" "LClassFileReader$Member;" false := List.forall_mem_cons.mpr ⟨⟨RX5, TX5, 3, 0, by decide, rfl, by decide, rfl, rfl, rfl, rfl, rfl⟩, fun _ h => absurd h List.not_mem_nil⟩
theorem fe_44 : FE [4] 2 44 "ClassFileReader$Members" "last" "LClassFileReader$Member;" false := List.forall_mem_cons.mpr ⟨⟨RX5, TX5, 3, 1, by decide, rfl, by decide, rfl, rfl, rfl, rfl, rfl⟩, fun _ h => absurd h List.not_mem_nil⟩
theorem fe_45 : FE [4] 0 45 "ClassFileReader$Members" "count" "I" false := List.forall_mem_cons.mpr ⟨⟨RX5, TX5, 3, 2, by decide, rfl, by decide, rfl, rfl, rfl, rfl, rfl⟩, fun _ h => absurd h List.not_mem_nil⟩
theorem fe_54 : FE [6, 7, 8, 9] 0 54 "ClassFileReader$Entry" "place" "I" true := List.forall_mem_cons.mpr ⟨⟨RX8, TX8, 2, 0, by decide, rfl, by decide, rfl, rfl, rfl, rfl, rfl⟩, List.forall_mem_cons.mpr ⟨⟨RX9, TX9, 3, 0, by decide, rfl, by decide, rfl, rfl, rfl, rfl, rfl⟩, List.forall_mem_cons.mpr ⟨⟨RX10, TX10, 4, 0, by decide, rfl, by decide, rfl, rfl, rfl, rfl, rfl⟩, List.forall_mem_cons.mpr ⟨⟨RX11, TX11, 4, 0, by decide, rfl, by decide, rfl, rfl, rfl, rfl, rfl⟩, fun _ h => absurd h List.not_mem_nil⟩⟩⟩⟩
theorem fe_55 : FE [6] 2 55 "ClassFileReader$Text" "text" "Ljava/lang/String;" true := List.forall_mem_cons.mpr ⟨⟨RX8, TX8, 2, 1, by decide, rfl, by decide, rfl, rfl, rfl, rfl, rfl⟩, fun _ h => absurd h List.not_mem_nil⟩
theorem fe_56 : FE [7] 0 56 "ClassFileReader$Constant" "tag" "I" true := List.forall_mem_cons.mpr ⟨⟨RX9, TX9, 3, 1, by decide, rfl, by decide, rfl, rfl, rfl, rfl, rfl⟩, fun _ h => absurd h List.not_mem_nil⟩
theorem fe_57 : FE [7] 1 57 "ClassFileReader$Constant" "value" "J" true := List.forall_mem_cons.mpr ⟨⟨RX9, TX9, 3, 2, by decide, rfl, by decide, rfl, rfl, rfl, rfl, rfl⟩, fun _ h => absurd h List.not_mem_nil⟩
theorem fe_58 : FE [8] 0 58 "ClassFileReader$Named" "type" "Z" true := List.forall_mem_cons.mpr ⟨⟨RX10, TX10, 4, 1, by decide, rfl, by decide, rfl, rfl, rfl, rfl, rfl⟩, fun _ h => absurd h List.not_mem_nil⟩
theorem fe_59 : FE [8] 0 59 "ClassFileReader$Named" "index" "I" true := List.forall_mem_cons.mpr ⟨⟨RX10, TX10, 4, 2, by decide, rfl, by decide, rfl, rfl, rfl, rfl, rfl⟩, fun _ h => absurd h List.not_mem_nil⟩
theorem fe_60 : FE [8] 2 60 "ClassFileReader$Named" "text" "Ljava/lang/String;" false := List.forall_mem_cons.mpr ⟨⟨RX10, TX10, 4, 3, by decide, rfl, by decide, rfl, rfl, rfl, rfl, rfl⟩, fun _ h => absurd h List.not_mem_nil⟩
theorem fe_61 : FE [9] 0 61 "ClassFileReader$Pair" "nameType" "Z" true := List.forall_mem_cons.mpr ⟨⟨RX11, TX11, 4, 1, by decide, rfl, by decide, rfl, rfl, rfl, rfl, rfl⟩, fun _ h => absurd h List.not_mem_nil⟩
theorem fe_62 : FE [9] 0 62 "ClassFileReader$Pair" "first" "I" true := List.forall_mem_cons.mpr ⟨⟨RX11, TX11, 4, 2, by decide, rfl, by decide, rfl, rfl, rfl, rfl, rfl⟩, fun _ h => absurd h List.not_mem_nil⟩
theorem fe_63 : FE [9] 0 63 "ClassFileReader$Pair" "second" "I" true := List.forall_mem_cons.mpr ⟨⟨RX11, TX11, 4, 3, by decide, rfl, by decide, rfl, rfl, rfl, rfl, rfl⟩, fun _ h => absurd h List.not_mem_nil⟩
theorem fe_64 : FE [10] 2 64 "ClassFileReader$Link" "text" "Ljava/lang/String;" true := List.forall_mem_cons.mpr ⟨⟨RX12, TX12, 2, 0, by decide, rfl, by decide, rfl, rfl, rfl, rfl, rfl⟩, fun _ h => absurd h List.not_mem_nil⟩
theorem fe_65 : FE [10] 2 65 "ClassFileReader$Link" "next" "LClassFileReader$Link;" false := List.forall_mem_cons.mpr ⟨⟨RX12, TX12, 2, 1, by decide, rfl, by decide, rfl, rfl, rfl, rfl, rfl⟩, fun _ h => absurd h List.not_mem_nil⟩
theorem fe_66 : FE [11, 12, 13] 0 66 "ClassFileReader$Member" "flags" "I" true := List.forall_mem_cons.mpr ⟨⟨RX13, TX13, 7, 3, by decide, rfl, by decide, rfl, rfl, rfl, rfl, rfl⟩, List.forall_mem_cons.mpr ⟨⟨RX14, TX14, 8, 3, by decide, rfl, by decide, rfl, rfl, rfl, rfl, rfl⟩, List.forall_mem_cons.mpr ⟨⟨RX15, TX15, 8, 3, by decide, rfl, by decide, rfl, rfl, rfl, rfl, rfl⟩, fun _ h => absurd h List.not_mem_nil⟩⟩⟩
theorem fe_67 : FE [11, 12, 13] 2 67 "ClassFileReader$Member" "name" "Ljava/lang/String;" true := List.forall_mem_cons.mpr ⟨⟨RX13, TX13, 7, 4, by decide, rfl, by decide, rfl, rfl, rfl, rfl, rfl⟩, List.forall_mem_cons.mpr ⟨⟨RX14, TX14, 8, 4, by decide, rfl, by decide, rfl, rfl, rfl, rfl, rfl⟩, List.forall_mem_cons.mpr ⟨⟨RX15, TX15, 8, 4, by decide, rfl, by decide, rfl, rfl, rfl, rfl, rfl⟩, fun _ h => absurd h List.not_mem_nil⟩⟩⟩
theorem fe_68 : FE [11, 12, 13] 2 68 "ClassFileReader$Member" "type" "Ljava/lang/String;" true := List.forall_mem_cons.mpr ⟨⟨RX13, TX13, 7, 5, by decide, rfl, by decide, rfl, rfl, rfl, rfl, rfl⟩, List.forall_mem_cons.mpr ⟨⟨RX14, TX14, 8, 5, by decide, rfl, by decide, rfl, rfl, rfl, rfl, rfl⟩, List.forall_mem_cons.mpr ⟨⟨RX15, TX15, 8, 5, by decide, rfl, by decide, rfl, rfl, rfl, rfl, rfl⟩, fun _ h => absurd h List.not_mem_nil⟩⟩⟩
theorem fe_69 : FE [11, 12, 13] 2 69 "ClassFileReader$Member" "next" "LClassFileReader$Member;" false := List.forall_mem_cons.mpr ⟨⟨RX13, TX13, 7, 6, by decide, rfl, by decide, rfl, rfl, rfl, rfl, rfl⟩, List.forall_mem_cons.mpr ⟨⟨RX14, TX14, 8, 6, by decide, rfl, by decide, rfl, rfl, rfl, rfl, rfl⟩, List.forall_mem_cons.mpr ⟨⟨RX15, TX15, 8, 6, by decide, rfl, by decide, rfl, rfl, rfl, rfl, rfl⟩, fun _ h => absurd h List.not_mem_nil⟩⟩⟩
theorem fe_70 : FE [12] 2 70 "ClassFileReader$Method" "exceptions" "LClassFileReader$Links;" true := List.forall_mem_cons.mpr ⟨⟨RX14, TX14, 8, 7, by decide, rfl, by decide, rfl, rfl, rfl, rfl, rfl⟩, fun _ h => absurd h List.not_mem_nil⟩
theorem fe_71 : FE [13] 1 71 "ClassFileReader$Field" "constant" "J" false := List.forall_mem_cons.mpr ⟨⟨RX15, TX15, 8, 7, by decide, rfl, by decide, rfl, rfl, rfl, rfl, rfl⟩, fun _ h => absurd h List.not_mem_nil⟩
theorem fe_72 : FE [17] 2 72 "java/lang/String" "value" "[B" true := List.forall_mem_cons.mpr ⟨⟨RJ2, TJ2, 4, 0, by decide, rfl, by decide, rfl, rfl, rfl, rfl, rfl⟩, fun _ h => absurd h List.not_mem_nil⟩
theorem fe_73 : FE [17] 0 73 "java/lang/String" "coder" "B" true := List.forall_mem_cons.mpr ⟨⟨RJ2, TJ2, 4, 1, by decide, rfl, by decide, rfl, rfl, rfl, rfl, rfl⟩, fun _ h => absurd h List.not_mem_nil⟩
theorem fe_74 : FE [17] 0 74 "java/lang/String" "hash" "I" false := List.forall_mem_cons.mpr ⟨⟨RJ2, TJ2, 4, 2, by decide, rfl, by decide, rfl, rfl, rfl, rfl, rfl⟩, fun _ h => absurd h List.not_mem_nil⟩
theorem fe_75 : FE [17] 0 75 "java/lang/String" "hashIsZero" "Z" false := List.forall_mem_cons.mpr ⟨⟨RJ2, TJ2, 4, 3, by decide, rfl, by decide, rfl, rfl, rfl, rfl, rfl⟩, fun _ h => absurd h List.not_mem_nil⟩
theorem fe_76 : FE [15] 2 76 "java/lang/AbstractStringBuilder" "value" "[B" false := List.forall_mem_cons.mpr ⟨⟨RJ1, TJ1, 4, 0, by decide, rfl, by decide, rfl, rfl, rfl, rfl, rfl⟩, fun _ h => absurd h List.not_mem_nil⟩
theorem fe_77 : FE [15] 0 77 "java/lang/AbstractStringBuilder" "coder" "B" false := List.forall_mem_cons.mpr ⟨⟨RJ1, TJ1, 4, 1, by decide, rfl, by decide, rfl, rfl, rfl, rfl, rfl⟩, fun _ h => absurd h List.not_mem_nil⟩
theorem fe_78 : FE [15] 0 78 "java/lang/AbstractStringBuilder" "maybeLatin1" "Z" false := List.forall_mem_cons.mpr ⟨⟨RJ1, TJ1, 4, 2, by decide, rfl, by decide, rfl, rfl, rfl, rfl, rfl⟩, fun _ h => absurd h List.not_mem_nil⟩
theorem fe_79 : FE [15] 0 79 "java/lang/AbstractStringBuilder" "count" "I" false := List.forall_mem_cons.mpr ⟨⟨RJ1, TJ1, 4, 3, by decide, rfl, by decide, rfl, rfl, rfl, rfl, rfl⟩, fun _ h => absurd h List.not_mem_nil⟩
end
section
set_option maxRecDepth 100000
theorem SD.rf {S : HS} {b : Nat} : SD S S b := ⟨fun _ => rfl, fun _ => rfl, fun _ => rfl, rfl, fun _ => rfl, fun _ => rfl, fun _ => rfl⟩
/-- between an invocation's start and behind a new cell -/
theorem Bs.push {G : GT} {S0 S S' : HS} {H H' : Heap} {locs : List Loc} (h : Bs G S0 S H locs) (hr : Rep G S' H' ∧ Mono S S') (h1 : hB S' ≤ hB S) (h2 : hU S' ≤ hU S) : Bs G S0 S' H' locs :=
  ⟨hr.1, h.2.1, Nat.le_trans h1 h.2.2.1, Nat.le_trans h2 h.2.2.2.1, h.2.2.2.2.tr hr.2⟩
theorem arrV_upd (cA : ClassId) (n : Nat) (f : Nat → Int32) (j : Nat) (x : Int32) : (vp_cell cA (n, .inl f)).setSlot j (.int x) = vp_cell cA (n, .inl (fun k => if k = j then x else f k)) := by
  rw [vp_cell_i, vp_cell_i, arrV_store]
  congr 2
  funext q
  by_cases hq : q = j
  · subst hq
    simp [updV]
  · simp [updV, hq]
theorem arrV_updq (cA : ClassId) (n : Nat) (f : Nat → Option Nat) (j : Nat) (x : Option Nat) : (vp_cell cA (n, .inr (.inr (.inr (.inr f))))).setSlot j (va_rf x) = vp_cell cA (n, .inr (.inr (.inr (.inr (fun k => if k = j then x else f k))))) := by
  rw [vp_cell_q, vp_cell_q, arrV_store]
  congr 2
  funext q
  by_cases hq : q = j
  · subst hq
    simp [updV]
  · simp [updV, hq]
/-- 1 for an object of one of these kinds -/
def isI (r : Rf) (cs : List Nat) : Int32 := match r with
  | none => 0
  | some q => if q.1 ∈ cs then 1 else 0
/-- null, or of one of these kinds -/
def kin (r : Rf) (cs : List Nat) : Prop := ∀ q, r = some q → q.1 ∈ cs
section YC
variable {I : Iv} {own : String} {cc : ByteArray} {nL : Nat} {ret : Option FieldType} {d : Nat} {hs : List (Nat × Nat × Nat × Nat)} {ini : Bool} {O : OA → HS → Prop} {pc : Nat} {ls : List (Option AV)} {st : List AV} {S : HS}
theorem y_iald {a : Nat} {t : List Int32} {i : Int32} (cx : Cx I own cc nL ret d hs ini) (hd : decode cc pc = .ok (.iaload, 1)) (hin : vp_in i (hN S a)) (k : Y Eq I O (pc + 1) ls (vI (hA S a i.toNatClampNeg) :: st) S) : Y Eq I O pc ls (vI i :: vR (some (100, a, t)) :: st) S := by
  obtain ⟨p, l, e, R, s, m, args, below, meth, c0, G, S0⟩ := I
  obtain ⟨hx, hb, hml, hown, hts, hE, -⟩ := cx
  intro S' H locs la hS hbs hv hw1 hw2
  subst hS
  have hat := (hbs.1.at hw2.2.1 rfl).2.2
  exact va_iald (D := G.1) (cl := clW) (cA := G.2.1 0) (n := hN S a) (f := hA S a) hx hb hE.1 (va_P.one hat) 0 0 rfl rfl hin hd (k S H locs la rfl hbs hv hw1 ⟨trivial, hw2.2.2⟩)
theorem y_bald {a : Nat} {t : List Int32} {i : Int32} (cx : Cx I own cc nL ret d hs ini) (hd : decode cc pc = .ok (.baload, 1)) (hin : vp_in i (hN S a)) (k : Y Eq I O (pc + 1) ls (vI (hY S a i.toNatClampNeg) :: st) S) : Y Eq I O pc ls (vI i :: vR (some (101, a, t)) :: st) S := by
  obtain ⟨p, l, e, R, s, m, args, below, meth, c0, G, S0⟩ := I
  obtain ⟨hx, hb, hml, hown, hts, hE, -⟩ := cx
  intro S' H locs la hS hbs hv hw1 hw2
  subst hS
  have hat := (hbs.1.at hw2.2.1 rfl).2.2
  exact va_bald (D := G.1) (cl := clW) (cA := G.2.1 1) (n := hN S a) (f := hY S a) hx hb hE.1 (va_P.one hat) 0 1 rfl rfl hin hd (k S H locs la rfl hbs hv hw1 ⟨trivial, hw2.2.2⟩)
theorem y_aald {a : Nat} {t : List Int32} {i : Int32} (cx : Cx I own cc nL ret d hs ini) (hd : decode cc pc = .ok (.aaload, 1)) (hin : vp_in i (hN S a)) (k : Y Eq I O (pc + 1) ls (vR (hP S a i.toNatClampNeg) :: st) S) : Y Eq I O pc ls (vI i :: vR (some (102, a, t)) :: st) S := by
  obtain ⟨p, l, e, R, s, m, args, below, meth, c0, G, S0⟩ := I
  obtain ⟨hx, hb, hml, hown, hts, hE, -⟩ := cx
  intro S' H locs la hS hbs hv hw1 hw2
  subst hS
  have hat := (hbs.1.at hw2.2.1 rfl).2.2
  exact va_aldq (D := G.1) (cl := clW) (cA := G.2.1 2) (C := "ClassFileReader$Entry") (n := hN S a) (f := fun k => (hP S a k).map (fun (q : Nat × Nat × List Int32) => q.2.1)) hx hb hE.1 (va_P.one hat) 0 2 rfl rfl hin hd (k S H locs la rfl hbs hv hw1 ⟨hbs.1.2.2.2.2.2.1 _ _, hw2.2.2⟩)
/-- one array's element is written, in the machine and in the field heap -/
theorem y_arr {c a : Nat} {t : List Int32} {S1 : HS} {G : GT} {S0 : HS} {H H' : Heap} {locs : List Loc} {i : Nat} (hbs : Bs G S0 S H locs) (hca : hC S a = some (c, t)) (hw : wr c = true)
    (hC' : ∀ b, hC S1 b = hC S b) (hZ' : hZ S1 = hZ S) (hB' : hB S1 = hB S) (hU' : hU S1 = hU S) (ho : ∀ b, b ≠ a → SD S S1 b) (hR' : ∀ f b, hR S1 f b = hR S f b) (hP' : ∀ k, lvR S (hP S1 a k)) (a2 : H'.size = H.size) (a3 : ∀ q, q ≠ a → H'[q]? = H[q]?) (hat : va_at G.1 clW (a, cE G S1 c a) H') :
    Bs G S0 S1 H' (locs ++ [⟨a, i⟩]) ∧ Mono S S1 := by
  have hm : Mono S S1 := fun b x hx => by rw [hC']; exact hx
  obtain ⟨ht, hza, -⟩ := hbs.1.at hca hw
  have hr' : Rep G S1 H' := hbs.1.set hca hza hC' hZ' ho (fun f => by rw [hR']; exact hbs.1.2.2.2.2.1 f a) hP' a2 a3 (Or.inl ⟨hw, ht, hza, hat⟩)
  exact ⟨hbs.put hr' hza hm hB' hU', hm⟩
theorem y_iast {a : Nat} {t : List Int32} {i v : Int32} (cx : Cx I own cc nL ret d hs ini) (hd : decode cc pc = .ok (.iastore, 1)) (hin : vp_in i (hN S a)) (k : Y Eq I O (pc + 1) ls st (sA S a i.toNatClampNeg v)) : Y Eq I O pc ls (vI v :: vI i :: vR (some (100, a, t)) :: st) S := by
  obtain ⟨p, l, e, R, s, m, args, below, meth, c0, G, S0⟩ := I
  obtain ⟨hx, hb, hml, hown, hts, hE, -⟩ := cx
  intro S' H locs la hS hbs hv hw1 hw2
  subst hS
  have hat := (hbs.1.at hw2.2.2.1 rfl).2.2
  have hc : H[a]? = some (vp_cell (G.2.1 0) (hN S a, .inl (hA S a))) := hat
  refine W.iast hx hb hc ((hE.1.2 0 _ rfl).1 (hN S a) (fun j => .int (hA S a j))) (fun q => by cases q) (by show ¬ (i < 0 ∨ (arrV _ _ _).slots.size ≤ _); rw [arrV_size]; exact hin) rfl rfl hd fun H' e z oq => ?_
  obtain ⟨b1, hm⟩ := y_arr (S1 := sA S a i.toNatClampNeg v) (i := i.toNatClampNeg) hbs hw2.2.2.1 rfl (fun _ => rfl) rfl rfl rfl (fun b hb => ⟨fun _ => rfl, fun _ => rfl, fun _ => rfl, rfl, fun j => by rw [hA_sA, if_neg (fun z => hb z.1)], fun _ => rfl, fun _ => rfl⟩) (fun _ _ => rfl) (fun k => hbs.1.2.2.2.2.2.1 a k) z oq (by
    show H'[a]? = some (vp_cell (G.2.1 0) (hN S a, .inl (hA (sA S a i.toNatClampNeg v) a)))
    rw [e, arrV_upd]
    congr 5
    funext j
    rw [hA_sA]
    simp)
  exact k (sA S a i.toNatClampNeg v) H' _ la rfl b1 hv (hw1.mono hm) (lvS.mono hm hw2.2.2.2)
theorem y_bast {a : Nat} {t : List Int32} {i v : Int32} (cx : Cx I own cc nL ret d hs ini) (hd : decode cc pc = .ok (.bastore, 1)) (hin : vp_in i (hN S a)) (hvb : v.toInt8.toInt32 = v) (k : Y Eq I O (pc + 1) ls st (sY S a i.toNatClampNeg v)) : Y Eq I O pc ls (vI v :: vI i :: vR (some (101, a, t)) :: st) S := by
  obtain ⟨p, l, e, R, s, m, args, below, meth, c0, G, S0⟩ := I
  obtain ⟨hx, hb, hml, hown, hts, hE, -⟩ := cx
  intro S' H locs la hS hbs hv hw1 hw2
  subst hS
  have hat := (hbs.1.at hw2.2.2.1 rfl).2.2
  have hc : H[a]? = some (vp_cell (G.2.1 1) (hN S a, .inl (hY S a))) := hat
  refine W.bast hx hb hc ((hE.1.2 1 _ rfl).1 (hN S a) (fun j => .int (hY S a j))) (fun q => by cases q) (by show ¬ (i < 0 ∨ (arrV _ _ _).slots.size ≤ _); rw [arrV_size]; exact hin) rfl rfl hd fun H' e z oq => ?_
  have hnv : narrow .byte (.int v) = .int v := by
    show Value.int v.toInt8.toInt32 = _
    rw [hvb]
  rw [hnv] at e
  obtain ⟨b1, hm⟩ := y_arr (S1 := sY S a i.toNatClampNeg v) (i := i.toNatClampNeg) hbs hw2.2.2.1 rfl (fun _ => rfl) rfl rfl rfl (fun b hb => ⟨fun _ => rfl, fun _ => rfl, fun _ => rfl, rfl, fun _ => rfl, fun j => by rw [hY_sY, if_neg (fun z => hb z.1)], fun _ => rfl⟩) (fun _ _ => rfl) (fun k => hbs.1.2.2.2.2.2.1 a k) z oq (by
    show H'[a]? = some (vp_cell (G.2.1 1) (hN S a, .inl (hY (sY S a i.toNatClampNeg v) a)))
    rw [e, arrV_upd]
    congr 5
    funext j
    rw [hY_sY]
    simp)
  exact k (sY S a i.toNatClampNeg v) H' _ la rfl b1 hv (hw1.mono hm) (lvS.mono hm hw2.2.2.2)
theorem y_recv {G : GT} {S0 : HS} {H : Heap} {locs : List Loc} {s : State} {c a : Nat} {t : List Int32} (hE : EnvT G s) (hbs : Bs G S0 S H locs) (hob : ob c = true) (hca : hC S a = some (c, t)) : ∃ cell : Cell, H[a]? = some cell ∧ cell.vm.isStatics = false ∧ cell.vm = .none ∧ s.vm.findClass (cn (ck c)) = some cell.cls := by
  have hat := (hbs.1.at hca (ob_wr hob)).2.2
  rw [cE_obj hob] at hat
  obtain ⟨T, N, hcl⟩ := cn_ok (ck c) (ck_lt hob)
  obtain ⟨r, h1, cell, q1, q2, q3, -⟩ := hat
  exact ⟨cell, q1, by rw [q3]; rfl, q3, by rw [q2]; exact (hE.1.1 _ _ hcl).2.1⟩
theorem y_aast {a : Nat} {t : List Int32} {i : Int32} {r : Rf} (cs : List Nat) (hcs : ∀ c ∈ cs, ob c = true ∧ Cond.castable (cn (ck c)) "ClassFileReader$Entry" ∈ lw_tbl) (cx : Cx I own cc nL ret d hs ini) (hd : decode cc pc = .ok (.aastore, 1)) (hin : vp_in i (hN S a)) (hr : kin r cs) (k : Y Eq I O (pc + 1) ls st (sP S a i.toNatClampNeg r)) : Y Eq I O pc ls (vR r :: vI i :: vR (some (102, a, t)) :: st) S := by
  obtain ⟨p, l, e, R, s, m, args, below, meth, c0, G, S0⟩ := I
  obtain ⟨hx, hb, hml, hown, hts, hE, -⟩ := cx
  intro S' H locs la hS hbs hv hw1 hw2
  subst hS
  have hat := (hbs.1.at hw2.2.2.1 rfl).2.2
  have hc : H[a]? = some (vp_cell (G.2.1 2) (hN S a, .inr (.inr (.inr (.inr (fun k => (hP S a k).map (fun q => q.2.1))))))) := hat
  have fin : ∀ H' : Heap, H'[a]? = some ((vp_cell (G.2.1 2) (hN S a, .inr (.inr (.inr (.inr (fun k => (hP S a k).map (fun q => q.2.1))))))).setSlot i.toNatClampNeg (cr r)) → H'.size = H.size → (∀ q, q ≠ a → H'[q]? = H[q]?) → W p l e R s m args below meth c0 H' (locs ++ [⟨a, i.toNatClampNeg⟩]) (hB S0 - hB S) (hU S0 - hU S) (Fin' Eq below G S0 O s) (F0 m (pc + 1) la (st.map cv)) := by
    intro H' e z oq
    obtain ⟨b1, hm⟩ := y_arr (S1 := sP S a i.toNatClampNeg r) (i := i.toNatClampNeg) hbs hw2.2.2.1 rfl (fun _ => rfl) rfl rfl rfl (fun b hb => ⟨fun _ => rfl, fun _ => rfl, fun _ => rfl, rfl, fun _ => rfl, fun _ => rfl, fun j => by rw [hP_sP, if_neg (fun z => hb z.1)]⟩) (fun _ _ => rfl) (fun k => by
        rw [hP_sP]
        split
        · exact hw2.1
        · exact hbs.1.2.2.2.2.2.1 a k) z oq (by
      show H'[a]? = some (vp_cell (G.2.1 2) (hN S a, .inr (.inr (.inr (.inr (fun k => (hP (sP S a i.toNatClampNeg r) a k).map (fun q => q.2.1)))))))
      rw [e]
      unfold cr
      rw [arrV_updq]
      congr 8
      funext j
      rw [hP_sP]
      by_cases hj : j = i.toNatClampNeg
      · rw [if_pos hj, if_pos ⟨rfl, hj⟩]
      · rw [if_neg hj, if_neg (fun z => hj z.2)])
    exact k (sP S a i.toNatClampNeg r) H' _ la rfl b1 hv (hw1.mono hm) (lvS.mono hm hw2.2.2.2)
  cases r with
  | none => exact va_WaastN (C := "ClassFileReader$Entry") hx hb hc ((hE.1.2 2 _ rfl).1 (hN S a) (fun j => va_rf ((hP S a j).map (fun q => q.2.1)))) (fun h => by cases h) (by show ¬ (i < 0 ∨ (arrV _ _ _).slots.size ≤ _); rw [arrV_size]; exact hin) rfl rfl hd fin
  | some q =>
    obtain ⟨hob, hca⟩ := hcs q.1 (hr q rfl)
    obtain ⟨cellV, g1, g4, g3, g2⟩ := y_recv hE hbs hob hw2.1
    obtain ⟨kA, comp, k1, k2, k3, -⟩ := (hE.1.2 2 _ rfl).2
    obtain ⟨kE, hkE, -⟩ := Vm.findClass_spec k3
    obtain ⟨c1, t1, f1, f2, f3⟩ := Cond.castable_spec (va_Nw.use (A := args) rfl (hE.2.1 _ hca rfl))
    cases g2.symm.trans f1
    cases k3.symm.trans f2
    obtain ⟨kC, hkC, -⟩ := Vm.findClass_spec g2
    exact W.aast hx hb hc (fun q h => by cases h) (fun h => by cases h) k1 k2 rfl hkE ⟨fun z => hin (Or.inl z), by show _ < (arrV _ _ _).slots.size; rw [arrV_size]; exact Nat.not_le.mp fun z => hin (Or.inr z)⟩ g1 (fun q h => by rw [g3] at h; cases h) hkC f3 rfl rfl hd fin
theorem y_alen {c a : Nat} {t : List Int32} (cx : Cx I own cc nL ret d hs ini) (hd : decode cc pc = .ok (.arraylength, 1)) (hc : c ∈ [100, 101, 102]) (k : Y Eq I O (pc + 1) ls (vI (nI (hN S a)) :: st) S) : Y Eq I O pc ls (vR (some (c, a, t)) :: st) S := by
  obtain ⟨p, l, e, R, s, m, args, below, meth, c0, G, S0⟩ := I
  obtain ⟨hx, hb, hml, hown, hts, hE, -⟩ := cx
  intro S' H locs la hS hbs hv hw1 hw2
  subst hS
  have k := k S H locs la rfl hbs hv hw1 ⟨trivial, hw2.2⟩
  simp only [List.mem_cons, List.not_mem_nil, or_false] at hc
  rcases hc with rfl | rfl | rfl
  · exact va_alen (D := G.1) (cl := clW) (cA := G.2.1 0) (x := (hN S a, .inl (hA S a))) hx hb hE.1 (va_P.one (hbs.1.at hw2.1 rfl).2.2) 0 0 rfl rfl rfl hd k
  · exact va_alen (D := G.1) (cl := clW) (cA := G.2.1 1) (x := (hN S a, .inl (hY S a))) hx hb hE.1 (va_P.one (hbs.1.at hw2.1 rfl).2.2) 0 1 rfl rfl rfl hd k
  · exact va_alen (D := G.1) (cl := clW) (cA := G.2.1 2) (x := (hN S a, .inr (.inr (.inr (.inr (fun k => (hP S a k).map (fun q => q.2.1))))))) hx hb hE.1 (va_P.one (hbs.1.at hw2.1 rfl).2.2) 0 2 rfl rfl rfl hd k
end YC
end
section
set_option maxRecDepth 100000
theorem dz_fv {S : HS} {c n a : Nat} (ha : a = hZ S) (q : Nat × Nat) : fv (sO S c n) q a = dz q := by
  obtain ⟨q1, q2⟩ := q
  subst ha
  match q1 with
  | 0 => show Value.int (hI (sO S c n) q2 (hZ S)) = _; rw [hI_sO, if_pos rfl]; rfl
  | 1 => show Value.long (hL (sO S c n) q2 (hZ S)) = _; rw [hL_sO, if_pos rfl]; rfl
  | k + 2 => show cr (hR (sO S c n) q2 (hZ S)) = _; rw [hR_sO, if_pos rfl]; rfl
theorem sO_sd {S : HS} {c n b : Nat} (hb : b ≠ hZ S) : SD S (sO S c n) b := ⟨fun f => by rw [hI_sO, if_neg hb], fun f => by rw [hL_sO, if_neg hb], fun f => by rw [hR_sO, if_neg hb], rfl, fun _ => rfl, fun _ => rfl, fun _ => rfl⟩
theorem sN_sd {S : HS} {c n b : Nat} (hb : b ≠ hZ S) : SD S (sN S c n) b := ⟨fun _ => rfl, fun _ => rfl, fun _ => rfl, by rw [hN_sN, if_neg hb], fun f => by rw [hA_sN, if_neg hb], fun f => by rw [hY_sN, if_neg hb], fun f => by rw [hP_sN, if_neg hb]⟩
section YN
variable {I : Iv} {own : String} {cc : ByteArray} {nL : Nat} {ret : Option FieldType} {d : Nat} {hs : List (Nat × Nat × Nat × Nat)} {ini : Bool} {O : OA → HS → Prop} {pc : Nat} {ls : List (Option AV)} {st : List AV} {S : HS}
/-- new, of a kind that is an object (or 5, a Malformed) -/
theorem y_new {c ci N idx : Nat} {C : String} {T : u_T} (cx : Cx I own cc nL ret d hs ini) (hc : (ob c = true ∧ ci = ck c) ∨ (c = 5 ∧ ci = 5)) (hcl : clW[ci]? = some (C, T, N)) (hq1 : Cond.classLink own idx C ∈ lw_all) (hq2 : Cond.instantiable C N ∈ lw_all) (hq3 : Cond.initialized C ∈ lw_all)
    (hd : decode cc pc = .ok (.new idx, 3)) (h1 : 1 ≤ hB S) (h2 : N ≤ hU S) (k : Y Eq I O (pc + 3) ls (vR (some (c, hZ S, [])) :: st) (sO S c N)) : Y Eq I O pc ls st S := by
  obtain ⟨p, l, e, R, s, m, args, below, meth, c0, G, S0⟩ := I
  obtain ⟨hx, hb, hml, hown, hts, hE, -, -, hR0, -⟩ := cx
  intro S' H locs la hS hbs hv hw1 hw2
  subst hS
  subst hR0
  obtain ⟨hin, -⟩ := cw_ok ci C T N hcl
  obtain ⟨ty, hty, hdf⟩ := cw_def ci C T N hcl
  have hKn := hE.1.1 ci _ hcl
  have b3 := hbs.2.2.1
  have b4 := hbs.2.2.2.1
  refine W.newcK hx hb hown (hts _ hq1) (hts _ hq2) (hts _ hq3) rfl hd (by show _ ≤ hB S0; omega) (by show _ ≤ hU S0; omega) hKn.2.1 hbs.1.1 fun H1 kC hkC e1 z1 o1 => ?_
  have hat : va_at G.1 clW (hZ S, .inr (ci, (lay ci).map dz)) H1 := ⟨_, hcl, (u_born ty hts hin hKn hkC e1 hty).to hdf⟩
  have hfv : (lay ci).map dz = (lay ci).map (fun q => fv (sO S c N) q (hZ S)) := List.map_congr_left (fun q _ => (dz_fv rfl q).symm)
  have hr := hbs.1.push (S' := sO S c N) (H1 := H1) (c := c) (fun _ => rfl) rfl (fun b hb => sO_sd hb) (fun f => Or.inl (by rw [hR_sO, if_pos rfl])) (fun k => Or.inr rfl) (by rw [z1, hbs.1.1]) (by intro q hq; exact o1 q (by rw [← hbs.1.1]; exact hq)) (by
    have hz : gz G ≤ hZ S := by have := hbs.1.2.1; have := hbs.1.1; omega
    rcases hc with ⟨h, e⟩ | ⟨h, e⟩
    · subst e
      refine Or.inl ⟨ob_wr h, rfl, hz, ?_⟩
      rw [cE_obj h, ← hfv]
      exact hat
    · subst h
      subst e
      refine Or.inr (Or.inl ⟨rfl, rfl, hz, fun cell hc => by rw [e1] at hc; cases hc; exact ⟨rfl, rfl⟩, [.null, .null, .null, .null, .null, .int 0], rfl, fun _ => rfl, ?_⟩)
      rw [hI_sO, if_pos rfl, hI_sO, if_pos rfl]
      exact hat)
  refine W.cs (cells' := hB S0 - hB (sO S c N)) (slots' := hU S0 - hU (sO S c N)) (by rw [hB_sO]; omega) (by rw [hU_sO]; omega) ?_
  exact k (sO S c N) H1 locs la rfl (hbs.push hr (by rw [hB_sO]; omega) (by rw [hU_sO]; omega)) hv (hw1.mono hr.2) ⟨by show hC (sO S c N) (hZ S) = some (c, []); rw [hC_sO, if_pos rfl], lvS.mono hr.2 hw2⟩
theorem y_newK {c : Nat} {atype : ArrayType} {n : Int32} {w : Nat} (hcw : (c = 100 ∧ w = 0 ∧ atype = .int) ∨ (c = 101 ∧ w = 1 ∧ atype = .byte)) (cx : Cx I own cc nL ret d hs ini) (hq : Cond.arrayClass (newarray.typeOf atype) ∈ lw_all) (hd : decode cc pc = .ok (.newarray atype, 2)) (hn : ¬ n < 0) (hn2 : n.toNatClampNeg ≤ 65536) (h1 : 1 ≤ hB S) (h2 : n.toNatClampNeg ≤ hU S)
    (k : Y Eq I O (pc + 2) ls (vR (some (c, hZ S, [])) :: st) (sN S c n.toNatClampNeg)) : Y Eq I O pc ls (vI n :: st) S := by
  obtain ⟨p, l, e, R, s, m, args, below, meth, c0, G, S0⟩ := I
  obtain ⟨hx, hb, hml, hown, hts, hE, -, -, hR0, -⟩ := cx
  intro S' H locs la hS hbs hv hw1 hw2
  subst hS
  subst hR0
  have b3 := hbs.2.2.1
  have b4 := hbs.2.2.2.1
  refine va_newaK hx hb (hts _ hq) rfl hd rfl hn rfl (by rcases hcw with ⟨_, _, rfl⟩ | ⟨_, _, rfl⟩ <;> (simp only [newarray.typeOf, componentBytes]; omega)) (by show _ ≤ hB S0; omega) (by show _ ≤ hU S0; omega) hbs.1.1 fun H1 cA e1 z1 o1 hAr hNm => ?_
  have hz : gz G ≤ hZ S := by have := hbs.1.2.1; have := hbs.1.1; omega
  have hr := hbs.1.push (S' := sN S c n.toNatClampNeg) (H1 := H1) (c := c) (fun _ => rfl) rfl (fun b hb => sN_sd hb) (fun f => Or.inr rfl) (fun k => Or.inl (by rw [hP_sN, if_pos rfl])) (by rw [z1, hbs.1.1]) (by intro q hq; exact o1 q (by rw [← hbs.1.1]; exact hq)) (by
    rcases hcw with ⟨rfl, rfl, rfl⟩ | ⟨rfl, rfl, rfl⟩
    · refine Or.inl ⟨rfl, rfl, hz, ?_⟩
      have hcA : cA = G.2.1 0 := Option.some.inj (hNm.symm.trans (hE.1.2 0 _ rfl).2)
      show H1[hZ S]? = some (vp_cell (G.2.1 0) (hN (sN S 100 n.toNatClampNeg) (hZ S), .inl (hA (sN S 100 n.toNatClampNeg) (hZ S))))
      rw [e1, vp_cell_i, hcA, hN_sN, if_pos rfl]
      congr 2
      funext j
      rw [hA_sN, if_pos rfl]
      rfl
    · refine Or.inl ⟨rfl, rfl, hz, ?_⟩
      have hcA : cA = G.2.1 1 := Option.some.inj (hNm.symm.trans (hE.1.2 1 _ rfl).2)
      show H1[hZ S]? = some (vp_cell (G.2.1 1) (hN (sN S 101 n.toNatClampNeg) (hZ S), .inl (hY (sN S 101 n.toNatClampNeg) (hZ S))))
      rw [e1, vp_cell_i, hcA, hN_sN, if_pos rfl]
      congr 2
      funext j
      rw [hY_sN, if_pos rfl]
      rfl)
  refine W.cs (cells' := hB S0 - hB (sN S c n.toNatClampNeg)) (slots' := hU S0 - hU (sN S c n.toNatClampNeg)) (by rw [hB_sN]; omega) (by rw [hU_sN]; omega) ?_
  exact k (sN S c n.toNatClampNeg) H1 locs la rfl (hbs.push hr (by rw [hB_sN]; omega) (by rw [hU_sN]; omega)) hv (hw1.mono hr.2) ⟨by show hC (sN S c n.toNatClampNeg) (hZ S) = some (c, []); rw [hC_sN, if_pos rfl], lvS.mono hr.2 hw2.2⟩
theorem y_newi {n : Int32} (cx : Cx I own cc nL ret d hs ini) (hq : Cond.arrayClass .int ∈ lw_all) (hd : decode cc pc = .ok (.newarray .int, 2)) (hn : ¬ n < 0) (hn2 : n.toNatClampNeg ≤ 65536) (h1 : 1 ≤ hB S) (h2 : n.toNatClampNeg ≤ hU S)
    (k : Y Eq I O (pc + 2) ls (vR (some (100, hZ S, [])) :: st) (sN S 100 n.toNatClampNeg)) : Y Eq I O pc ls (vI n :: st) S := y_newK (Or.inl ⟨rfl, rfl, rfl⟩) cx hq hd hn hn2 h1 h2 k
theorem y_newb {n : Int32} (cx : Cx I own cc nL ret d hs ini) (hq : Cond.arrayClass .byte ∈ lw_all) (hd : decode cc pc = .ok (.newarray .byte, 2)) (hn : ¬ n < 0) (hn2 : n.toNatClampNeg ≤ 65536) (h1 : 1 ≤ hB S) (h2 : n.toNatClampNeg ≤ hU S)
    (k : Y Eq I O (pc + 2) ls (vR (some (101, hZ S, [])) :: st) (sN S 101 n.toNatClampNeg)) : Y Eq I O pc ls (vI n :: st) S := y_newK (Or.inr ⟨rfl, rfl, rfl⟩) cx hq hd hn hn2 h1 h2 k
theorem y_newE {n : Int32} {idx : Nat} (cx : Cx I own cc nL ret d hs ini) (hq : Cond.classLink own idx "ClassFileReader$Entry" ∈ lw_all) (hd : decode cc pc = .ok (.anewarray idx, 3)) (hn : ¬ n < 0) (hn2 : n.toNatClampNeg ≤ 65536) (h1 : 1 ≤ hB S) (h2 : n.toNatClampNeg ≤ hU S)
    (k : Y Eq I O (pc + 3) ls (vR (some (102, hZ S, [])) :: st) (sN S 102 n.toNatClampNeg)) : Y Eq I O pc ls (vI n :: st) S := by
  obtain ⟨p, l, e, R, s, m, args, below, meth, c0, G, S0⟩ := I
  obtain ⟨hx, hb, hml, hown, hts, hE, -, -, hR0, -⟩ := cx
  intro S' H locs la hS hbs hv hw1 hw2
  subst hS
  subst hR0
  have b3 := hbs.2.2.1
  have b4 := hbs.2.2.2.1
  refine W.anew hx hb hown (hts _ hq) (va_AO.use hE.2.2.2.2.2.2.2.1) rfl hd rfl hn (by omega) (by show _ ≤ hB S0; omega) (by show _ ≤ hU S0; omega) fun cA kA comp f1 f2 f3 f4 => ?_
  generalize hH1 : H.push ({ cls := cA, slots := Array.replicate n.toNatClampNeg .null, vm := .none } : Cell) = H1
  have z1 : H1.size = H.size + 1 := by rw [← hH1, Array.size_push]
  have e1 : H1[H.size]? = some (arrV cA n.toNatClampNeg (fun _ => .null)) := by rw [← hH1, Array.getElem?_push_size, ← arrV_new]
  have o1 : ∀ q : Nat, q < H.size → H1[q]? = H[q]? := fun q hq => by rw [← hH1, Array.getElem?_push, if_neg (Nat.ne_of_lt hq)]
  have hz : gz G ≤ hZ S := by have := hbs.1.2.1; have := hbs.1.1; omega
  have hr := hbs.1.push (S' := sN S 102 n.toNatClampNeg) (H1 := H1) (c := 102) (fun _ => rfl) rfl (fun b hb => sN_sd hb) (fun f => Or.inr rfl) (fun k => Or.inl (by rw [hP_sN, if_pos rfl])) z1 o1 (by
    refine Or.inl ⟨rfl, rfl, hz, ?_⟩
    obtain ⟨kA', comp', -, -, -, hNm⟩ := (hE.1.2 2 _ rfl).2
    have hcA : cA = G.2.1 2 := Option.some.inj (f1.symm.trans hNm)
    show H1[hZ S]? = some (vp_cell (G.2.1 2) (hN (sN S 102 n.toNatClampNeg) (hZ S), .inr (.inr (.inr (.inr (fun k => (hP (sN S 102 n.toNatClampNeg) (hZ S) k).map (fun q => q.2.1)))))))
    rw [← hbs.1.1, e1, vp_cell_q, hcA, hbs.1.1, hN_sN, if_pos rfl]
    congr 2
    funext j
    rw [hP_sN, if_pos rfl]
    rfl)
  rw [hbs.1.1]
  refine W.cs (cells' := hB S0 - hB (sN S 102 n.toNatClampNeg)) (slots' := hU S0 - hU (sN S 102 n.toNatClampNeg)) (by rw [hB_sN]; omega) (by rw [hU_sN]; omega) ?_
  exact k (sN S 102 n.toNatClampNeg) H1 locs la rfl (hbs.push hr (by rw [hB_sN]; omega) (by rw [hU_sN]; omega)) hv (hw1.mono hr.2) ⟨by show hC (sN S 102 n.toNatClampNeg) (hZ S) = some (102, []); rw [hC_sN, if_pos rfl], lvS.mono hr.2 hw2.2⟩
/-- Object.<init> -/
theorem y_objInit {c a idx : Nat} {t : List Int32} (cx : Cx I own cc nL ret (d + 1) hs ini) (hq1 : Cond.methodLink own idx Lib.objectInit ∈ lw_all) (hq2 : Cond.instanceMethod Lib.objectInit ∈ lw_all) (hq3 : Cond.code Lib.objectInit ⟨#[0xb1]⟩ 1 none ∈ lw_all) (hd : decode cc pc = .ok (.invokespecial idx, 3)) (hlen : ls.length = nL) (hst : ((st.map cv).map fun v => v.category).sum ≤ 50) (k : Y Eq I O (pc + 3) ls st S) : Y Eq I O pc ls (vR (some (c, a, t)) :: st) S := by
  obtain ⟨p, l, e, R, s, m, args, below, meth, c0, G, S0⟩ := I
  obtain ⟨hx, hb, hml, hown, hts, hE, -, -, hR0, -⟩ := cx
  intro S' H locs la hS hbs hv hw1 hw2
  subst hS
  subst hR0
  exact W.objInit hx hb hown (hts _ hq1) (hts _ hq2) (hts _ hq3) rfl (by rw [hml, ← hlen, ← lc_len]; exact hv.1) rfl hd (by show 1 ≤ d + 1; omega) (by show _ ≤ 64 * (d + 1); simp only [JFrame.monitorRoom]; omega) (k S H locs la rfl hbs hv hw1 hw2.2)
/-- instanceof -/
theorem y_inst {nm : String} {idx : Nat} {r : Rf} (yes no : List Nat) (hy : ∀ c ∈ yes, ob c = true ∧ (cn (ck c) = nm ∨ Cond.castable (cn (ck c)) nm ∈ lw_tbl)) (hno : ∀ c ∈ no, ob c = true ∧ (cn (ck c), nm) ∈ ncW ∧ ¬ c ∈ yes) (cx : Cx I own cc nL ret d hs ini) (hq : Cond.classLink own idx nm ∈ lw_all) (hd : decode cc pc = .ok (.instanceof idx, 3)) (hr : kin r (yes ++ no)) (k : Y Eq I O (pc + 3) ls (vI (isI r yes) :: st) S) : Y Eq I O pc ls (vR r :: st) S := by
  obtain ⟨p, l, e, R, s, m, args, below, meth, c0, G, S0⟩ := I
  obtain ⟨hx, hb, hml, hown, hts, hE, -⟩ := cx
  intro S' H locs la hS hbs hv hw1 hw2
  subst hS
  have k := k S H locs la rfl hbs hv hw1 ⟨trivial, hw2.2⟩
  cases r with
  | none => exact lv_instN hx hb hd k
  | some q =>
    rcases List.mem_append.mp (hr q rfl) with z | z
    · obtain ⟨hob, hca⟩ := hy _ z
      obtain ⟨cell, g1, g4, g3, g2⟩ := y_recv hE hbs hob hw2.1
      have e1 : isI (some q) yes = 1 := if_pos z
      rw [e1] at k
      rcases hca with rfl | hca
      · exact va_instE hx hb hown (hts _ hq) ⟨cell, g1, g4, g2⟩ hd k
      · exact va_instY hx hb hown (hts _ hq) (hE.2.1 _ hca rfl) ⟨cell, g1, g4, g2⟩ hd k
    · obtain ⟨hob, hca, hn⟩ := hno _ z
      obtain ⟨cell, g1, g4, g3, g2⟩ := y_recv hE hbs hob hw2.1
      have e1 : isI (some q) yes = 0 := if_neg hn
      rw [e1] at k
      exact va_instNo hx hb hown (hts _ hq) (hE.2.2.2.2.2.2.2.2.1 _ hca) ⟨cell, g1, g4, g2⟩ hd k
/-- checkcast -/
theorem y_cast {nm : String} {idx : Nat} {r : Rf} (yes : List Nat) (hy : ∀ c ∈ yes, ob c = true ∧ (cn (ck c) = nm ∨ Cond.castable (cn (ck c)) nm ∈ lw_tbl)) (cx : Cx I own cc nL ret d hs ini) (hq : Cond.classLink own idx nm ∈ lw_all) (hd : decode cc pc = .ok (.checkcast idx, 3)) (hr : kin r yes) (k : Y Eq I O (pc + 3) ls (vR r :: st) S) : Y Eq I O pc ls (vR r :: st) S := by
  obtain ⟨p, l, e, R, s, m, args, below, meth, c0, G, S0⟩ := I
  obtain ⟨hx, hb, hml, hown, hts, hE, -⟩ := cx
  intro S' H locs la hS hbs hv hw1 hw2
  subst hS
  have k := k S H locs la rfl hbs hv hw1 hw2
  cases r with
  | none => exact lv_castN hx hb hd k
  | some q =>
    obtain ⟨hob, hca⟩ := hy _ (hr q rfl)
    obtain ⟨cell, g1, g4, g3, g2⟩ := y_recv hE hbs hob hw2.1
    rcases hca with rfl | hca
    · exact va_castE hx hb hown (hts _ hq) ⟨cell, g1, g4, g2⟩ hd k
    · exact va_castY hx hb hown (hts _ hq) (hE.2.1 _ hca rfl) ⟨cell, g1, g4, g2⟩ hd k
theorem y_ldc {idx : Nat} {v : Int32} {σ : Type} {ρ : σ → HS → Prop} {O : OA → σ → Prop} {x : σ} (cx : Cx I own cc nL ret d hs ini) (hq : Cond.constant own idx v ∈ lw_all) (hd : decode cc pc = .ok (.ldc idx, 2)) (k : Y ρ I O (pc + 2) ls (vI v :: st) x) : Y ρ I O pc ls st x := by
  obtain ⟨p, l, e, R, s, m, args, below, meth, c0, G, S0⟩ := I
  obtain ⟨hx, hb, hml, hown, hts, hE, -⟩ := cx
  intro S H locs la hS hbs hv hw1 hw2
  exact lv_ldc hx hb hown (hts _ hq) hd (k S H locs la hS hbs hv hw1 ⟨trivial, hw2⟩)
theorem y_ldcw {idx : Nat} {v : Int32} {σ : Type} {ρ : σ → HS → Prop} {O : OA → σ → Prop} {x : σ} (cx : Cx I own cc nL ret d hs ini) (hq : Cond.constant own idx v ∈ lw_all) (hd : decode cc pc = .ok (.ldc_w idx, 3)) (k : Y ρ I O (pc + 3) ls (vI v :: st) x) : Y ρ I O pc ls st x := by
  obtain ⟨p, l, e, R, s, m, args, below, meth, c0, G, S0⟩ := I
  obtain ⟨hx, hb, hml, hown, hts, hE, -⟩ := cx
  intro S H locs la hS hbs hv hw1 hw2
  exact lv_ldcw hx hb hown (hts _ hq) hd (k S H locs la hS hbs hv hw1 ⟨trivial, hw2⟩)
theorem y_ldc2 {idx : Nat} {v : Int64} {σ : Type} {ρ : σ → HS → Prop} {O : OA → σ → Prop} {x : σ} (cx : Cx I own cc nL ret d hs ini) (hq : Cond.constantLong own idx v ∈ lw_all) (hd : decode cc pc = .ok (.ldc2_w idx, 3)) (k : Y ρ I O (pc + 3) ls (vL v :: st) x) : Y ρ I O pc ls st x := by
  obtain ⟨p, l, e, R, s, m, args, below, meth, c0, G, S0⟩ := I
  obtain ⟨hx, hb, hml, hown, hts, hE, -⟩ := cx
  intro S H locs la hS hbs hv hw1 hw2
  exact lv_ldc2 hx hb hown (hts _ hq) hd (k S H locs la hS hbs hv hw1 ⟨trivial, hw2⟩)
/-- a String constant -/
theorem y_ldcS {idx j : Nat} {tx : String} (cx : Cx I own cc nL ret d hs ini) (hj : j < litN) (hq : litKey[j]? = some (own, idx, tx)) (hd : decode cc pc = .ok (.ldc idx, 2)) (k : ∀ a, Y Eq I O (pc + 2) ls (vR (some (16, a, litT j)) :: st) S) : Y Eq I O pc ls st S := by
  obtain ⟨p, l, e, R, s, m, args, below, meth, c0, G, S0⟩ := I
  obtain ⟨hx, hb, hml, hown, hts, hE, -⟩ := cx
  intro S' H locs la hS hbs hv hw1 hw2
  subst hS
  exact va_ldcS hx hb hown ((hE.2.2.1 j hj).2.2.2.2 _ hq) hd (k (gK G j) S H locs la rfl hbs hv hw1 ⟨(hbs.1.2.2.2.2.2.2 j hj).1, hw2⟩)
theorem w_ldcwS {p : Program} {l : Launch} {e : Env} {R : Room} {s : State} {m : MethodId} {args : Array Value} {below : List Frame} {meth : Method} {c : Code} {T : State} {locs : List Loc} {cells slots : Nat}
    (X : Stand p l e R s m args below meth c T locs cells slots) (hexec : p.tables.exec = Jvm.exec) {text : String} {index : Nat} {a : Addr} (hown : s.vm.findClass own = some m.cls)
    (hconst : (Cond.stringRef own index text).before args s = true) (hev : (Term.string own index).eval args s none [] s = some (.ref a)) {g : JFrame} (hg : g.method = m) (hdg : decode c.code g.pc = .ok (.ldc_w index, 3)) :
    ∀ target, Steps p.tables e below (T.setTop { g with pc := g.pc + 3, stack := .ref a :: g.stack }) target → Steps p.tables e below (T.setTop g) target := by
  obtain ⟨k, cf, i, a', hk, hcf, hcp, -, hr, hev'⟩ := Cond.stringRef_spec hown hconst
  cases hev.symm.trans hev'
  obtain ⟨k', hk', he⟩ := X.warmed.alike.2.2 _ _ hk
  have hr' : k'.resolved[index]? = some (some (.string a)) := by
    rcases X.warmed.entry hk hk' index with h | ⟨h, -⟩
    · rw [h]; exact hr
    · rw [hr] at h; cases h
  intro target hrest
  subst hg
  jvm_step X.here [hexec, hdg, ldc_w.wp_string (e := e) (s := T) (f := g) X.here.top hk' (by rw [he]; exact hcf) hcp hr']
  exact hrest
theorem y_ldcwS {idx j : Nat} {tx : String} (cx : Cx I own cc nL ret d hs ini) (hj : j < litN) (hq : litKey[j]? = some (own, idx, tx)) (hd : decode cc pc = .ok (.ldc_w idx, 3)) (k : ∀ a, Y Eq I O (pc + 3) ls (vR (some (16, a, litT j)) :: st) S) : Y Eq I O pc ls st S := by
  obtain ⟨p, l, e, R, s, m, args, below, meth, c0, G, S0⟩ := I
  obtain ⟨hx, hb, hml, hown, hts, hE, -⟩ := cx
  intro S' H locs la hS hbs hv hw1 hw2
  subst hS
  have hZ := (hE.2.2.1 j hj).2.2.2.2 _ hq
  have k := k (gK G j) S H locs la rfl hbs hv hw1 ⟨(hbs.1.2.2.2.2.2.2 j hj).1, hw2⟩
  intro T hT X
  obtain ⟨t, a1, b1⟩ := k T hT X
  exact ⟨t, w_ldcwS X hx hown (text := tx) (a := gK G j) hZ.1 hZ.2 (g := F0 m pc la (st.map cv)) rfl (by rw [hb]; exact hd) t a1, b1⟩
end YN
end
section
set_option maxRecDepth 100000
/-- a contract: from x0, called with these arguments, the method ends with O -/
def Ct {σ : Type} (ρ : σ → HS → Prop) (l : Launch) (y : MethodName) (ws : List Cond) (d : Nat) (G : GT) (As : List AV) (x0 : σ) (O : OA → σ → Prop) : Prop :=
  ∀ S0, ρ x0 S0 → l.stackTraces = false → MetFree l y (headSpec ws (rmD d S0)) (fun a s => a = (As.map cv).toArray ∧ EnvT G s ∧ Rep G S0 s.heap ∧ lvS S0 As) (fun _ _ _ _ _ => True) (fun _ st o t => PostC ρ G S0 O st o t)
/-- the locals with which a method begins -/
def entL : List AV → List (Option AV)
  | [] => []
  | .inr (.inl x) :: vs => some (vL x) :: none :: entL vs
  | v :: vs => some v :: entL vs
def entN (As : List AV) (n : Nat) : List (Option AV) := entL As ++ List.replicate (n - (entL As).length) none
def catA (v : AV) : Nat := match v with
  | .inr (.inl _) => 2
  | _ => 1
theorem catA_cv (v : AV) : (cv v).category = catA v := by
  match v with
  | .inl x => rfl
  | .inr (.inl x) => rfl
  | .inr (.inr r) => exact cr_cat r
theorem catA_sum (st : List AV) : ((st.map cv).map fun v => v.category).sum = (st.map catA).sum := by
  rw [List.map_map]
  congr 1
  exact List.map_congr_left (fun v _ => catA_cv v)
theorem entL_args : ∀ (As : List AV) (i k : Nat) (v : AV), (entL As)[k]? = some (some v) → (i + k, cv v) ∈ lv_args i (As.map cv) := by
  intro As
  induction As with
  | nil => intro i k v h; simp [entL] at h
  | cons w As ih =>
    intro i k v h
    match w with
    | .inl x =>
      cases k with
      | zero => cases h; exact List.mem_cons_self
      | succ k =>
        have h : (entL As)[k]? = some (some v) := h
        have := ih (i + 1) k v h
        rw [show i + 1 + k = i + (k + 1) by omega] at this
        exact List.mem_cons_of_mem _ this
    | .inr (.inr x) =>
      cases k with
      | zero => cases h; exact List.mem_cons_self
      | succ k =>
        have h : (entL As)[k]? = some (some v) := h
        have := ih (i + 1) k v h
        rw [show i + 1 + k = i + (k + 1) by omega] at this
        refine List.mem_cons_of_mem _ ?_
        rw [if_neg (by rw [catA_cv]; exact (by decide : ¬ 1 = 2))]
        exact this
    | .inr (.inl x) =>
      match k with
      | 0 => cases h; exact List.mem_cons_self
      | 1 => cases h
      | k + 2 =>
        have h : (entL As)[k]? = some (some v) := h
        have := ih (i + 2) k v h
        rw [show i + 2 + k = i + (k + 2) by omega] at this
        exact List.mem_cons_of_mem _ this
theorem entL_lv {S : HS} : ∀ (As : List AV), lvS S As → lvL S (entL As) := by
  intro As
  induction As with
  | nil => intro _ i v h; simp [entL] at h
  | cons w As ih =>
    intro h i v e
    match w with
    | .inl x =>
      cases i with
      | zero => cases e; exact h.1
      | succ i => exact ih h.2 i v e
    | .inr (.inr x) =>
      cases i with
      | zero => cases e; exact h.1
      | succ i => exact ih h.2 i v e
    | .inr (.inl x) =>
      match i with
      | 0 => cases e; exact h.1
      | 1 => cases e
      | i + 2 => exact ih h.2 i v e
theorem entN_get {As : List AV} {n k : Nat} {v : AV} (h : (entN As n)[k]? = some (some v)) : (entL As)[k]? = some (some v) := by
  unfold entN at h
  by_cases hk : k < (entL As).length
  · rw [List.getElem?_append_left hk] at h
    exact h
  · rw [List.getElem?_append_right (by omega)] at h
    have := List.eq_of_mem_replicate (List.mem_of_getElem? h)
    cases this
theorem entL_len : ∀ As : List AV, (lg_sl (As.map cv)).length = (entL As).length := by
  intro As
  induction As with
  | nil => rfl
  | cons v As ih =>
    have e1 : lg_sl ((v :: As).map cv) = (if (cv v).category = 2 then [Slot.val (cv v), .second] else [.val (cv v)]) ++ lg_sl (As.map cv) := rfl
    rw [e1, List.length_append, catA_cv, ih]
    match v with
    | .inl x => exact Nat.add_comm _ _
    | .inr (.inr x) => exact Nat.add_comm _ _
    | .inr (.inl x) => exact Nat.add_comm _ _
/-- a method's contract out of the walk of its body -/
theorem Ct.ofY {σ : Type} {ρ : σ → HS → Prop} {l : Launch} {y : MethodName} {d maxL : Nat} {G : GT} {As : List AV} {x0 : σ} {O : OA → σ → Prop} {cc : ByteArray} {ret : Option FieldType} (ls : List (Option AV)) (ini : Bool) (hy : plainName y.cls = true) (hini : ini = true → y.name = "<init>") (hls : entN As maxL = ls) (hlen : ls.length = maxL) (hle : (entL As).length ≤ maxL)
    (body : ∀ I : Iv, Cx I y.cls cc maxL ret d [] ini → Y ρ I O 0 ls [] x0) : Ct ρ l y (ws_ y cc maxL ret) d G As x0 O := by
  intro S0 hS0 hl0
  refine MetFree.of_bodyS (code := cc) (maxLocals := maxL) (ret := ret) hy ?_ ?_
  · intro args s m h hn
    obtain ⟨meth, c, h1, h2, h3, h4, h5, h6, -, -⟩ := Cond.code_spec hn (atoms_spec (ws := ws_ y cc maxL ret) h _ List.mem_cons_self)
    exact ⟨meth, c, h1, h2, h3, h4, h5, h6⟩
  · intro p e s m args below meth c s₁ B hml hP _
    obtain ⟨rfl, hE, hr, hlv⟩ := hP
    have hts := atoms_spec (ws := ws_ y cc maxL ret) B.pre
    have hno := B.noHandlers (hts _ List.mem_cons_self)
    have cx : Cx (p, l, e, rmD d S0, s, m, (As.map cv).toArray, below, meth, c, G, S0) y.cls cc maxL ret d [] ini := by
      refine ⟨B.exec, B.bytes, hml, findClass_of_methodNamed B.named, fun w h => hts w (List.mem_cons_of_mem _ h), hE, B.returns, B.notSynchronized, rfl, ?_, fun h => ?_, hl0, hr⟩
      · have h0 : c.exceptionTable.size = 0 := by simpa [Array.isEmpty] using hno
        exact List.eq_nil_of_length_eq_zero (by simpa using h0)
      · rw [← hini h]
        exact (name_of_methodNamed B.named B.method).1
    have hh0 : s₁.heap = s.heap := by rw [B.state]; rfl
    have hlen2 := entL_len As
    have hl := lv_entry (As.map cv) (n := maxL) (by rw [hlen2]; exact hle)
    have hv : LV ((lg_sl (As.map cv) ++ List.replicate (maxL - (lg_sl (As.map cv)).length) Slot.unset).toArray) (lc ls) := by
      refine ⟨by rw [hl.1, lc_len, hlen], hl.2.1, fun k v hk => ?_⟩
      unfold lc at hk
      rw [List.getElem?_map] at hk
      cases hkk : ls[k]? with
      | none => rw [hkk] at hk; cases hk
      | some w =>
        rw [hkk] at hk
        cases w with
        | none => cases hk
        | some u =>
          cases hk
          rw [← hls] at hkk
          have h1 := entL_args As 0 k u (entN_get hkk)
          rw [Nat.zero_add] at h1
          exact hl.2.2 _ h1
    have hY := body _ cx S0 s₁.heap [] _ hS0 ⟨by rw [hh0]; exact hr, (fun _ h => by cases h), Nat.le_refl _, Nat.le_refl _, Mono.rf⟩ hv (fun i v e => by rw [← hls] at e; exact entL_lv As hlv i v (entN_get e)) trivial
    rw [Nat.sub_self, Nat.sub_self] at hY
    obtain ⟨t, a1, o, b1, b2, b3⟩ := hY s₁ rfl (Stand.of_body B)
    refine ⟨t, o, ?_, b1, b2, b3⟩
    rw [lg_entry_eq]
    exact a1
/-- a call has been linked: what is left is to run it -/
def Lk (p : Program) (l : Launch) (e : Env) (R : Room) (s : State) (m : MethodId) (args : Array Value) (below : List Frame) (meth : Method) (c : Code) (T : State) (locs : List Loc) (cells slots : Nat) (g : JFrame) (rest : List Value) (y : MethodName) (a : Array Value) : Prop :=
  ∃ (vm₁ : Vm) (mk : MethodId) (ig : Instr), s.WarmedH vm₁ ∧ Stand p l e R s m args below meth c (T.setVm vm₁) locs cells slots ∧ (T.setVm vm₁).methodNamed? y = some mk ∧ decode c.code g.pc = .ok (ig, 3) ∧
    ∀ target, Steps p.tables e below (doInvoke e ((T.setVm vm₁).setTop { g with stack := rest }) [] mk a).1 target → Steps p.tables e below (T.setTop g) target
section LK
variable {p : Program} {l : Launch} {e : Env} {R : Room} {s : State} {m : MethodId} {args : Array Value} {below : List Frame} {meth : Method} {c : Code} {T : State} {locs : List Loc} {cells slots : Nat}
theorem lk_V (X : Stand p l e R s m args below meth c T locs cells slots) (hexec : p.tables.exec = Jvm.exec) {own C : String} {index : Nat} {y : MethodName} {bytes : ByteArray} {maxL : Nat} {ret : Option FieldType}
    (hown : s.vm.findClass own = some m.cls) (hlink : (Cond.methodLink own index y).before args s = true ∨ ∃ host, (Cond.methodLinkNest own index y host).before args s = true) (hinst : (Cond.instanceMethod y).before args s = true) (hsel : (Cond.selects C y y).before args s = true)
    (hcode : (Cond.code y bytes maxL ret).before args s = true) (hy : y.cls ≠ "java/lang/invoke/MethodHandle" ∧ y.cls ≠ "java/lang/invoke/VarHandle")
    {b : Addr} {cellB : Cell} (hcell : T.heap[b]? = some cellB) (hobj : cellB.vm.isStatics = false) (hcls : s.vm.findClass C = some cellB.cls)
    {g : JFrame} (hg : g.method = m) {argsL rest : List Value} (hlen : ∀ sig, parseMethodDescriptor y.desc = some sig → argsL.length = sig.parameters.length)
    (hstack : g.stack = argsL.reverse ++ .ref b :: rest) (hdg : decode c.code g.pc = .ok (.invokevirtual index, 3)) :
    Lk p l e R s m args below meth c T locs cells slots g rest y (Value.ref b :: argsL).toArray := by
  obtain ⟨mk, methM, hnamed, hmethM, hstM, habM⟩ := Cond.instanceMethod_spec hinst
  obtain ⟨methM', cM, hmethM', -, -, -, -, -, -, hsigM⟩ := Cond.code_spec hnamed hcode
  cases hmethM.symm.trans hmethM'
  obtain ⟨c2, r2, m2, q1, q2, q3, q4, kP, hkP, hkPi⟩ := Cond.selects_spec hsel
  cases hcls.symm.trans q1
  cases (State.methodFound?_of_named hnamed hy).symm.trans q2
  cases hnamed.symm.trans q3
  have hselP : selectMethod e.platform s.vm cellB.cls mk = .method mk := by rw [Launch.admits_selectMethod X.admits]; exact q4
  rcases hlink with hlink | ⟨host, hlink⟩
  · obtain ⟨vm₁, X₁, hstep₁⟩ := X.invokevirtual hexec hown hlink hnamed hmethM hstM hkP hkPi hy (a := b) (cell := cellB) hcell
      (fun z h => by rw [h] at hobj; cases hobj) hselP hmethM habM hkP hkPi (g := g) hg (argsL := argsL) (rest := rest) (hlen _ hsigM) hstack hdg
    exact ⟨vm₁, mk, _, X₁.warmed, X₁, X₁.named hnamed, hdg, fun target h => hstep₁ _ fun acts => by rw [doInvoke_state]; exact h⟩
  · obtain ⟨vm₁, X₁, hstep₁⟩ := X.invokevirtualNest hexec hown hlink hnamed hmethM hstM hkP hkPi hy (a := b) (cell := cellB) hcell
      (fun z h => by rw [h] at hobj; cases hobj) hselP hmethM habM hkP hkPi (g := g) hg (argsL := argsL) (rest := rest) (hlen _ hsigM) hstack hdg
    exact ⟨vm₁, mk, _, X₁.warmed, X₁, X₁.named hnamed, hdg, fun target h => hstep₁ _ fun acts => by rw [doInvoke_state]; exact h⟩
theorem lk_VU (X : Stand p l e R s m args below meth c T locs cells slots) (hexec : p.tables.exec = Jvm.exec) {own C owner : String} {index : Nat} {x y : MethodName}
    (hown : s.vm.findClass own = some m.cls) (hlink : (Cond.methodLink own index x).before args s = true) (hsame : (Cond.sameMethod x.cls owner x.name x.desc).before args s = true)
    (hd0 : va_Decl s ⟨owner, x.name, x.desc⟩) (howner : owner ≠ "java/lang/invoke/MethodHandle" ∧ owner ≠ "java/lang/invoke/VarHandle")
    (hsel : (Cond.selects C x y).before args s = true) (hinst : (Cond.instanceMethod y).before args s = true)
    {b : Addr} {cellB : Cell} (hcell : T.heap[b]? = some cellB) (hobj : cellB.vm.isStatics = false) (hcls : s.vm.findClass C = some cellB.cls)
    {g : JFrame} (hg : g.method = m) {argsL rest : List Value} (hlen : ∀ sig, parseMethodDescriptor x.desc = some sig → argsL.length = sig.parameters.length)
    (hstack : g.stack = argsL.reverse ++ .ref b :: rest) (hdg : decode c.code g.pc = .ok (.invokevirtual index, 3)) :
    Lk p l e R s m args below meth c T locs cells slots g rest y (Value.ref b :: argsL).toArray := by
  obtain ⟨r0, r, hn, hrm, hstR, hsigR⟩ := hd0
  obtain ⟨cn, ck, r1, hcn, hck, hni, hf, hn1⟩ := Cond.sameMethod_found hsame
  cases hn.symm.trans hn1
  obtain ⟨mk, methM, hnamed, hmethM, -, habM⟩ := Cond.instanceMethod_spec hinst
  obtain ⟨c2, r2, m2, q1, q2, q3, q4, kP, hkP, hkPi⟩ := Cond.selects_spec hsel
  cases hcls.symm.trans q1
  cases hf.symm.trans q2
  cases hnamed.symm.trans q3
  have hselP : selectMethod e.platform s.vm cellB.cls r0 = .method mk := by rw [Launch.admits_selectMethod X.admits]; exact q4
  obtain ⟨vm₁, X₁, hstep₁⟩ := X.invokevirtualUp hexec hown hlink hsame howner hn hrm hstR (a := b) (cell := cellB) hcell
    (fun z h => by rw [h] at hobj; cases hobj) hselP hmethM habM hkP hkPi (g := g) hg (argsL := argsL) (rest := rest) (hlen _ hsigR) hstack hdg
  exact ⟨vm₁, mk, _, X₁.warmed, X₁, X₁.named hnamed, hdg, fun target h => hstep₁ _ fun acts => by rw [doInvoke_state]; exact h⟩
theorem lk_S (X : Stand p l e R s m args below meth c T locs cells slots) (hexec : p.tables.exec = Jvm.exec) {own : String} {index : Nat} {y : MethodName} {bytes : ByteArray} {maxL : Nat} {ret : Option FieldType}
    (hown : s.vm.findClass own = some m.cls) (hlink : (Cond.methodLink own index y).before args s = true ∨ ∃ host, (Cond.methodLinkNest own index y host).before args s = true) (hstat : (Cond.static y).before args s = true) (hinit : (Cond.initialized y.cls).before args s = true)
    (hcode : (Cond.code y bytes maxL ret).before args s = true) (hy : y.cls ≠ "java/lang/invoke/MethodHandle" ∧ y.cls ≠ "java/lang/invoke/VarHandle")
    {g : JFrame} (hg : g.method = m) {argsL rest : List Value} (hlen : ∀ sig, parseMethodDescriptor y.desc = some sig → argsL.length = sig.parameters.length)
    (hstack : g.stack = argsL.reverse ++ rest) (hdg : decode c.code g.pc = .ok (.invokestatic index, 3)) :
    Lk p l e R s m args below meth c T locs cells slots g rest y argsL.toArray := by
  obtain ⟨mk, hnamed⟩ := Cond.code_named hcode
  obtain ⟨methM, cM, hmethM, -, -, -, -, -, -, hsigM⟩ := Cond.code_spec hnamed hcode
  have hstatic : methM.isStatic = true := Cond.static_spec hnamed hmethM hstat
  obtain ⟨kP, hkP, -⟩ := className_of_methodNamed hnamed
  have hinitP : kP.init = .initialized := Cond.initialized_spec (findClass_of_methodNamed hnamed) hkP hinit
  rcases hlink with hlink | ⟨host, hlink⟩
  · obtain ⟨vm₁, X₁, hstep₁⟩ := X.invokestatic hexec hown hlink hnamed hmethM hstatic hkP hinitP hy (g := g) hg (argsL := argsL) (rest := rest) (hlen _ hsigM) hstack hdg
    exact ⟨vm₁, mk, _, X₁.warmed, X₁, X₁.named hnamed, hdg, fun target h => hstep₁ _ fun acts => by rw [doInvoke_state]; exact h⟩
  · obtain ⟨vm₁, X₁, hstep₁⟩ := X.invokestaticNest hexec hown hlink hnamed hmethM hstatic hkP hinitP hy (g := g) hg (argsL := argsL) (rest := rest) (hlen _ hsigM) hstack hdg
    exact ⟨vm₁, mk, _, X₁.warmed, X₁, X₁.named hnamed, hdg, fun target h => hstep₁ _ fun acts => by rw [doInvoke_state]; exact h⟩
theorem lk_I (X : Stand p l e R s m args below meth c T locs cells slots) (hexec : p.tables.exec = Jvm.exec) {own : String} {index : Nat} {y : MethodName} {bytes : ByteArray} {maxL : Nat}
    (hown : s.vm.findClass own = some m.cls) (hy1 : y.name = "<init>") (hlink : (Cond.methodLink own index y).before args s = true ∨ ∃ host, (Cond.methodLinkNest own index y host).before args s = true) (hinst : (Cond.instanceMethod y).before args s = true)
    (hcode : (Cond.code y bytes maxL none).before args s = true) (hy : y.cls ≠ "java/lang/invoke/MethodHandle" ∧ y.cls ≠ "java/lang/invoke/VarHandle")
    {g : JFrame} (hg : g.method = m) {a : Addr} {argsL rest : List Value} (hlen : ∀ sig, parseMethodDescriptor y.desc = some sig → argsL.length = sig.parameters.length)
    (hstack : g.stack = argsL.reverse ++ .ref a :: rest) (hdg : decode c.code g.pc = .ok (.invokespecial index, 3)) :
    Lk p l e R s m args below meth c T locs cells slots g rest y (Value.ref a :: argsL).toArray := by
  subst hg
  have hpl : e.platform.magicAccessors = ({} : Platform).magicAccessors := by rw [X.admits.platform]
  rcases hlink with hlink | ⟨host, hlink⟩
  · obtain ⟨mk, methM, cM, kP, vm₁, hnamed, hmethM, hcodeM, -, hlocalsM, -, hkP, -, hW₁, hstep₁⟩ := Steps.initColdArgs (e := e) X.here hexec X.warmed hpl hown hy1 hy hlink hinst hcode (f := g) rfl hlen hstack hdg
    have X₁ := X.noted hW₁
    exact ⟨vm₁, mk, _, X₁.warmed, X₁, X₁.named hnamed, hdg, fun target h => hstep₁ _ fun acts => by rw [doInvoke_state]; exact h⟩
  · obtain ⟨mk, methM, cM, kP, vm₁, hnamed, hmethM, hcodeM, -, hlocalsM, -, hkP, -, hW₁, hstep₁⟩ := Steps.initColdArgsNest (e := e) X.here hexec X.warmed hpl hown hy1 hy hlink hinst hcode (f := g) rfl hlen hstack hdg
    have X₁ := X.noted hW₁
    exact ⟨vm₁, mk, _, X₁.warmed, X₁, X₁.named hnamed, hdg, fun target h => hstep₁ _ fun acts => by rw [doInvoke_state]; exact h⟩
/-- super.m(..), of a method that the class above, or one above that, declares -/
theorem lk_SU (X : Stand p l e R s m args below meth c T locs cells slots) (hexec : p.tables.exec = Jvm.exec) {own sup : String} {index : Nat} {y : MethodName} {bytes : ByteArray} {maxL : Nat} {ret : Option FieldType}
    (hown : s.vm.findClass own = some m.cls) (hlink : (Cond.methodLink own index ⟨sup, y.name, y.desc⟩).before args s = true) (hsame : (Cond.sameMethod sup y.cls y.name y.desc).before args s = true) (hsup : (Cond.superclass own sup).before args s = true) (hsub : ∀ cS cY : ClassId, s.vm.findClass sup = some cS → s.vm.findClass y.cls = some cY → s.vm.isSubclass cS cY = true)
    (hinst : (Cond.instanceMethod y).before args s = true) (hcode : (Cond.code y bytes maxL ret).before args s = true) (hno : y.name ≠ "<init>")
    {b : Addr} {cellB : Cell} {kB : Class} (hcell : T.heap[b]? = some cellB) (hobj : cellB.vm.isStatics = false) (hkB : s.vm.classes[cellB.cls]? = some kB)
    {g : JFrame} (hg : g.method = m) {argsL rest : List Value} (hlen : ∀ sig, parseMethodDescriptor y.desc = some sig → argsL.length = sig.parameters.length)
    (hstack : g.stack = argsL.reverse ++ .ref b :: rest) (hdg : decode c.code g.pc = .ok (.invokespecial index, 3)) :
    Lk p l e R s m args below meth c T locs cells slots g rest y (Value.ref b :: argsL).toArray := by
  obtain ⟨mk, methM, hnamed, hmethM, hstM, habM⟩ := Cond.instanceMethod_spec hinst
  obtain ⟨methM', cM, hmethM', -, -, -, -, -, -, hsigM⟩ := Cond.code_spec hnamed hcode
  cases hmethM.symm.trans hmethM'
  obtain ⟨ps, dk, kp, hps, hdk, hkp, hsuper, -, -, hnid⟩ := Cond.superclass_spec hown hsup
  have hn : s.methodNamed? ⟨y.cls, y.name, y.desc⟩ = some mk := hnamed
  have hsub2 : s.vm.isSubclass ps mk.cls = true := hsub _ _ hps (findClass_of_methodNamed hnamed)
  obtain ⟨vm₁, X₁, hstep₁⟩ := X.invokespecialUp hexec hown hlink hsame hn hmethM hstM habM hno hdk hnid hps hsuper hsub2 (a := b) (cell := cellB) hcell
    (fun z h => by rw [h] at hobj; cases hobj) hkB (g := g) hg (argsL := argsL) (rest := rest) (hlen _ hsigM) hstack hdg
  exact ⟨vm₁, mk, _, X₁.warmed, X₁, X₁.named hnamed, hdg, fun target h => hstep₁ _ (by rw [doInvoke_state]; exact h)⟩
end LK
end
section
set_option maxRecDepth 100000
/-- a linked call runs by its contract -/
theorem w_call {p : Program} {l : Launch} {e : Env} {s : State} {m : MethodId} {args : Array Value} {below : List Frame} {meth : Method} {c : Code} {T : State} {locs : List Loc} {G : GT} {S0 S : HS} {H : Heap} {d d' maxL : Nat} {σ : Type} {ρ : σ → HS → Prop} {x0 : σ} {O' : OA → σ → Prop} {Q : State → Prop} {y : MethodName} {bytes : ByteArray} {ret : Option FieldType} {ws : List Cond} {As rest : List AV} {pc : Nat} {la : Array Slot} {stk : List Value}
    (X : Stand p l e (rmD (d + 1) S0) s m args below meth c T locs (hB S0 - hB S) (hU S0 - hU S)) (hT : T.heap = H) (hbs : Bs G S0 S H locs) (hE : EnvT G s) (hts : ∀ w ∈ lw_all, w.before args s = true)
    (hS : ρ x0 S) (hAs : lvS S As) (hM : Ct ρ l y ws d' G As x0 O') (hl0 : l.stackTraces = false) (hws : GoodIn lw_all ws) (hdd : d' ≤ d) (hcode : Cond.code y bytes maxL ret ∈ lw_all ∨ ∃ hh, Cond.codeWith y bytes maxL ret hh ∈ lw_all) (hini : Cond.initialized y.cls ∈ lw_all)
    (hlk : Lk p l e (rmD (d + 1) S0) s m args below meth c T locs (hB S0 - hB S) (hU S0 - hU S) (F0 m pc la stk) (rest.map cv) y (As.map cv).toArray) (hsize : la.size = c.maxLocals) (hW : (rest.map catA).sum + (maxL + 11) ≤ 64)
    (kr : ∀ (S' : HS) (x' : σ) (v : Option AV) (T' : State) (locs' : List Loc), ρ x' S' → Bs G S0 S' T'.heap locs' → Mono S S' → lvO S' (.inl v) → O' (.inl v) x' → Stand p l e (rmD (d + 1) S0) s m args below meth c T' locs' (hB S0 - hB S') (hU S0 - hU S') → ∃ t, Steps p.tables e below (T'.setTop (F0 m (pc + 3) la ((v.map cv).toList ++ rest.map cv))) t ∧ Q t)
    (kx : ∀ (S' : HS) (x' : σ) (a : Nat) (T' : State) (locs' : List Loc), ρ x' S' → Bs G S0 S' T'.heap locs' → Mono S S' → hC S' a = some (5, []) → O' (.inr a) x' → Stand p l e (rmD (d + 1) S0) s m args below meth c T' locs' (hB S0 - hB S') (hU S0 - hU S') → ∃ t, Steps p.tables e below ((T'.setTop (F0 m pc la (rest.map cv))).pushFrame (.throwing a)) t ∧ Q t) :
    ∃ t, Steps p.tables e below (T.setTop (F0 m pc la stk)) t ∧ Q t := by
  obtain ⟨vm₁, mk, ig, hW₁, X₁, hn, hdg, hstep⟩ := hlk
  have hb3 := hbs.2.2.1
  have hb4 := hbs.2.2.2.1
  have hM := hM S hS hl0
  have hinit0 : (Cond.initialized y.cls).before (As.map cv).toArray (T.setVm vm₁) = true := word_at (U := T.setVm vm₁) X₁.warmed (Or.inl (by first | rfl | simp [Cond.onTables, Cond.keeps, Cond.steady])) (hts _ hini)
  have hpre0 : (headSpec ws (rmD d' S)).pre.before (As.map cv).toArray (T.setVm vm₁) = true := atoms_intro fun w hw => pay_in hts hws w hw _ _ X₁.warmed
  obtain ⟨kY, hkY, -⟩ := className_of_methodNamed hn
  have hinitY : kY.init = .initialized := Cond.initialized_spec (findClass_of_methodNamed hn) hkY hinit0
  obtain ⟨methY, cY, hmY, hcY, hlY⟩ : ∃ methY cY, (T.setVm vm₁).vm.method? mk = some methY ∧ methY.code = some cY ∧ cY.maxLocals = maxL := by
    rcases hcode with h | ⟨hh, h⟩
    · obtain ⟨methY, cY, hmY, hcY, -, hlY, -⟩ := Cond.code_spec hn (word_at (U := T.setVm vm₁) (a' := #[]) X₁.warmed (Or.inl (by first | rfl | simp [Cond.onTables, Cond.keeps, Cond.steady])) (hts _ h))
      exact ⟨methY, cY, hmY, hcY, hlY⟩
    · obtain ⟨mk', methY, cY, hn', hmY, hcY, -, hlY, -⟩ := Cond.codeWith_spec (word_at (U := T.setVm vm₁) (a' := #[]) X₁.warmed (Or.inl (by first | rfl | simp [Cond.onTables, Cond.keeps, Cond.steady])) (hts _ h))
      cases hn.symm.trans hn'
      exact ⟨methY, cY, hmY, hcY, hlY⟩
  have h : At (T.setVm vm₁) (F0 m pc la (rest.map cv)).method c below := X₁.here
  have happ : (headSpec ws (rmD d' S)).appliesLoose y e.platform ((T.setVm vm₁).calling (F0 m pc la (rest.map cv)) mk (As.map cv).toArray) = true :=
    Spec.appliesLoose_calling (g := F0 m pc la (rest.map cv)) h hdg hn hkY hinitY
      (X₁.room_calling (g := F0 m pc la (rest.map cv)) (R' := rmD d' S) hsize hmY hcY (by show d' + 1 ≤ d + 1; omega) (by rw [hlY, catA_sum]; show 2 * (F0 m pc la (rest.map cv)).monitorRoom + _ + _ + 64 * d' ≤ 64 * (d + 1); simp only [JFrame.monitorRoom]; omega) (by show _ + hB S ≤ hB S0; omega) (by show _ + hU S ≤ hU S0; omega)) hpre0
  obtain ⟨mid, hmid⟩ := h.above
  have hfr : ((T.setVm vm₁).setTop (F0 m pc la (rest.map cv))).frames = (.java (F0 m pc la (rest.map cv)) :: mid) ++ below := by rw [State.frames_setTop' (F0 m pc la (rest.map cv)) h.top, hmid]; rfl
  have hE₁ : EnvT G ((T.setVm vm₁).calling (F0 m pc la (rest.map cv)) mk (As.map cv).toArray) := EnvT.moved (s := s) (U := (T.setVm vm₁).calling (F0 m pc la (rest.map cv)) mk (As.map cv).toArray) X₁.warmed hE
  have hR₁ : Rep G S ((T.setVm vm₁).calling (F0 m pc la (rest.map cv)) mk (As.map cv).toArray).heap := by
    show Rep G S T.heap
    rw [hT]
    exact hbs.1
  obtain ⟨o, s₂, hsteps, hrun, hend, hq⟩ := Steps.callFree hM p X₁.admits X₁.cas X₁.clock (acts := []) hfr happ ⟨rfl, hE₁, hR₁, hAs⟩ trivial
  rw [State.frames_setTop' _ h.top, X₁.tail] at hend
  obtain ⟨hwm, S', x', L, oa, hsame, hbs', hx', ho, hlv, hO⟩ := hq
  have c1 : hB S0 - hB S + (hB S - hB S') = hB S0 - hB S' := by have := hbs'.2.2.1; omega
  have c2 : hU S0 - hU S + (hU S - hU S') = hU S0 - hU S' := by have := hbs'.2.2.2.1; omega
  have hbs2 : Bs G S0 S' s₂.heap (locs ++ L) := ⟨hbs'.1, fun q hq => by rcases List.mem_append.mp hq with z | z; exact hbs.2.1 q z; exact hbs'.2.1 q z, Nat.le_trans hbs'.2.2.1 hb3, Nat.le_trans hbs'.2.2.2.1 hb4, hbs.2.2.2.2.tr hbs'.2.2.2.2⟩
  cases oa with
  | inl v =>
    subst ho
    obtain ⟨T', X', hheap, ht⟩ : ∃ T', Stand p l e (rmD (d + 1) S0) s m args below meth c T' (locs ++ L) (hB S0 - hB S') (hU S0 - hU S') ∧ T'.heap = s₂.heap ∧ s₂ = T'.setTop (F0 m (pc + 3) la ((v.map cv).toList ++ rest.map cv)) := by
      obtain ⟨T', X', -, -, ht⟩ := X₁.outOf (g := F0 m pc la (rest.map cv)) rfl hdg hend hwm hsame
      rw [c1, c2] at X'
      refine ⟨T', X', ?_, ht⟩
      rw [ht]
      rfl
    obtain ⟨t, a1, a2⟩ := kr S' x' v T' _ hx' (by rw [hheap]; exact hbs2) hbs'.2.2.2.2 hlv hO X'
    exact ⟨t, hstep t (hsteps.trans (by rw [ht]; exact a1)), a2⟩
  | inr a =>
    subst ho
    obtain ⟨T', X', -, -, ht⟩ := X₁.outOfThrown (g := F0 m pc la (rest.map cv)) rfl hend hwm hsame
    rw [c1, c2] at X'
    have hheap : T'.heap = s₂.heap := by rw [ht]; rfl
    obtain ⟨t, a1, a2⟩ := kx S' x' a T' _ hx' (by rw [hheap]; exact hbs2) hbs'.2.2.2.2 hlv hO X'
    exact ⟨t, hstep t (hsteps.trans (by rw [ht]; exact a1)), a2⟩
end
section
set_option maxRecDepth 100000
def oI {σ : Type} (N : Int32 → σ → Prop) (X : Nat → σ → Prop) : OA → σ → Prop := fun o x => match o with
  | .inl (some (.inl r)) => N r x
  | .inr a => X a x
  | _ => False
def oL {σ : Type} (N : Int64 → σ → Prop) (X : Nat → σ → Prop) : OA → σ → Prop := fun o x => match o with
  | .inl (some (.inr (.inl r))) => N r x
  | .inr a => X a x
  | _ => False
def oR {σ : Type} (N : Rf → σ → Prop) (X : Nat → σ → Prop) : OA → σ → Prop := fun o x => match o with
  | .inl (some (.inr (.inr r))) => N r x
  | .inr a => X a x
  | _ => False
def oV {σ : Type} (N : σ → Prop) (X : Nat → σ → Prop) : OA → σ → Prop := fun o x => match o with
  | .inl none => N x
  | .inr a => X a x
  | _ => False
/-- the instruction at pc links to y, with these arguments on the stack -/
def LinkY : Iv → Nat → List AV → List AV → MethodName → Prop
  | (p, l, e, R, s, m, args, below, meth, c, G, S0), pc, As, rest, y =>
    ∀ (S : HS) (H : Heap) (locs : List Loc) (la : Array Slot) (T : State) (cells slots : Nat), Bs G S0 S H locs → lvS S As → T.heap = H → Stand p l e R s m args below meth c T locs cells slots →
      Lk p l e R s m args below meth c T locs cells slots (F0 m pc la ((As.reverse ++ rest).map cv)) (rest.map cv) y (As.map cv).toArray
theorem lvS_app {S : HS} : ∀ {a b : List AV}, lvS S (a ++ b) ↔ lvS S a ∧ lvS S b
  | [], b => ⟨fun h => ⟨trivial, h⟩, fun h => h.2⟩
  | v :: a, b => by
    show lv S v ∧ lvS S (a ++ b) ↔ (lv S v ∧ lvS S a) ∧ lvS S b
    rw [lvS_app (a := a)]
    exact ⟨fun h => ⟨⟨h.1, h.2.1⟩, h.2.2⟩, fun h => ⟨h.1.1, h.1.2, h.2⟩⟩
theorem lvS_rev {S : HS} : ∀ {a : List AV}, lvS S a.reverse ↔ lvS S a
  | [] => Iff.rfl
  | v :: a => by
    rw [List.reverse_cons, lvS_app, lvS_rev (a := a)]
    exact ⟨fun h => ⟨h.2.1, h.1⟩, fun h => ⟨h.2, h.1, trivial⟩⟩
section YK
variable {I : Iv} {own : String} {cc : ByteArray} {nL : Nat} {ret : Option FieldType} {d : Nat} {ini : Bool} {pc : Nat} {ls : List (Option AV)} {st : List AV}
/-- a call by contract; callee and caller may speak of the state in words of their own -/
theorem y_call {σ σ' : Type} {ρ : σ → HS → Prop} {ρ' : σ' → HS → Prop} {O : OA → σ → Prop} {O' : OA → σ' → Prop} {x : σ} {x0 : σ'} {y : MethodName} {bytes : ByteArray} {maxL d' : Nat} {rt : Option FieldType} {ws : List Cond} {stk : List AV} (As rest : List AV) (cx : Cx I own cc nL ret (d + 1) [] ini) (hst : stk = As.reverse ++ rest) (hlen : ls.length = nL)
    (hM : ∀ l G, Ct ρ' l y ws d' G As x0 O') (hws : GoodIn lw_all ws) (hdd : d' ≤ d) (hcode : Cond.code y bytes maxL rt ∈ lw_all ∨ ∃ hh, Cond.codeWith y bytes maxL rt hh ∈ lw_all) (hini : Cond.initialized y.cls ∈ lw_all) (hlk : LinkY I pc As rest y) (hW : (rest.map catA).sum + (maxL + 11) ≤ 64)
    (hin : ∀ S, ρ x S → ρ' x0 S) (kr : ∀ (v : Option AV) (x' : σ') (S' : HS), ρ' x' S' → O' (.inl v) x' → ∃ z, ρ z S' ∧ Y ρ I O (pc + 3) ls (v.toList ++ rest) z) (kx : ∀ (a : Nat) (x' : σ') (S' : HS), ρ' x' S' → O' (.inr a) x' → ∃ z, ρ z S' ∧ O (.inr a) z) : Y ρ I O pc ls stk x := by
  subst hst
  obtain ⟨p, l, e, R, s, m, args, below, meth, c0, G, S0⟩ := I
  obtain ⟨hx, hb, hml, hown, hts, hE, -, hlk0, hR0, hht, -, hl0, -⟩ := cx
  intro S H locs la hS hbs hv hw1 hw2
  subst hR0
  obtain ⟨hA, hR⟩ := lvS_app.mp hw2
  have hA := lvS_rev.mp hA
  intro T hT X
  refine w_call (d := d) X hT hbs hE hts (hin S hS) hA (hM l G) hl0 hws hdd hcode hini (hlk S H locs la T _ _ hbs hA hT X) (by rw [hml, ← hlen, ← lc_len]; exact hv.1) hW ?_ ?_
  · intro S' x' v T' locs' hx' hbs' hm hlv hO X'
    obtain ⟨z, hz, k⟩ := kr v x' S' hx' hO
    have := k S' T'.heap locs' la hz hbs' hv (hw1.mono hm) (lvS_app.mpr ⟨by cases v with | none => trivial | some w => exact ⟨hlv, trivial⟩, lvS.mono hm hR⟩) T' rfl X'
    rw [List.map_append] at this
    cases v with
    | none => exact this
    | some w => exact this
  · intro S' x' a T' locs' hx' hbs' hm hC5 hO X'
    obtain ⟨z, hz, hO2⟩ := kx a x' S' hx' hO
    obtain ⟨a1, a2, a3, a4, a5⟩ := X'.leaveThrown a (g := F0 m pc la (rest.map cv)) rfl rfl rfl (by rw [hht]; intro q hq; cases hq) hlk0
    exact ⟨_, a1, _, a2, a3, a4, S', z, locs', .inr a, a5, hbs', hz, rfl, hC5, hO2⟩
/-- calls by what comes back, caller and callee in the same words -/
theorem y_callI {σ : Type} {ρ : σ → HS → Prop} {O : OA → σ → Prop} {x : σ} {N : Int32 → σ → Prop} {X : Nat → σ → Prop} {y : MethodName} {bytes : ByteArray} {maxL d' : Nat} {rt : Option FieldType} {ws : List Cond} {stk : List AV} (As rest : List AV) (cx : Cx I own cc nL ret (d + 1) [] ini) (hst : stk = As.reverse ++ rest) (hlen : ls.length = nL)
    (hM : ∀ l G, Ct ρ l y ws d' G As x (oI N X)) (hws : GoodIn lw_all ws) (hdd : d' ≤ d) (hcode : Cond.code y bytes maxL rt ∈ lw_all ∨ ∃ hh, Cond.codeWith y bytes maxL rt hh ∈ lw_all) (hini : Cond.initialized y.cls ∈ lw_all) (hlk : LinkY I pc As rest y) (hW : (rest.map catA).sum + (maxL + 11) ≤ 64)
    (kr : ∀ (r : Int32) (x' : σ), N r x' → Y ρ I O (pc + 3) ls (vI r :: rest) x') (kx : ∀ (a : Nat) (x' : σ), X a x' → O (.inr a) x') : Y ρ I O pc ls stk x :=
  y_call As rest cx hst hlen hM hws hdd hcode hini hlk hW (fun _ h => h) (fun v x' S' hz hO => match v, hO with | some (.inl r), hO => ⟨x', hz, kr r x' hO⟩) (fun a x' S' hz hO => ⟨x', hz, kx a x' hO⟩)
theorem y_callL {σ : Type} {ρ : σ → HS → Prop} {O : OA → σ → Prop} {x : σ} {N : Int64 → σ → Prop} {X : Nat → σ → Prop} {y : MethodName} {bytes : ByteArray} {maxL d' : Nat} {rt : Option FieldType} {ws : List Cond} {stk : List AV} (As rest : List AV) (cx : Cx I own cc nL ret (d + 1) [] ini) (hst : stk = As.reverse ++ rest) (hlen : ls.length = nL)
    (hM : ∀ l G, Ct ρ l y ws d' G As x (oL N X)) (hws : GoodIn lw_all ws) (hdd : d' ≤ d) (hcode : Cond.code y bytes maxL rt ∈ lw_all ∨ ∃ hh, Cond.codeWith y bytes maxL rt hh ∈ lw_all) (hini : Cond.initialized y.cls ∈ lw_all) (hlk : LinkY I pc As rest y) (hW : (rest.map catA).sum + (maxL + 11) ≤ 64)
    (kr : ∀ (r : Int64) (x' : σ), N r x' → Y ρ I O (pc + 3) ls (vL r :: rest) x') (kx : ∀ (a : Nat) (x' : σ), X a x' → O (.inr a) x') : Y ρ I O pc ls stk x :=
  y_call As rest cx hst hlen hM hws hdd hcode hini hlk hW (fun _ h => h) (fun v x' S' hz hO => match v, hO with | some (.inr (.inl r)), hO => ⟨x', hz, kr r x' hO⟩) (fun a x' S' hz hO => ⟨x', hz, kx a x' hO⟩)
theorem y_callR {σ : Type} {ρ : σ → HS → Prop} {O : OA → σ → Prop} {x : σ} {N : Rf → σ → Prop} {X : Nat → σ → Prop} {y : MethodName} {bytes : ByteArray} {maxL d' : Nat} {rt : Option FieldType} {ws : List Cond} {stk : List AV} (As rest : List AV) (cx : Cx I own cc nL ret (d + 1) [] ini) (hst : stk = As.reverse ++ rest) (hlen : ls.length = nL)
    (hM : ∀ l G, Ct ρ l y ws d' G As x (oR N X)) (hws : GoodIn lw_all ws) (hdd : d' ≤ d) (hcode : Cond.code y bytes maxL rt ∈ lw_all ∨ ∃ hh, Cond.codeWith y bytes maxL rt hh ∈ lw_all) (hini : Cond.initialized y.cls ∈ lw_all) (hlk : LinkY I pc As rest y) (hW : (rest.map catA).sum + (maxL + 11) ≤ 64)
    (kr : ∀ (r : Rf) (x' : σ), N r x' → Y ρ I O (pc + 3) ls (vR r :: rest) x') (kx : ∀ (a : Nat) (x' : σ), X a x' → O (.inr a) x') : Y ρ I O pc ls stk x :=
  y_call As rest cx hst hlen hM hws hdd hcode hini hlk hW (fun _ h => h) (fun v x' S' hz hO => match v, hO with | some (.inr (.inr r)), hO => ⟨x', hz, kr r x' hO⟩) (fun a x' S' hz hO => ⟨x', hz, kx a x' hO⟩)
theorem y_callV {σ : Type} {ρ : σ → HS → Prop} {O : OA → σ → Prop} {x : σ} {N : σ → Prop} {X : Nat → σ → Prop} {y : MethodName} {bytes : ByteArray} {maxL d' : Nat} {rt : Option FieldType} {ws : List Cond} {stk : List AV} (As rest : List AV) (cx : Cx I own cc nL ret (d + 1) [] ini) (hst : stk = As.reverse ++ rest) (hlen : ls.length = nL)
    (hM : ∀ l G, Ct ρ l y ws d' G As x (oV N X)) (hws : GoodIn lw_all ws) (hdd : d' ≤ d) (hcode : Cond.code y bytes maxL rt ∈ lw_all ∨ ∃ hh, Cond.codeWith y bytes maxL rt hh ∈ lw_all) (hini : Cond.initialized y.cls ∈ lw_all) (hlk : LinkY I pc As rest y) (hW : (rest.map catA).sum + (maxL + 11) ≤ 64)
    (kr : ∀ (x' : σ), N x' → Y ρ I O (pc + 3) ls rest x') (kx : ∀ (a : Nat) (x' : σ), X a x' → O (.inr a) x') : Y ρ I O pc ls stk x :=
  y_call As rest cx hst hlen hM hws hdd hcode hini hlk hW (fun _ h => h) (fun v x' S' hz hO => match v, hO with | none, hO => ⟨x', hz, kr x' hO⟩) (fun a x' S' hz hO => ⟨x', hz, kx a x' hO⟩)
/-- the receiver's class -/
def rcv (c : Nat) (C : String) : Prop := (ob c = true ∧ C = cn (ck c)) ∨ ((c = 14 ∨ c = 16) ∧ C = "java/lang/String") ∨ (c = 5 ∧ C = "ClassFileReader$Malformed")
theorem rcv.cell {G : GT} {S0 S : HS} {H : Heap} {locs : List Loc} {s : State} {c a : Nat} {t : List Int32} {C : String} (h : rcv c C) (hE : EnvT G s) (hbs : Bs G S0 S H locs) (hca : hC S a = some (c, t)) : ∃ cell : Cell, H[a]? = some cell ∧ cell.vm.isStatics = false ∧ s.vm.findClass C = some cell.cls := by
  rcases h with ⟨hob, rfl⟩ | ⟨h | h, rfl⟩ | ⟨h, rfl⟩
  · obtain ⟨cell, h1, h2, h3, h4⟩ := y_recv hE hbs hob hca
    exact ⟨cell, h1, h2, h4⟩
  · subst h
    rcases hbs.1.kc hca with ⟨h1, -⟩ | ⟨h1, -⟩ | ⟨-, -, v, x, z, hat, -⟩ | ⟨h1, -⟩ | ⟨h1, -⟩ | ⟨h1, -⟩
    · cases h1
    · cases h1
    · obtain ⟨r, h1, cell, q1, q2, q3, -⟩ := hat
      exact ⟨cell, q1, by rw [q3]; rfl, by rw [q2]; exact (hE.1.1 14 _ rfl).2.1⟩
    · cases h1
    · cases h1
    · cases h1
  · subst h
    rcases hbs.1.kc hca with ⟨h1, -⟩ | ⟨h1, -⟩ | ⟨h1, -⟩ | ⟨h1, -⟩ | ⟨-, j, hj, rfl, -⟩ | ⟨h1, -⟩
    · cases h1
    · cases h1
    · cases h1
    · cases h1
    · obtain ⟨cell, k1, k2, k3, k4⟩ := (hE.2.2.1 j hj).1
      refine ⟨cell, ?_, k2, k3⟩
      rw [hbs.1.2.2.1 _ (Nat.not_le.mp k4)]
      exact k1
    · cases h1
  · subst h
    rcases hbs.1.kc hca with ⟨h1, -⟩ | ⟨-, -, -, -, w, -, -, hat⟩ | ⟨h1, -⟩ | ⟨h1, -⟩ | ⟨h1, -⟩ | ⟨h1, -⟩
    · cases h1
    · obtain ⟨r, h1, cell, q1, q2, q3, -⟩ := hat
      exact ⟨cell, q1, by rw [q3]; rfl, by rw [q2]; exact (hE.1.1 5 _ rfl).2.1⟩
    · cases h1
    · cases h1
    · cases h1
    · cases h1
theorem rev_stk (v : AV) (As rest : List AV) : ((v :: As).reverse ++ rest).map cv = (As.map cv).reverse ++ cv v :: rest.map cv := by
  rw [List.reverse_cons, List.append_assoc, List.map_append, List.map_reverse]
  rfl
def MLK (own : String) (idx : Nat) (y : MethodName) : Prop := Cond.methodLink own idx y ∈ lw_all ∨ ∃ host, Cond.methodLinkNest own idx y host ∈ lw_tbl
theorem MLK.use {G : GT} {own : String} {idx : Nat} {y : MethodName} {args : Array Value} {s : State} (h : MLK own idx y) (hts : ∀ w ∈ lw_all, w.before args s = true) (hE : EnvT G s) : (Cond.methodLink own idx y).before args s = true ∨ ∃ host, (Cond.methodLinkNest own idx y host).before args s = true := by
  rcases h with h | ⟨host, h⟩
  · exact Or.inl (hts _ h)
  · exact Or.inr ⟨host, va_Nw.use rfl (hE.2.1 _ h rfl)⟩
theorem par_len {y : MethodName} {n : Nat} (h : (parseMethodDescriptor y.desc).map (fun d => d.parameters.length) = some n) {As : List AV} (hn : As.length = n) : ∀ sig, parseMethodDescriptor y.desc = some sig → (As.map cv).length = sig.parameters.length := by
  intro sig hs
  rw [hs] at h
  rw [List.length_map, hn]
  exact (Option.some.inj h).symm
theorem link_V {c a idx n maxL : Nat} {t : List Int32} {As rest : List AV} {hs : List (Nat × Nat × Nat × Nat)} {y : MethodName} {bytes : ByteArray} {rt : Option FieldType} {C : String} (cx : Cx I own cc nL ret d hs ini) (hrc : rcv c C) (hl : MLK own idx y) (hi : Cond.instanceMethod y ∈ lw_all) (hsel : Cond.selects C y y ∈ lw_all) (hcd : Cond.code y bytes maxL rt ∈ lw_all)
    (hd : y.cls ≠ "java/lang/invoke/MethodHandle" ∧ y.cls ≠ "java/lang/invoke/VarHandle" ∧ (parseMethodDescriptor y.desc).map (fun d => d.parameters.length) = some n) (hn : As.length = n) (hdg : decode cc pc = .ok (.invokevirtual idx, 3)) : LinkY I pc (vR (some (c, a, t)) :: As) rest y := by
  obtain ⟨p, l, e, R, s, m, args, below, meth, c0, G, S0⟩ := I
  obtain ⟨hx, hb, hml, hown, hts, hE, -⟩ := cx
  intro S H locs la T cells slots hbs hA hT X
  obtain ⟨cell, h1, h2, h3⟩ := hrc.cell hE hbs hA.1
  exact lk_V X hx hown (hl.use hts hE) (hts _ hi) (hts _ hsel) (hts _ hcd) ⟨hd.1, hd.2.1⟩ (by rw [hT]; exact h1) h2 h3 (g := F0 m pc la _) rfl (argsL := As.map cv) (par_len hd.2.2 hn) (rev_stk _ As rest) (by rw [hb]; exact hdg)
theorem link_VU {c a idx n : Nat} {t : List Int32} {As rest : List AV} {hs : List (Nat × Nat × Nat × Nat)} {x y : MethodName} {owner : String} {C : String} (cx : Cx I own cc nL ret d hs ini) (hrc : rcv c C) (hl : Cond.methodLink own idx x ∈ lw_all) (hsm : Cond.sameMethod x.cls owner x.name x.desc ∈ lw_all) (hde : Cond.declares ⟨owner, x.name, x.desc⟩ ∈ lw_tbl ∨ ∃ b m r, Cond.instanceMethod ⟨owner, x.name, x.desc⟩ ∈ lw_all ∧ Cond.code ⟨owner, x.name, x.desc⟩ b m r ∈ lw_all) (hi : Cond.instanceMethod y ∈ lw_all) (hsel : Cond.selects C x y ∈ lw_all)
    (hd : owner ≠ "java/lang/invoke/MethodHandle" ∧ owner ≠ "java/lang/invoke/VarHandle" ∧ (parseMethodDescriptor x.desc).map (fun d => d.parameters.length) = some n) (hn : As.length = n) (hdg : decode cc pc = .ok (.invokevirtual idx, 3)) : LinkY I pc (vR (some (c, a, t)) :: As) rest y := by
  obtain ⟨p, l, e, R, s, m, args, below, meth, c0, G, S0⟩ := I
  obtain ⟨hx, hb, hml, hown, hts, hE, -⟩ := cx
  intro S H locs la T cells slots hbs hA hT X
  obtain ⟨cell, h1, h2, h3⟩ := hrc.cell hE hbs hA.1
  have hdec : va_Decl s ⟨owner, x.name, x.desc⟩ := by
    rcases hde with h | ⟨b, mm, r, h, h'⟩
    · exact va_Decl.abs (hE.2.1 _ h rfl)
    · exact va_Decl.of (hts _ h) (hts _ h')
  exact lk_VU X hx hown (hts _ hl) (hts _ hsm) hdec ⟨hd.1, hd.2.1⟩ (hts _ hsel) (hts _ hi) (by rw [hT]; exact h1) h2 h3 (g := F0 m pc la _) rfl (argsL := As.map cv) (par_len hd.2.2 hn) (rev_stk _ As rest) (by rw [hb]; exact hdg)
theorem link_S {idx n maxL : Nat} {As rest : List AV} {hs : List (Nat × Nat × Nat × Nat)} {y : MethodName} {bytes : ByteArray} {rt : Option FieldType} (cx : Cx I own cc nL ret d hs ini) (hl : MLK own idx y) (hi : Cond.static y ∈ lw_all) (hin : Cond.initialized y.cls ∈ lw_all) (hcd : Cond.code y bytes maxL rt ∈ lw_all)
    (hd : y.cls ≠ "java/lang/invoke/MethodHandle" ∧ y.cls ≠ "java/lang/invoke/VarHandle" ∧ (parseMethodDescriptor y.desc).map (fun d => d.parameters.length) = some n) (hn : As.length = n) (hdg : decode cc pc = .ok (.invokestatic idx, 3)) : LinkY I pc As rest y := by
  obtain ⟨p, l, e, R, s, m, args, below, meth, c0, G, S0⟩ := I
  obtain ⟨hx, hb, hml, hown, hts, hE, -⟩ := cx
  intro S H locs la T cells slots hbs hA hT X
  exact lk_S X hx hown (hl.use hts hE) (hts _ hi) (hts _ hin) (hts _ hcd) ⟨hd.1, hd.2.1⟩ (g := F0 m pc la _) rfl (argsL := As.map cv) (rest := rest.map cv) (par_len hd.2.2 hn) (by show List.map cv (As.reverse ++ rest) = _; rw [List.map_append, List.map_reverse]) (by rw [hb]; exact hdg)
theorem link_I {c a idx n maxL : Nat} {t : List Int32} {As rest : List AV} {hs : List (Nat × Nat × Nat × Nat)} {y : MethodName} {bytes : ByteArray} (cx : Cx I own cc nL ret d hs ini) (hy1 : y.name = "<init>") (hl : MLK own idx y) (hi : Cond.instanceMethod y ∈ lw_all) (hcd : Cond.code y bytes maxL none ∈ lw_all)
    (hd : y.cls ≠ "java/lang/invoke/MethodHandle" ∧ y.cls ≠ "java/lang/invoke/VarHandle" ∧ (parseMethodDescriptor y.desc).map (fun d => d.parameters.length) = some n) (hn : As.length = n) (hdg : decode cc pc = .ok (.invokespecial idx, 3)) : LinkY I pc (vR (some (c, a, t)) :: As) rest y := by
  obtain ⟨p, l, e, R, s, m, args, below, meth, c0, G, S0⟩ := I
  obtain ⟨hx, hb, hml, hown, hts, hE, -⟩ := cx
  intro S H locs la T cells slots hbs hA hT X
  exact lk_I X hx hown hy1 (hl.use hts hE) (hts _ hi) (hts _ hcd) ⟨hd.1, hd.2.1⟩ (g := F0 m pc la _) rfl (a := a) (argsL := As.map cv) (par_len hd.2.2 hn) (rev_stk _ As rest) (by rw [hb]; exact hdg)
theorem link_SU {c a idx n maxL : Nat} {t : List Int32} {As rest : List AV} {hs : List (Nat × Nat × Nat × Nat)} {y : MethodName} {bytes : ByteArray} {rt : Option FieldType} {sup C : String} (cx : Cx I own cc nL ret d hs ini) (hrc : rcv c C) (hl : Cond.methodLink own idx ⟨sup, y.name, y.desc⟩ ∈ lw_all) (hsm : Cond.sameMethod sup y.cls y.name y.desc ∈ lw_all) (hsup : Cond.superclass own sup ∈ lw_all) (hup : sup = y.cls ∨ Cond.superclass sup y.cls ∈ lw_all) (hi : Cond.instanceMethod y ∈ lw_all) (hcd : Cond.code y bytes maxL rt ∈ lw_all) (hno : y.name ≠ "<init>")
    (hd : y.cls ≠ "java/lang/invoke/MethodHandle" ∧ y.cls ≠ "java/lang/invoke/VarHandle" ∧ (parseMethodDescriptor y.desc).map (fun d => d.parameters.length) = some n) (hn : As.length = n) (hdg : decode cc pc = .ok (.invokespecial idx, 3)) : LinkY I pc (vR (some (c, a, t)) :: As) rest y := by
  obtain ⟨p, l, e, R, s, m, args, below, meth, c0, G, S0⟩ := I
  obtain ⟨hx, hb, hml, hown, hts, hE, -⟩ := cx
  intro S H locs la T cells slots hbs hA hT X
  obtain ⟨cell, h1, h2, h3⟩ := hrc.cell hE hbs hA.1
  obtain ⟨kB, hkB, -⟩ := Vm.findClass_spec h3
  refine lk_SU X hx hown (hts _ hl) (hts _ hsm) (hts _ hsup) (fun cS cY e1 e2 => ?_) (hts _ hi) (hts _ hcd) hno (by rw [hT]; exact h1) h2 hkB (g := F0 m pc la _) rfl (argsL := As.map cv) (par_len hd.2.2 hn) (rev_stk _ As rest) (by rw [hb]; exact hdg)
  rcases hup with h | h
  · rw [h] at e1
    cases e1.symm.trans e2
    simp [Vm.isSubclass, Vm.isSubclassAux]
  · obtain ⟨ps, dk, kp, hps, hdk, hkp, hsuper, -, -, -⟩ := Cond.superclass_spec e1 (hts _ h)
    cases hps.symm.trans e2
    simp only [Vm.isSubclass, Vm.isSubclassAux, hdk, hsuper, Bool.or_eq_true, beq_iff_eq]
    right
    have hlt := (Array.getElem?_eq_some_iff.mp hdk).1
    cases hn : s.vm.classes.size with
    | zero => omega
    | succ n => simp [Vm.isSubclassAux]
end YK
end
section
set_option maxRecDepth 100000
/-! The reference's own state: int fields and int arrays by their numbers -/
abbrev MS : Type := (Nat → Int32) × (Nat → Nat → Int32)
def mI (M : MS) (f : Nat) : Int32 := M.1 f
def mA (M : MS) (f k : Nat) : Int32 := M.2 f k
def mSI (M : MS) (f : Nat) (v : Int32) : MS := (fun g => if g = f then v else M.1 g, M.2)
def mSA (M : MS) (f k : Nat) (v : Int32) : MS := (M.1, fun g j => if g = f ∧ j = k then v else M.2 g j)
theorem mI_mSI (M : MS) (f : Nat) (v : Int32) (g : Nat) : mI (mSI M f v) g = if g = f then v else mI M g := rfl
theorem mA_mSI (M : MS) (f : Nat) (v : Int32) (g k : Nat) : mA (mSI M f v) g k = mA M g k := rfl
theorem mI_mSA (M : MS) (f k : Nat) (v : Int32) (g : Nat) : mI (mSA M f k v) g = mI M g := rfl
theorem mA_mSA (M : MS) (f k : Nat) (v : Int32) (g j : Nat) : mA (mSA M f k v) g j = if g = f ∧ j = k then v else mA M g j := rfl
abbrev mAr : List Nat := [10, 12, 13, 14]
abbrev mIn : List Nat := [11, 15, 16, 17, 18, 19]
def aln (f : Nat) : Nat := if f = 10 ∨ f = 14 then 480 else 500
/-- a reference object stands at ad 1, its arrays at ad 10, ad 12, ad 13, ad 14 -/
def MAd (ad : Nat → Nat) (S : HS) : Prop := hC S (ad 1) = some (1, []) ∧ (∀ f ∈ mAr, hR S f (ad 1) = some (100, ad f, []) ∧ hN S (ad f) = aln f) ∧ ∀ f ∈ mAr, ∀ g ∈ mAr, ad f = ad g → f = g
/-- S is Sb, but the reference at ad holds M -/
def MRep (ad : Nat → Nat) (Sb : HS) (M : MS) (S : HS) : Prop :=
  MAd ad S ∧ (∀ a, hC S a = hC Sb a) ∧ (hZ S = hZ Sb ∧ hB S = hB Sb ∧ hU S = hU Sb) ∧ (∀ f a, hL S f a = hL Sb f a) ∧ (∀ f a, hR S f a = hR Sb f a) ∧ (∀ a, hN S a = hN Sb a) ∧ (∀ a k, hY S a k = hY Sb a k) ∧ (∀ a k, hP S a k = hP Sb a k) ∧
  (∀ f a, a ≠ ad 1 → hI S f a = hI Sb f a) ∧ (∀ a k, (∀ f ∈ mAr, a ≠ ad f) → hA S a k = hA Sb a k) ∧ (∀ f ∈ mIn, hI S f (ad 1) = mI M f) ∧ ∀ f ∈ mAr, ∀ k, hA S (ad f) k = mA M f k
section YM
variable {I : Iv} {own : String} {cc : ByteArray} {nL : Nat} {ret : Option FieldType} {d : Nat} {hs : List (Nat × Nat × Nat × Nat)} {ini : Bool} {pc : Nat} {ls : List (Option AV)} {st : List AV} {ad : Nat → Nat} {Sb : HS} {O : OA → MS → Prop} {x : MS}
theorem m_liftO {O : OA → MS → Prop} {pc : Nat} {ls : List (Option AV)} {st : List AV} (h : ∀ S, MRep ad Sb x S → Y Eq I (fun o S' => ∃ x', MRep ad Sb x' S' ∧ O o x') pc ls st S) : Y (MRep ad Sb) I O pc ls st x := by
  obtain ⟨p, l, e, R, s, m, args, below, meth, c0, G, S0⟩ := I
  intro S H locs la hS hbs hv hw1 hw2
  refine W.Qmono ?_ (h S hS S H locs la rfl hbs hv hw1 hw2)
  rintro t ⟨o, a1, a2, a3, S', x', L, oa, a4, a5, a6, a7, a8, z, a9, a10⟩
  subst a6
  exact ⟨o, a1, a2, a3, _, z, L, oa, a4, a5, a9, a7, a8, a10⟩
theorem m_lowO {O : OA → MS → Prop} {pc : Nat} {ls : List (Option AV)} {st : List AV} {S : HS} (hS : MRep ad Sb x S) (h : Y (MRep ad Sb) I O pc ls st x) : Y Eq I (fun o S' => ∃ x', MRep ad Sb x' S' ∧ O o x') pc ls st S := by
  obtain ⟨p, l, e, R, s, m, args, below, meth, c0, G, S0⟩ := I
  intro S1 H locs la hS1 hbs hv hw1 hw2
  subst hS1
  refine W.Qmono ?_ (h S H locs la hS hbs hv hw1 hw2)
  rintro t ⟨o, a1, a2, a3, S', x', L, oa, a4, a5, a6, a7, a8, a9⟩
  exact ⟨o, a1, a2, a3, S', S', L, oa, a4, a5, rfl, a7, a8, x', a6, a9⟩
theorem m_getI {f idx : Nat} {nm ds : String} {fin : Bool} (cx : Cx I own cc nL ret d hs ini) (hF : FE [1] 0 f "ClassFileReaderModel" nm ds fin) (hlk : LK own idx "ClassFileReaderModel" nm ds) (hd : decode cc pc = .ok (.getfield idx, 3)) (hf : f ∈ mIn) (k : Y (MRep ad Sb) I O (pc + 3) ls (vI (mI x f) :: st) x) : Y (MRep ad Sb) I O pc ls (vR (some (1, ad 1, [])) :: st) x := by
  refine m_liftO fun S hS => y_getI cx hF hlk (Or.inl rfl) hd (by decide) ?_
  rw [hS.2.2.2.2.2.2.2.2.2.2.1 f hf]
  exact m_lowO hS k
theorem m_getA {f idx : Nat} {nm ds : String} {fin : Bool} (cx : Cx I own cc nL ret d hs ini) (hF : FE [1] 2 f "ClassFileReaderModel" nm ds fin) (hlk : LK own idx "ClassFileReaderModel" nm ds) (hd : decode cc pc = .ok (.getfield idx, 3)) (hf : f ∈ mAr) (k : Y (MRep ad Sb) I O (pc + 3) ls (vR (some (100, ad f, [])) :: st) x) : Y (MRep ad Sb) I O pc ls (vR (some (1, ad 1, [])) :: st) x := by
  refine m_liftO fun S hS => y_getR cx hF hlk (Or.inl rfl) hd (by decide) ?_
  rw [(hS.1.2.1 f hf).1]
  exact m_lowO hS k
theorem m_putI {f idx : Nat} {nm ds : String} {v : Int32} {ty : FieldType} (cx : Cx I own cc nL ret d hs ini) (hF : FE [1] 0 f "ClassFileReaderModel" nm ds false) (hlk : LK own idx "ClassFileReaderModel" nm ds) (hd : decode cc pc = .ok (.putfield idx, 3)) (hf : f ∈ mIn) (hpd : parseFieldDescriptor ds = some ty) (hn : narrow ty (.int v) = .int v ∧ fits ty (.int v) = true) (k : Y (MRep ad Sb) I O (pc + 3) ls st (mSI x f v)) : Y (MRep ad Sb) I O pc ls (vI v :: vR (some (1, ad 1, [])) :: st) x := by
  refine m_liftO fun S hS => y_putI cx hF hlk (Or.inl rfl) (Or.inl rfl) hd (by decide) hpd hn ?_
  refine m_lowO (x := mSI x f v) ?_ k
  obtain ⟨h1, h2, h3, h4, h5, h6, h7, h8, h9, h10, h11, h12⟩ := hS
  refine ⟨h1, h2, h3, h4, h5, h6, h7, h8, fun g a ha => ?_, h10, fun g hg => ?_, h12⟩
  · rw [hI_sI, if_neg (fun z => ha z.2)]
    exact h9 g a ha
  · rw [hI_sI, mI_mSI]
    by_cases e : g = f
    · rw [if_pos ⟨e, rfl⟩, if_pos e]
    · rw [if_neg (fun z => e z.1), if_neg e]
      exact h11 g hg
theorem m_iald {f : Nat} {i : Int32} (cx : Cx I own cc nL ret d hs ini) (hd : decode cc pc = .ok (.iaload, 1)) (hf : f ∈ mAr) (hin : vp_in i (aln f)) (k : Y (MRep ad Sb) I O (pc + 1) ls (vI (mA x f i.toNatClampNeg) :: st) x) : Y (MRep ad Sb) I O pc ls (vI i :: vR (some (100, ad f, [])) :: st) x := by
  refine m_liftO fun S hS => y_iald cx hd (by rw [(hS.1.2.1 f hf).2]; exact hin) ?_
  rw [hS.2.2.2.2.2.2.2.2.2.2.2 f hf]
  exact m_lowO hS k
theorem m_iast {f : Nat} {i v : Int32} (cx : Cx I own cc nL ret d hs ini) (hd : decode cc pc = .ok (.iastore, 1)) (hf : f ∈ mAr) (hin : vp_in i (aln f)) (k : Y (MRep ad Sb) I O (pc + 1) ls st (mSA x f i.toNatClampNeg v)) : Y (MRep ad Sb) I O pc ls (vI v :: vI i :: vR (some (100, ad f, [])) :: st) x := by
  refine m_liftO fun S hS => y_iast cx hd (by rw [(hS.1.2.1 f hf).2]; exact hin) ?_
  refine m_lowO (x := mSA x f i.toNatClampNeg v) ?_ k
  obtain ⟨h1, h2, h3, h4, h5, h6, h7, h8, h9, h10, h11, h12⟩ := hS
  refine ⟨h1, h2, h3, h4, h5, h6, h7, h8, h9, fun a j ha => ?_, h11, fun g hg j => ?_⟩
  · rw [hA_sA, if_neg (fun z => ha f hf z.1)]
    exact h10 a j ha
  · rw [hA_sA, mA_mSA]
    by_cases e : g = f ∧ j = i.toNatClampNeg
    · rw [if_pos ⟨by rw [e.1], e.2⟩, if_pos e]
    · rw [if_neg (fun z => e ⟨h1.2.2 g hg f hf z.1, z.2⟩), if_neg e]
      exact h12 g hg j
theorem m_alen {f : Nat} (cx : Cx I own cc nL ret d hs ini) (hd : decode cc pc = .ok (.arraylength, 1)) (hf : f ∈ mAr) (k : Y (MRep ad Sb) I O (pc + 1) ls (vI (nI (aln f)) :: st) x) : Y (MRep ad Sb) I O pc ls (vR (some (100, ad f, [])) :: st) x := by
  refine m_liftO fun S hS => y_alen cx hd (by decide) ?_
  rw [(hS.1.2.1 f hf).2]
  exact m_lowO hS k
end YM
/-- a boolean stays what it is -/
theorem nz_bool {v : Int32} (h : v = 0 ∨ v = 1) : narrow .boolean (.int v) = .int v ∧ fits .boolean (.int v) = true := by
  rcases h with rfl | rfl <;> exact ⟨rfl, rfl⟩
end
section
set_option maxRecDepth 100000
theorem pdI : parseFieldDescriptor "I" = some .int := by decide +kernel
theorem pdZ : parseFieldDescriptor "Z" = some .boolean := by decide +kernel
theorem pdB : parseFieldDescriptor "B" = some .byte := by decide +kernel
theorem pdJ : parseFieldDescriptor "J" = some .long := by decide +kernel
section YNM
variable {σ : Type} {ρ : σ → HS → Prop} {I : Iv} {own : String} {cc : ByteArray} {nL : Nat} {ret : Option FieldType} {d : Nat} {hs : List (Nat × Nat × Nat × Nat)} {ini : Bool} {O : OA → σ → Prop} {pc : Nat} {ls : List (Option AV)} {st : List AV} {x : σ}
theorem y_nmI {e : Int32} (k : ∀ v, v = e → Y ρ I O pc ls (vI v :: st) x) : Y ρ I O pc ls (vI e :: st) x := k e rfl
theorem y_nmL {e : Int64} (k : ∀ v, v = e → Y ρ I O pc ls (vL v :: st) x) : Y ρ I O pc ls (vL e :: st) x := k e rfl
theorem y_nmS (k : ∀ z, z = x → Y ρ I O pc ls st z) : Y ρ I O pc ls st x := k x rfl
theorem y_iincN {x1 v : Int32} {n : Int} (i : Nat) (ls' : Int32 → List (Option AV)) (cx : Cx I own cc nL ret d hs ini) (hd : decode cc pc = .ok (.iinc i n, 3)) (hg : ls[i]? = some (some (vI x1))) (hn : Int32.ofInt n = v) (hp : oka ls i) (hls : ∀ w, ls.set i (some (vI w)) = ls' w) (k : ∀ w, w = x1 + v → Y ρ I O (pc + 3) (ls' w) st x) : Y ρ I O pc ls st x :=
  y_iinc i (ls' (x1 + v)) cx hd hg hn hp (hls _) (k _ rfl)
end YNM
end
section
set_option maxRecDepth 100000
theorem lit_tok : ∀ j, j < litN → tok (litT j) := by unfold tok; decide +kernel
theorem Rep.str {G : GT} {S : HS} {H : Heap} (h : Rep G S H) {a : Nat} {t : List Int32} (hc : hC S a = some (14, t)) : gz G ≤ a ∧ ∃ (v : Nat) (x z : Int32), va_at G.1 clW (a, .inr (14, [.ref v, .int 0, .int x, .int z])) H ∧ hC S v = some (104, t) ∧ (x ≠ 0 → x = hsh t) ∧ (z ≠ 0 → hsh t = 0) := by
  rcases h.kc hc with ⟨h1, -⟩ | ⟨h1, -⟩ | ⟨-, h2, v, x, z, h3, h4, h5, h6⟩ | ⟨h1, -⟩ | ⟨h1, -⟩ | ⟨h1, -⟩
  · cases h1
  · cases h1
  · exact ⟨h2, v, x, z, h3, h4, h5, h6⟩
  · cases h1
  · cases h1
  · cases h1
theorem Rep.lit {G : GT} {S : HS} {H : Heap} (h : Rep G S H) {a : Nat} {t : List Int32} (hc : hC S a = some (16, t)) : ∃ j, j < litN ∧ a = gK G j ∧ t = litT j := by
  rcases h.kc hc with ⟨h1, -⟩ | ⟨h1, -⟩ | ⟨h1, -⟩ | ⟨h1, -⟩ | ⟨-, h2⟩ | ⟨h1, -⟩
  · cases h1
  · cases h1
  · cases h1
  · cases h1
  · exact h2
  · cases h1
theorem Rep.litv {G : GT} {S : HS} {H : Heap} (h : Rep G S H) {a : Nat} {t : List Int32} (hc : hC S a = some (103, t)) : ∃ j, j < litN ∧ a = gV G j ∧ t = litT j := by
  rcases h.kc hc with ⟨h1, -⟩ | ⟨h1, -⟩ | ⟨h1, -⟩ | ⟨h1, -⟩ | ⟨h1, -⟩ | ⟨-, h2⟩
  · cases h1
  · cases h1
  · cases h1
  · cases h1
  · cases h1
  · exact h2
theorem Rep.frz {G : GT} {S : HS} {H : Heap} (h : Rep G S H) {a : Nat} {t : List Int32} (hc : hC S a = some (104, t)) : gz G ≤ a ∧ tok t ∧ va_at G.1 clW (a, .inl (G.2.1 1, t.length, .inl (fun k => t.getD k 0))) H := by
  rcases h.kc hc with ⟨h1, -⟩ | ⟨h1, -⟩ | ⟨h1, -⟩ | ⟨-, h2⟩ | ⟨h1, -⟩ | ⟨h1, -⟩
  · cases h1
  · cases h1
  · cases h1
  · exact h2
  · cases h1
  · cases h1
theorem Rep.tok {G : GT} {S : HS} {H : Heap} (h : Rep G S H) {a c : Nat} {t : List Int32} (hc : hC S a = some (c, t)) (h14 : c = 14 ∨ c = 16) : tok t := by
  rcases h14 with rfl | rfl
  · obtain ⟨-, v, x, z, -, h4, -⟩ := h.str hc
    exact (h.frz h4).2.1
  · obtain ⟨j, hj, -, rfl⟩ := h.lit hc
    exact lit_tok j hj
theorem Rep.mal {G : GT} {S : HS} {H : Heap} (h : Rep G S H) {a : Nat} {t : List Int32} (hc : hC S a = some (5, t)) : t = [] ∧ gz G ≤ a ∧ MF H a ∧ ∃ w : List Value, w.length = 6 ∧ (hI S 99 a = 0 → w = [.null, .null, .null, .null, .null, .int 0]) ∧ va_at G.1 clW (a, .inr (5, w ++ [.int (hI S 52 a), .int (hI S 53 a)])) H := by
  rcases h.kc hc with ⟨h1, -⟩ | ⟨-, h2⟩ | ⟨h1, -⟩ | ⟨h1, -⟩ | ⟨h1, -⟩ | ⟨h1, -⟩
  · cases h1
  · exact h2
  · cases h1
  · cases h1
  · cases h1
  · cases h1
section YT
variable {I : Iv} {own : String} {cc : ByteArray} {nL : Nat} {ret : Option FieldType} {d : Nat} {hs : List (Nat × Nat × Nat × Nat)} {ini : Bool} {O : OA → HS → Prop} {pc : Nat} {ls : List (Option AV)} {st : List AV} {S : HS}
theorem w_litf {p : Program} {l : Launch} {e : Env} {R : Room} {s : State} {m : MethodId} {args : Array Value} {below : List Frame} {meth : Method} {c : Code} {H : Heap} {locs : List Loc} {cells slots : Nat} {Q : State → Prop} {la : Array Slot} {rest : List Value} {G : GT} {nm ds : String} {idx a : Nat} {v : Value} (hx : p.tables.exec = Jvm.exec) (hb : c.code = cc) (hown : s.vm.findClass own = some m.cls) (hr : Rep G S H) (hF : va_OF "java/lang/String" nm ds v a (gA G) s G.2.2.1) (hlk : (Cond.fieldLink own idx "java/lang/String" nm ds).before args s = true) (hd : decode cc pc = .ok (.getfield idx, 3))
    (k : W p l e R s m args below meth c H locs cells slots Q (F0 m (pc + 3) la (v :: rest))) : W p l e R s m args below meth c H locs cells slots Q (F0 m pc la (.ref a :: rest)) := by
  obtain ⟨cf, kf, fi, f, cell, h1, h2, h3, h4, h5, h6⟩ := hF
  exact W.getf hx hb hown hlk h1 h2 (by rw [hr.2.2.1 a (Nat.not_le.mp h6)]; exact h3) h4 (v := v) h5 rfl rfl hd k
theorem y_strVal {c a idx : Nat} {t : List Int32} (cx : Cx I own cc nL ret d hs ini) (hq : Cond.fieldLink own idx "java/lang/String" "value" "[B" ∈ lw_all) (hd : decode cc pc = .ok (.getfield idx, 3)) (hc : c = 14 ∨ c = 16) (k : ∀ cw w, (cw = 103 ∨ cw = 104) → tok t → Y Eq I O (pc + 3) ls (vR (some (cw, w, t)) :: st) S) : Y Eq I O pc ls (vR (some (c, a, t)) :: st) S := by
  obtain ⟨p, l, e, R, s, m, args, below, meth, c0, G, S0⟩ := I
  obtain ⟨hx, hb, hml, hown, hts, hE, -⟩ := cx
  intro S' H locs la hS hbs hv hw1 hw2
  subst hS
  have htk := hbs.1.tok hw2.1 hc
  rcases hc with rfl | rfl
  · obtain ⟨-, v, x, z, hat, hv4, -⟩ := hbs.1.str hw2.1
    exact w_getf (ci := 14) (kk := 0) (C := RJ2) (T := TJ2) (N := 4) (ref := "java/lang/String") hx hb hown hts hE rfl (by decide) hat rfl (Or.inl hq) (Or.inl rfl) hd (k 104 v (Or.inr rfl) htk S H locs la rfl hbs hv hw1 ⟨hv4, hw2.2⟩)
  · obtain ⟨j, hj, e1, e2⟩ := hbs.1.lit hw2.1
    have e1 : a = gK G j := e1
    have e2 : t = litT j := e2
    subst e1
    subst e2
    exact w_litf hx hb hown hbs.1 (hE.2.2.1 j hj).2.2.1 (hts _ hq) hd (k 103 (gV G j) (Or.inl rfl) htk S H locs la rfl hbs hv hw1 ⟨(hbs.1.2.2.2.2.2.2 j hj).2, hw2.2⟩)
theorem y_strCoder {c a idx : Nat} {t : List Int32} (cx : Cx I own cc nL ret d hs ini) (hq : Cond.fieldLink own idx "java/lang/String" "coder" "B" ∈ lw_all) (hd : decode cc pc = .ok (.getfield idx, 3)) (hc : c = 14 ∨ c = 16) (k : Y Eq I O (pc + 3) ls (vI 0 :: st) S) : Y Eq I O pc ls (vR (some (c, a, t)) :: st) S := by
  obtain ⟨p, l, e, R, s, m, args, below, meth, c0, G, S0⟩ := I
  obtain ⟨hx, hb, hml, hown, hts, hE, -⟩ := cx
  intro S' H locs la hS hbs hv hw1 hw2
  subst hS
  rcases hc with rfl | rfl
  · obtain ⟨-, v, x, z, hat, hv4, -⟩ := hbs.1.str hw2.1
    exact w_getf (ci := 14) (kk := 1) (C := RJ2) (T := TJ2) (N := 4) (ref := "java/lang/String") hx hb hown hts hE rfl (by decide) hat rfl (Or.inl hq) (Or.inl rfl) hd (k S H locs la rfl hbs hv hw1 ⟨trivial, hw2.2⟩)
  · obtain ⟨j, hj, e1, e2⟩ := hbs.1.lit hw2.1
    have e1 : a = gK G j := e1
    subst e1
    exact w_litf hx hb hown hbs.1 (hE.2.2.1 j hj).2.1 (hts _ hq) hd (k S H locs la rfl hbs hv hw1 ⟨trivial, hw2.2⟩)
theorem y_strHash {a idx : Nat} {t : List Int32} (cx : Cx I own cc nL ret d hs ini) (hq : Cond.fieldLink own idx "java/lang/String" "hash" "I" ∈ lw_all) (hd : decode cc pc = .ok (.getfield idx, 3)) (k : ∀ x, (x ≠ 0 → x = hsh t) → Y Eq I O (pc + 3) ls (vI x :: st) S) : Y Eq I O pc ls (vR (some (14, a, t)) :: st) S := by
  obtain ⟨p, l, e, R, s, m, args, below, meth, c0, G, S0⟩ := I
  obtain ⟨hx, hb, hml, hown, hts, hE, -⟩ := cx
  intro S' H locs la hS hbs hv hw1 hw2
  subst hS
  obtain ⟨-, v, x, z, hat, hv4, h5, h6⟩ := hbs.1.str hw2.1
  exact w_getf (ci := 14) (kk := 2) (C := RJ2) (T := TJ2) (N := 4) (ref := "java/lang/String") hx hb hown hts hE rfl (by decide) hat rfl (Or.inl hq) (Or.inl rfl) hd (k x h5 S H locs la rfl hbs hv hw1 ⟨trivial, hw2.2⟩)
theorem y_strHz {a idx : Nat} {t : List Int32} (cx : Cx I own cc nL ret d hs ini) (hq : Cond.fieldLink own idx "java/lang/String" "hashIsZero" "Z" ∈ lw_all) (hd : decode cc pc = .ok (.getfield idx, 3)) (k : ∀ z, (z ≠ 0 → hsh t = 0) → Y Eq I O (pc + 3) ls (vI z :: st) S) : Y Eq I O pc ls (vR (some (14, a, t)) :: st) S := by
  obtain ⟨p, l, e, R, s, m, args, below, meth, c0, G, S0⟩ := I
  obtain ⟨hx, hb, hml, hown, hts, hE, -⟩ := cx
  intro S' H locs la hS hbs hv hw1 hw2
  subst hS
  obtain ⟨-, v, x, z, hat, hv4, h5, h6⟩ := hbs.1.str hw2.1
  exact w_getf (ci := 14) (kk := 3) (C := RJ2) (T := TJ2) (N := 4) (ref := "java/lang/String") hx hb hown hts hE rfl (by decide) hat rfl (Or.inl hq) (Or.inl rfl) hd (k z h6 S H locs la rfl hbs hv hw1 ⟨trivial, hw2.2⟩)
/-- a String's hash is written down -/
theorem y_putHash {a idx : Nat} {t : List Int32} {x : Int32} (cx : Cx I own cc nL ret d hs ini) (hq : Cond.fieldLink own idx "java/lang/String" "hash" "I" ∈ lw_all) (hd : decode cc pc = .ok (.putfield idx, 3)) (hh : x = hsh t) (k : Y Eq I O (pc + 3) ls st S) : Y Eq I O pc ls (vI x :: vR (some (14, a, t)) :: st) S := by
  obtain ⟨p, l, e, R, s, m, args, below, meth, c0, G, S0⟩ := I
  obtain ⟨hx, hb, hml, hown, hts, hE, -, -, -, -, hini, -⟩ := cx
  intro S' H locs la hS hbs hv hw1 hw2
  subst hS
  obtain ⟨hz, v, y, z, hat, hv4, h5, h6⟩ := hbs.1.str hw2.2.1
  refine w_putf (ci := 14) (kk := 2) (C := RJ2) (T := TJ2) (N := 4) (ref := "java/lang/String") (ty := .int) hx hb hown hts hE hini rfl (by decide) hat (Nat.le_of_ble_eq_true rfl) (Or.inl hq) (Or.inl rfl) (Or.inl rfl) pdI rfl rfl hd ?_
  intro H' i a2 a3 hat' _
  have hr' : Rep G S H' := hbs.1.set hw2.2.1 hz (fun _ => rfl) rfl (fun b _ => SD.rf) (fun f => hbs.1.2.2.2.2.1 f a) (fun k => hbs.1.2.2.2.2.2.1 a k) a2 a3 (Or.inr (Or.inr (Or.inl ⟨rfl, hz, v, x, z, hat', hv4, fun _ => hh, h6⟩)))
  exact k S H' _ la rfl (hbs.put hr' hz Mono.rf rfl rfl) hv hw1 hw2.2.2
theorem y_putHz {a idx : Nat} {t : List Int32} {x : Int32} (cx : Cx I own cc nL ret d hs ini) (hq : Cond.fieldLink own idx "java/lang/String" "hashIsZero" "Z" ∈ lw_all) (hd : decode cc pc = .ok (.putfield idx, 3)) (hx1 : x = 1) (hh : hsh t = 0) (k : Y Eq I O (pc + 3) ls st S) : Y Eq I O pc ls (vI x :: vR (some (14, a, t)) :: st) S := by
  subst hx1
  obtain ⟨p, l, e, R, s, m, args, below, meth, c0, G, S0⟩ := I
  obtain ⟨hx, hb, hml, hown, hts, hE, -, -, -, -, hini, -⟩ := cx
  intro S' H locs la hS hbs hv hw1 hw2
  subst hS
  obtain ⟨hz, v, y, z, hat, hv4, h5, h6⟩ := hbs.1.str hw2.2.1
  refine w_putf (ci := 14) (kk := 3) (C := RJ2) (T := TJ2) (N := 4) (ref := "java/lang/String") (ty := .boolean) hx hb hown hts hE hini rfl (by decide) hat (Nat.le_of_ble_eq_true rfl) (Or.inl hq) (Or.inl rfl) (Or.inl rfl) pdZ rfl rfl hd ?_
  intro H' i a2 a3 hat' _
  have hr' : Rep G S H' := hbs.1.set hw2.2.1 hz (fun _ => rfl) rfl (fun b _ => SD.rf) (fun f => hbs.1.2.2.2.2.1 f a) (fun k => hbs.1.2.2.2.2.2.1 a k) a2 a3 (Or.inr (Or.inr (Or.inl ⟨rfl, hz, v, y, 1, hat', hv4, h5, fun _ => hh⟩)))
  exact k S H' _ la rfl (hbs.put hr' hz Mono.rf rfl rfl) hv hw1 hw2.2.2
theorem y_baldT {c a : Nat} {t : List Int32} {i : Int32} (cx : Cx I own cc nL ret d hs ini) (hd : decode cc pc = .ok (.baload, 1)) (hc : c = 103 ∨ c = 104) (hin : vp_in i t.length) (k : Y Eq I O (pc + 1) ls (vI (t.getD i.toNatClampNeg 0) :: st) S) : Y Eq I O pc ls (vI i :: vR (some (c, a, t)) :: st) S := by
  obtain ⟨p, l, e, R, s, m, args, below, meth, c0, G, S0⟩ := I
  obtain ⟨hx, hb, hml, hown, hts, hE, -⟩ := cx
  intro S' H locs la hS hbs hv hw1 hw2
  subst hS
  have k := k S H locs la rfl hbs hv hw1 ⟨trivial, hw2.2.2⟩
  rcases hc with rfl | rfl
  · obtain ⟨j, hj, e1, e2⟩ := hbs.1.litv hw2.2.1
    have e1 : a = gV G j := e1
    have e2 : t = litT j := e2
    subst e1
    subst e2
    obtain ⟨cell, g1, g2, g3, g4, g5, g6, g7⟩ := (hE.2.2.1 j hj).2.2.2.1
    have hlt : i.toNatClampNeg < litL j := Nat.not_le.mp fun q => hin (Or.inr q)
    refine W.bald (v := .int (litB j i.toNatClampNeg)) hx hb (by rw [hbs.1.2.2.1 _ (Nat.not_le.mp g7)]; exact g1) g2 g3 (fun z => ?_) (g6 _ hlt) rfl rfl hd k
    rcases z with z | z
    · exact hin (Or.inl z)
    · omega
  · obtain ⟨-, -, hat⟩ := hbs.1.frz hw2.2.1
    exact va_bald (D := G.1) (cl := clW) (cA := G.2.1 1) (n := t.length) (f := fun k => t.getD k 0) hx hb hE.1 (va_P.one hat) 0 1 rfl rfl hin hd k
theorem y_alenT {c a : Nat} {t : List Int32} (cx : Cx I own cc nL ret d hs ini) (hd : decode cc pc = .ok (.arraylength, 1)) (hc : c = 103 ∨ c = 104) (k : Y Eq I O (pc + 1) ls (vI (nI t.length) :: st) S) : Y Eq I O pc ls (vR (some (c, a, t)) :: st) S := by
  obtain ⟨p, l, e, R, s, m, args, below, meth, c0, G, S0⟩ := I
  obtain ⟨hx, hb, hml, hown, hts, hE, -⟩ := cx
  intro S' H locs la hS hbs hv hw1 hw2
  subst hS
  have k := k S H locs la rfl hbs hv hw1 ⟨trivial, hw2.2⟩
  rcases hc with rfl | rfl
  · obtain ⟨j, hj, e1, e2⟩ := hbs.1.litv hw2.1
    have e1 : a = gV G j := e1
    have e2 : t = litT j := e2
    subst e1
    subst e2
    obtain ⟨cell, g1, g2, g3, g4, g5, g6, g7⟩ := (hE.2.2.1 j hj).2.2.2.1
    exact W.alen (n := nI (litL j)) hx hb (by rw [hbs.1.2.2.1 _ (Nat.not_le.mp g7)]; exact g1) g2 g5 rfl rfl hd k
  · obtain ⟨-, -, hat⟩ := hbs.1.frz hw2.1
    exact va_alen (D := G.1) (cl := clW) (cA := G.2.1 1) (x := (t.length, .inl (fun k => t.getD k 0))) hx hb hE.1 (va_P.one hat) 0 1 rfl rfl rfl hd k
theorem y_castB {a idx : Nat} {t : List Int32} (cx : Cx I own cc nL ret d hs ini) (hq : Cond.classLink own idx "[B" ∈ lw_all) (hd : decode cc pc = .ok (.checkcast idx, 3)) (k : Y Eq I O (pc + 3) ls (vR (some (104, a, t)) :: st) S) : Y Eq I O pc ls (vR (some (104, a, t)) :: st) S := by
  obtain ⟨p, l, e, R, s, m, args, below, meth, c0, G, S0⟩ := I
  obtain ⟨hx, hb, hml, hown, hts, hE, -⟩ := cx
  intro S' H locs la hS hbs hv hw1 hw2
  subst hS
  obtain ⟨-, -, hat⟩ := hbs.1.frz hw2.1
  exact va_castA (D := G.1) (cl := clW) (x := (t.length, .inl (fun k => t.getD k 0))) hx hb hown (hts _ hq) (va_P.one hat) 0 rfl (hE.1.2 1 _ rfl).2 hd (k S H locs la rfl hbs hv hw1 hw2)
theorem y_compact {idx : Nat} (cx : Cx I own cc nL ret d hs ini) (hq : Cond.fieldLink own idx "java/lang/String" "COMPACT_STRINGS" "Z" ∈ lw_all) (hd : decode cc pc = .ok (.getstatic idx, 3)) (k : Y Eq I O (pc + 3) ls (vI 1 :: st) S) : Y Eq I O pc ls st S := by
  obtain ⟨p, l, e, R, s, m, args, below, meth, c0, G, S0⟩ := I
  obtain ⟨hx, hb, hml, hown, hts, hE, -⟩ := cx
  intro S' H locs la hS hbs hv hw1 hw2
  subst hS
  obtain ⟨cf, kf, fi, f, a, cell, h1, h2, h3, h4, h5, h6, h7, h8⟩ := hE.2.2.2.1
  exact W.gets hx hb hown (hts _ hq) h1 h2 h3 h4 (by rw [hbs.1.2.2.1 a (Nat.not_le.mp h8)]; exact h5) (fun e => by rw [e] at h6; cases h6) h7 rfl hd (k S H locs la rfl hbs hv hw1 ⟨trivial, hw2⟩)
theorem y_instS {c a idx : Nat} {t : List Int32} (cx : Cx I own cc nL ret d hs ini) (hq : Cond.classLink own idx "java/lang/String" ∈ lw_all) (hd : decode cc pc = .ok (.instanceof idx, 3)) (hc : c = 14 ∨ c = 16) (k : Y Eq I O (pc + 3) ls (vI 1 :: st) S) : Y Eq I O pc ls (vR (some (c, a, t)) :: st) S := by
  obtain ⟨p, l, e, R, s, m, args, below, meth, c0, G, S0⟩ := I
  obtain ⟨hx, hb, hml, hown, hts, hE, -⟩ := cx
  intro S' H locs la hS hbs hv hw1 hw2
  subst hS
  exact va_instE hx hb hown (hts _ hq) (rcv.cell (Or.inr (Or.inl ⟨hc, rfl⟩)) hE hbs hw2.1) hd (k S H locs la rfl hbs hv hw1 ⟨trivial, hw2.2⟩)
theorem y_castS {c a idx : Nat} {t : List Int32} (cx : Cx I own cc nL ret d hs ini) (hq : Cond.classLink own idx "java/lang/String" ∈ lw_all) (hd : decode cc pc = .ok (.checkcast idx, 3)) (hc : c = 14 ∨ c = 16) (k : Y Eq I O (pc + 3) ls (vR (some (c, a, t)) :: st) S) : Y Eq I O pc ls (vR (some (c, a, t)) :: st) S := by
  obtain ⟨p, l, e, R, s, m, args, below, meth, c0, G, S0⟩ := I
  obtain ⟨hx, hb, hml, hown, hts, hE, -⟩ := cx
  intro S' H locs la hS hbs hv hw1 hw2
  subst hS
  exact va_castE hx hb hown (hts _ hq) (rcv.cell (Or.inr (Or.inl ⟨hc, rfl⟩)) hE hbs hw2.1) hd (k S H locs la rfl hbs hv hw1 hw2)
/-- a Malformed is thrown out of the method -/
theorem y_athrow {a : Nat} (cx : Cx I own cc nL ret d [] ini) (hd : decode cc pc = .ok (.athrow, 1)) (k : O (.inr a) S) : Y Eq I O pc ls (vR (some (5, a, [])) :: st) S := by
  obtain ⟨p, l, e, R, s, m, args, below, meth, c0, G, S0⟩ := I
  obtain ⟨hx, hb, hml, hown, hts, hE, -, hlk, -, hht, -⟩ := cx
  intro S' H locs la hS hbs hv hw1 hw2
  subst hS
  intro T hT X
  obtain ⟨a1, a2, a3, a4, a5⟩ := X.athrowLeaves hx (g := F0 m pc la (.ref a :: st.map cv)) rfl rfl rfl (by rw [hht]; intro q hq; cases hq) (a := a) (rest := st.map cv) rfl (by rw [hb]; exact hd) hlk
  exact ⟨_, a1, _, a2, a3, a4, S, S, locs, .inr a, a5, by show Bs G S0 S T.heap locs; rw [hT]; exact hbs, rfl, rfl, hw2.1, k⟩
theorem y_getM {f kk idx a : Nat} {nm : String} (cx : Cx I own cc nL ret d hs ini) (hf : (f = 52 ∧ kk = 6 ∧ nm = "code") ∨ (f = 53 ∧ kk = 7 ∧ nm = "place")) (hlk : LK own idx "ClassFileReader$Malformed" nm "I") (hd : decode cc pc = .ok (.getfield idx, 3)) (k : Y Eq I O (pc + 3) ls (vI (hI S f a) :: st) S) : Y Eq I O pc ls (vR (some (5, a, [])) :: st) S := by
  obtain ⟨p, l, e, R, s, m, args, below, meth, c0, G, S0⟩ := I
  obtain ⟨hx, hb, hml, hown, hts, hE, -⟩ := cx
  intro S' H locs la hS hbs hv hw1 hw2
  subst hS
  obtain ⟨-, hz, -, w, hw, -, hat⟩ := hbs.1.mal hw2.1
  have k := k S H locs la rfl hbs hv hw1 ⟨trivial, hw2.2⟩
  rcases hf with ⟨rfl, rfl, rfl⟩ | ⟨rfl, rfl, rfl⟩
  · exact w_getf (ci := 5) (kk := 6) (C := RX6) (T := TX6) (N := 8) (ref := "ClassFileReader$Malformed") hx hb hown hts hE rfl (by decide) hat (by rw [List.getElem?_append_right (by omega), hw]; rfl) hlk (Or.inl rfl) hd k
  · exact w_getf (ci := 5) (kk := 7) (C := RX6) (T := TX6) (N := 8) (ref := "ClassFileReader$Malformed") hx hb hown hts hE rfl (by decide) hat (by rw [List.getElem?_append_right (by omega), hw]; rfl) hlk (Or.inl rfl) hd k
theorem y_putM {f kk idx a : Nat} {nm : String} {v : Int32} (cx : Cx I "ClassFileReader$Malformed" cc nL ret d hs true) (hf : (f = 52 ∧ kk = 6 ∧ nm = "code") ∨ (f = 53 ∧ kk = 7 ∧ nm = "place")) (hq : Cond.fieldLink "ClassFileReader$Malformed" idx "ClassFileReader$Malformed" nm "I" ∈ lw_all) (hd : decode cc pc = .ok (.putfield idx, 3)) (k : Y Eq I O (pc + 3) ls st (sI S f a v)) : Y Eq I O pc ls (vI v :: vR (some (5, a, [])) :: st) S := by
  obtain ⟨p, l, e, R, s, m, args, below, meth, c0, G, S0⟩ := I
  obtain ⟨hx, hb, hml, hown, hts, hE, -, -, -, -, hini, -⟩ := cx
  intro S' H locs la hS hbs hv hw1 hw2
  subst hS
  obtain ⟨-, hz, hmf, w, hw, hw0, hat⟩ := hbs.1.mal hw2.2.1
  have hm : Mono S (sI S f a v) := fun _ _ h => h
  have h99 : ¬ 99 = f := by rcases hf with ⟨rfl, -⟩ | ⟨rfl, -⟩ <;> decide
  have fin : ∀ (H' : Heap) (i : Nat), H'.size = H.size → (∀ q, q ≠ a → H'[q]? = H[q]?) → va_at G.1 clW (a, .inr (5, w ++ [.int (hI (sI S f a v) 52 a), .int (hI (sI S f a v) 53 a)])) H' → MF H' a → W p l e R s m args below meth c0 H' (locs ++ [⟨a, i⟩]) (hB S0 - hB S) (hU S0 - hU S) (Fin' Eq below G S0 O s) (F0 m (pc + 3) la (st.map cv)) := by
    intro H' i a2 a3 hat' hmf'
    have hr' : Rep G (sI S f a v) H' := hbs.1.set hw2.2.1 hz (fun _ => rfl) rfl (fun b hb => ⟨fun g => by rw [hI_sI, if_neg (fun z => hb z.2)], fun _ => rfl, fun _ => rfl, rfl, fun _ => rfl, fun _ => rfl, fun _ => rfl⟩) (fun f => hbs.1.2.2.2.2.1 f a) (fun k => hbs.1.2.2.2.2.2.1 a k) a2 a3 (Or.inr (Or.inl ⟨rfl, rfl, hz, hmf', w, hw, by rw [hI_sI, if_neg (fun z => h99 z.1)]; exact hw0, hat'⟩))
    exact k (sI S f a v) H' _ la rfl (hbs.put hr' hz hm rfl rfl) hv (hw1.mono hm) (lvS.mono hm hw2.2.2)
  rcases hf with ⟨rfl, rfl, rfl⟩ | ⟨rfl, rfl, rfl⟩
  · refine w_putf (ci := 5) (kk := 6) (C := RX6) (T := TX6) (N := 8) (ref := "ClassFileReader$Malformed") (ty := .int) hx hb hown hts hE hini rfl (by decide) hat (by rw [List.length_append, hw]; exact Nat.le_of_ble_eq_true rfl) (Or.inl hq) (Or.inl rfl) (Or.inr ⟨rfl, rfl, rfl, hq⟩) pdI rfl rfl hd (fun H' i a2 a3 hat' hmf' => fin H' i a2 a3 ?_ (hmf' hmf))
    rw [List.set_append_right _ _ (by omega), hw] at hat'
    simp only [hI_sI]
    exact hat'
  · refine w_putf (ci := 5) (kk := 7) (C := RX6) (T := TX6) (N := 8) (ref := "ClassFileReader$Malformed") (ty := .int) hx hb hown hts hE hini rfl (by decide) hat (by rw [List.length_append, hw]; exact Nat.le_of_ble_eq_true rfl) (Or.inl hq) (Or.inl rfl) (Or.inr ⟨rfl, rfl, rfl, hq⟩) pdI rfl rfl hd (fun H' i a2 a3 hat' hmf' => fin H' i a2 a3 ?_ (hmf' hmf))
    rw [List.set_append_right _ _ (by omega), hw] at hat'
    simp only [hI_sI]
    exact hat'
end YT
end
section
set_option maxRecDepth 100000
theorem setSlot_get {c : Cell} {i j : Nat} {v : Value} (h : j ≠ i) : (c.setSlot i v).slots[j]? = c.slots[j]? := by
  show (c.slots.setIfInBounds i v)[j]? = _
  rw [Array.getElem?_setIfInBounds, if_neg (Ne.symm h)]
theorem setSlot_size (c : Cell) (i : Nat) (v : Value) : (c.setSlot i v).slots.size = c.slots.size := by
  show (c.slots.setIfInBounds i v).size = _
  rw [Array.size_setIfInBounds]
section YX
variable {I : Iv} {cc : ByteArray} {nL : Nat} {ret : Option FieldType} {d : Nat} {hs : List (Nat × Nat × Nat × Nat)} {ini : Bool} {O : OA → HS → Prop} {pc : Nat} {ls : List (Option AV)} {st : List AV} {S : HS}
set_option maxHeartbeats 2000000 in
/-- RuntimeException's constructor, on a Malformed just made -/
theorem y_excInit {a idx : Nat} (cx : Cx I "ClassFileReader$Malformed" cc nL ret (d + 5) hs ini) (hq : Cond.methodLink "ClassFileReader$Malformed" idx ⟨"java/lang/RuntimeException", "<init>", "()V"⟩ ∈ lw_all) (hd : decode cc pc = .ok (.invokespecial idx, 3)) (hlen : ls.length = nL) (hst : (st.map catA).sum ≤ 50) (h99 : hI S 99 a = 0) (k : Y Eq I O (pc + 3) ls st (sI S 99 a 1)) : Y Eq I O pc ls (vR (some (5, a, [])) :: st) S := by
  obtain ⟨p, l, e, R, s, m, args, below, meth, c0, G, S0⟩ := I
  obtain ⟨hx, hb, hml, hown, hts, hE, -, -, hR0, -, -, hl0, hrep0⟩ := cx
  have hold0 := hrep0.2.2.1
  intro S' H locs la hS hbs hv hw1 hw2
  subst hS
  subst hR0
  obtain ⟨-, hz, hmf, w, hw, hw0, hat⟩ := hbs.1.mal hw2.1
  have hw0 := hw0 h99
  have hz : gz G ≤ a := hz
  intro T' hT X
  have howns : e.platform.frameOwnsMonitors = true := by rw [X.admits.platform]
  have hfin : e.platform.finalization = false := by rw [X.admits.platform]
  have hpl : e.platform.magicAccessors = ({} : Platform).magicAccessors := by rw [X.admits.platform]
  have htr : e.platform.stackTraces = false := (congrArg Platform.stackTraces X.admits.2.2.2.2.1).trans hl0
  have hold : ∀ q : Nat, q < gz G → T'.heap[q]? = G.2.2.1[q]? := fun q h => by rw [hT]; exact hbs.1.2.2.1 q h
  have hA : ∀ c ∈ Bundle.throwableAtoms, c.before args s = true := by
    intro c hc
    simp only [Bundle.throwableAtoms, List.mem_cons, List.not_mem_nil, or_false] at hc
    rcases hc with h | h | h | h | h | h | h | h | h | h | h | h | h | h | h | h | h | h | h | h | h | h | h | h
    · rw [h]; exact hts _ q87
    · rw [h]; exact hts _ q353
    · rw [h]; exact hts _ q362
    · rw [h]; exact hts _ q364
    · rw [h]; exact hts _ q367
    · rw [h]; exact hts _ q369
    · rw [h]; exact hts _ q354
    · rw [h]; exact hts _ q355
    · rw [h]; exact hts _ q113
    · rw [h]; exact hts _ q114
    · rw [h]; exact hts _ q356
    · rw [h]; exact hts _ q361
    · rw [h]; exact hts _ q365
    · rw [h]; exact hts _ q385
    · rw [h]; exact hts _ q343
    · rw [h]; exact hts _ q386
    · rw [h]; exact hts _ q345
    · rw [h]; exact hts _ q387
    · rw [h]; exact hts _ q347
    · rw [h]; exact hts _ q357
    · rw [h]; exact hE.2.2.2.2.2.2.2.2.2.1 args s rfl hold0
    · rw [h]; exact hts _ q359
    · rw [h]; exact hE.2.2.2.2.2.2.2.2.2.2 args s rfl hold0
    · rw [h]; exact hts _ q349
  obtain ⟨T, Z, L, LZ, Y0⟩ := ThrowableC.of_atoms (args := args) howns hfin hpl hA
  have hCh : ∀ c ∈ Bundle.chain0Atoms "java/lang/RuntimeException" ["java/lang/Exception"], c.before args s = true := by
    intro c hc
    simp only [Bundle.chain0Atoms, Bundle.passAtoms, List.mem_append, List.mem_cons, List.not_mem_nil, or_false] at hc
    rcases hc with (h | h | h | h | h) | h | h | h | h | h
    · rw [h]; exact hts _ q374
    · rw [h]; exact hts _ q375
    · rw [h]; exact hts _ q376
    · rw [h]; exact hts _ q377
    · rw [h]; exact va_Nw.use rfl (hE.2.1 _ q336 rfl)
    · rw [h]; exact hts _ q377
    · rw [h]; exact hts _ q378
    · rw [h]; exact hts _ q379
    · rw [h]; exact hts _ q354
    · rw [h]; exact va_Nw.use rfl (hE.2.1 _ q338 rfl)
  obtain ⟨P1, Ps, hlenP, L1, hL, hP1m, hlink1, hlink⟩ := Bundle.chain0 (args := args) hpl Y0.init0 ["java/lang/Exception"] "java/lang/RuntimeException" (by decide +kernel) (by decide +kernel) hCh
  obtain ⟨r, hr5, cell, q1, q2, q3, q4⟩ := hat
  have hr5 : r = (RX6, TX6, 8) := Option.some.inj (hr5.symm.trans (rfl : clW[5]? = some (RX6, TX6, 8)))
  subst hr5
  have hcell : T'.heap[a]? = some cell := by rw [hT]; exact q1
  obtain ⟨hSl, hfc, kC, hkC, hkind⟩ := hE.1.1 5 _ (rfl : clW[5]? = some (RX6, TX6, 8))
  obtain ⟨hin, hnm, -, ty0, hty⟩ := cw_ok 5 RX6 TX6 8 rfl
  have hap := va_apart (own := "ClassFileReader$Malformed") hts hin ty0 hty hnm hE.1 (rfl : clW[5]? = some (RX6, TX6, 8))
  have hfound : s.vm.findClass "ClassFileReader$Malformed" = some cell.cls := by rw [q2]; exact hfc
  have hsel0 : selectMethod e.platform s.vm cell.cls T.fill0 = .method T.fill0 := by
    obtain ⟨c2, r2, m2, g1, g2, g3, g4, -⟩ := Cond.selects_spec (hts _ q340)
    cases Option.some.inj (g1.symm.trans hfound)
    cases Option.some.inj (g2.symm.trans (State.methodFound?_of_named Y0.fill0 (by decide)))
    cases Option.some.inj (g3.symm.trans Y0.fill0)
    rw [Launch.admits_selectMethod X.admits]; exact g4
  have hselF : selectMethod e.platform s.vm cell.cls T.fill = .method T.fill := by
    obtain ⟨c2, r2, m2, g1, g2, g3, g4, -⟩ := Cond.selects_spec (hts _ q341)
    cases Option.some.inj (g1.symm.trans hfound)
    cases Option.some.inj (g2.symm.trans (State.methodFound?_of_named Y0.fill (by decide)))
    cases Option.some.inj (g3.symm.trans Y0.fill)
    rw [Launch.admits_selectMethod X.admits]; exact g4
  have stat : ∀ {nm ds : String} {i : Nat} {fd : Field}, va_Zq "java/lang/Throwable" nm ds (gA G) s G.2.2.1 → s.fieldFound? "java/lang/Throwable" nm ds = some (T.cT, T.kT, i, fd) → ∃ (u : RefV) (cS : Cell), T'.heap[T.aS]? = some cS ∧ T.aS < gz G ∧ cS.vm.isStatics = true ∧ cS.slots[fd.slot]? = some u.v := by
    intro nm ds i fd hz hf
    rcases hz with ⟨cf, kf, fi, f, aS, cS, h1, h2, h3, h4, h5, h6, h7, h8⟩ | ⟨t, cf, kf, fi, f, aS, cS, h1, h2, h3, h4, h5, h6, h7, h8⟩
    · cases h1.symm.trans hf
      cases h4.symm.trans L.statics
      exact ⟨⟨.null, rfl⟩, cS, by rw [hold _ (Nat.not_le.mp h8)]; exact h5, Nat.not_le.mp h8, h6, h7⟩
    · cases h1.symm.trans hf
      cases h4.symm.trans L.statics
      exact ⟨⟨.ref t, rfl⟩, cS, by rw [hold _ (Nat.not_le.mp h8)]; exact h5, Nat.not_le.mp h8, h6, h7⟩
  obtain ⟨u0, cellS, hcS, haS, hiss, hvU⟩ := stat hE.2.2.2.2.1 Y0.unassigned
  obtain ⟨sen, cellS2, hcS2, -, -, hvSen⟩ := stat hE.2.2.2.2.2.1 Y0.sentinel
  cases hcS.symm.trans hcS2
  have hneS : T.aS ≠ a := fun z => Nat.not_lt.mpr hz (by rw [← z]; exact haS)
  have sl : ∀ k, k < 8 → ∀ {cf kf fi fd}, s.fieldFound? (TX6 k).1 (TX6 k).2.1 (TX6 k).2.2.1 = some (cf, kf, fi, fd) → fd.slot = G.1.2 5 k := by
    intro k hk cf kf fi fd hf
    obtain ⟨cf', kf', fi', fd', hf', hs'⟩ := hSl k hk
    cases hf.symm.trans hf'
    exact hs'
  have s0 : T.fCause.slot = G.1.2 5 0 := sl 0 (by decide) Y0.cause
  have s1 : T.fStack.slot = G.1.2 5 1 := sl 1 (by decide) Y0.stack
  have s2 : T.fSupp.slot = G.1.2 5 2 := sl 2 (by decide) Y0.supp
  have lt : ∀ k, k < 8 → G.1.2 5 k < cell.slots.size := fun k hk => (Array.getElem?_eq_some_iff.mp (q4 k hk)).1
  have tk : ∀ k, k < 8 → ∀ {cf kf fi fd} {v : Value} {ty : FieldType}, s.fieldFound? (TX6 k).1 (TX6 k).2.1 (TX6 k).2.2.1 = some (cf, kf, fi, fd) → parseFieldDescriptor (TX6 k).2.2.1 = some ty → narrow ty v = v → fits ty v = true → Takes s cell fd v := by
    intro k hk cf kf fi fd v ty hf hp hn hfit
    refine ⟨by rw [sl k hk hf]; exact lt k hk, ?_⟩
    have := (u_fits hfc hkC hkind (u_lays hts hin hk) hf hp hn hfit).2
    rw [q2, q3]
    exact this
  obtain ⟨ci198, i198, fB, hk198, hg198, ha198, hsB, -, hnB, htB, hffB⟩ := Cond.ownField (t := .object "java/lang/Object") Y0.found L.cls (by decide +kernel) (hts _ q352) (hts _ q351) e.platform hpl
  have s4 : fB.slot = G.1.2 5 4 := sl 4 (by decide) hffB
  have hskip : SkipFacts T e.platform s (fun u => u) u0 ((preparedCellV T.toThrowableT cell a u0 sen).withEntry T'.cur) := by
    refine ⟨{ ci198 := ci198, i198 := i198, fBack := fB }, ⟨hk198, hg198, ha198, hsB⟩, ?_, fun _ _ => rfl⟩
    show (((cell.setSlot T.fCause.slot (.ref a)).setSlot T.fStack.slot u0.v).setSlot T.fSupp.slot sen.v).slots[fB.slot]? = some .null
    rw [s0, s1, s2, s4, setSlot_get (hap 4 2 (by decide) (by decide) (by decide)), setSlot_get (hap 4 1 (by decide) (by decide) (by decide)), setSlot_get (hap 4 0 (by decide) (by decide) (by decide)), q4 4 (by decide), hw0]
    rfl
  have hsz : (F0 m pc la (.ref a :: st.map cv)).locals.size = c0.maxLocals := by
    show la.size = _
    rw [hml, ← hlen, ← lc_len]
    exact hv.1
  obtain ⟨tm, methC, cdC, kC2, vm₁, hnC, -, -, -, -, -, -, -, hW₁, st1⟩ := Steps.initCold (tb := p.tables) (e := e) (below := below) (s := s) (U := T') X.here hx X.warmed hpl hown (t := ⟨"java/lang/RuntimeException", "<init>", "()V"⟩) rfl rfl (by decide)
    (hts _ hq) (hts _ q374) (bytes := prog_23_method_1_code) (maxL := 1) (hts _ q375) (f := F0 m pc la (.ref a :: st.map cv)) rfl (a := a) (rest := st.map cv) rfl (by rw [hb]; exact hd)
  cases Option.some.inj (hnC.symm.trans hP1m)
  have X₁ := X.noted hW₁
  obtain ⟨vm₂, X₂, st2⟩ := X₁.ctorPlainOffV hx (g := F0 m pc la (st.map cv)) rfl hsz T L Z LZ (P1 :: Ps)
    (fun P hP => by rcases List.mem_cons.mp hP with rfl | hP; exact L1; exact hL P hP) ⟨hlink1, hlink⟩ (u0 := u0) (sen := sen) (self := a) (cell := cell) (cellS := cellS)
    hcell (fun _ h => by rw [q3] at h; cases h) (by rw [q3]; exact fun h => by cases h) (hmf cell q1).1 (hmf cell q1).2 hsel0 hselF hcS hneS (fun h => by rw [h] at hiss; cases hiss) hvU hvSen
    (tk 0 (by decide) Y0.cause (ty := .object "java/lang/Throwable") (by decide +kernel) rfl rfl) (tk 1 (by decide) Y0.stack (ty := .array (.object "java/lang/StackTraceElement")) (by decide +kernel) (narrow_refV _ u0) (fits_refV_array _ u0)) (tk 2 (by decide) Y0.supp (ty := .object "java/util/List") (by decide +kernel) (narrow_refV _ sen) (fits_refV_object _ sen)) Y0.objLocals hskip htr [] (by rw [hb]; exact hd)
    (by simp only [List.length_cons, hlenP]; show _ < d + 5; simp only [List.length_nil]; omega) (by rw [catA_sum]; simp only [List.length_cons, hlenP, List.length_nil]; show 2 * (F0 m pc la (st.map cv)).monitorRoom + _ + _ ≤ 64 * (d + 5); simp only [JFrame.monitorRoom]; omega)
  have hlt : a < T'.heap.size := (Array.getElem?_eq_some_iff.mp hcell).1
  generalize hNC : (preparedCellV T.toThrowableT cell a u0 sen).setSlot T.fStack.slot u0.v = nc at X₂ st2
  have ncs : ∀ k, k < 8 → k ≠ 0 → k ≠ 1 → k ≠ 2 → nc.slots[G.1.2 5 k]? = cell.slots[G.1.2 5 k]? := by
    intro k hk n0 n1 n2
    rw [← hNC]
    show ((((cell.setSlot T.fCause.slot (.ref a)).setSlot T.fStack.slot u0.v).setSlot T.fSupp.slot sen.v).setSlot T.fStack.slot u0.v).slots[_]? = _
    rw [s0, s1, s2, setSlot_get (hap k 1 hk (by decide) n1), setSlot_get (hap k 2 hk (by decide) n2), setSlot_get (hap k 1 hk (by decide) n1), setSlot_get (hap k 0 hk (by decide) n0)]
  have ncz : nc.slots.size = cell.slots.size := by
    rw [← hNC]
    show ((((cell.setSlot T.fCause.slot (.ref a)).setSlot T.fStack.slot u0.v).setSlot T.fSupp.slot sen.v).setSlot T.fStack.slot u0.v).slots.size = _
    rw [setSlot_size, setSlot_size, setSlot_size, setSlot_size]
  have ncc : nc.cls = cell.cls ∧ nc.vm = cell.vm ∧ nc.monitor = cell.monitor := by rw [← hNC]; exact ⟨rfl, rfl, rfl⟩
  have hH2 : ((((T'.setVm vm₁).setVm vm₂).setCell a nc)).heap = T'.heap.setIfInBounds a nc := rfl
  have hgA : (T'.heap.setIfInBounds a nc)[a]? = some nc := by rw [Array.getElem?_setIfInBounds, if_pos rfl, if_pos hlt]
  have hmm : Mono S (sI S 99 a 1) := fun _ _ h => h
  have hr' : Rep G (sI S 99 a 1) (T'.heap.setIfInBounds a nc) := by
    refine hbs.1.set hw2.1 hz (fun _ => rfl) rfl (fun b hb => ⟨fun g => by rw [hI_sI, if_neg (fun z => hb z.2)], fun _ => rfl, fun _ => rfl, rfl, fun _ => rfl, fun _ => rfl, fun _ => rfl⟩) (fun f => hbs.1.2.2.2.2.1 f a) (fun k => hbs.1.2.2.2.2.2.1 a k) (by rw [Array.size_setIfInBounds, hT]) (fun q hq => by rw [Array.getElem?_setIfInBounds, if_neg (Ne.symm hq), hT]) ?_
    refine Or.inr (Or.inl ⟨rfl, rfl, hz, fun c' hc' => ?_, (List.range 6).map (fun k => nc.slots.getD (G.1.2 5 k) .null), rfl, fun z => ?_, ?_⟩)
    · rw [hgA] at hc'
      cases hc'
      rw [ncc.2.2]
      exact hmf cell q1
    · rw [hI_sI, if_pos ⟨rfl, rfl⟩] at z
      exact absurd z (by decide)
    · refine ⟨_, (rfl : clW[5]? = some (RX6, TX6, 8)), nc, hgA, by rw [ncc.1]; exact q2, by rw [ncc.2.1]; exact q3, fun k hk => ?_⟩
      have hks : G.1.2 5 k < nc.slots.size := by rw [ncz]; exact lt k hk
      match k, hk with
      | 0, _ => show _ = some (nc.slots.getD (G.1.2 5 0) .null); rw [Array.getD_eq_getD_getElem?, Array.getElem?_eq_getElem hks]; rfl
      | 1, _ => show _ = some (nc.slots.getD (G.1.2 5 1) .null); rw [Array.getD_eq_getD_getElem?, Array.getElem?_eq_getElem hks]; rfl
      | 2, _ => show _ = some (nc.slots.getD (G.1.2 5 2) .null); rw [Array.getD_eq_getD_getElem?, Array.getElem?_eq_getElem hks]; rfl
      | 3, _ => show _ = some (nc.slots.getD (G.1.2 5 3) .null); rw [Array.getD_eq_getD_getElem?, Array.getElem?_eq_getElem hks]; rfl
      | 4, _ => show _ = some (nc.slots.getD (G.1.2 5 4) .null); rw [Array.getD_eq_getD_getElem?, Array.getElem?_eq_getElem hks]; rfl
      | 5, _ => show _ = some (nc.slots.getD (G.1.2 5 5) .null); rw [Array.getD_eq_getD_getElem?, Array.getElem?_eq_getElem hks]; rfl
      | 6, _ => rw [ncs 6 (by decide) (by decide) (by decide) (by decide), q4 6 (by decide), hw0]; rfl
      | 7, _ => rw [ncs 7 (by decide) (by decide) (by decide) (by decide), q4 7 (by decide), hw0]; rfl
      | k + 8, hk => exact absurd (show k + 8 < 8 from hk) (by omega)
  have hbs' : Bs G S0 (sI S 99 a 1) (T'.heap.setIfInBounds a nc) (locs ++ [⟨a, T.fCause.slot⟩, ⟨a, T.fStack.slot⟩, ⟨a, T.fSupp.slot⟩, ⟨a, T.fStack.slot⟩]) := by
    refine ⟨hr', fun q hq => ?_, hbs.2.2.1, hbs.2.2.2.1, hbs.2.2.2.2.tr hmm⟩
    rcases List.mem_append.mp hq with z | z
    · exact hbs.2.1 q z
    · simp only [List.mem_cons, List.not_mem_nil, or_false] at z
      rcases z with rfl | rfl | rfl | rfl <;> exact hz
  obtain ⟨t, t1, t2⟩ := k (sI S 99 a 1) _ _ la rfl hbs' hv (hw1.mono hmm) (lvS.mono hmm hw2.2) _ hH2 X₂
  exact ⟨t, st1 _ (fun acts => by rw [doInvoke_state]; exact st2 _ t1), t2⟩
end YX
end
section
set_option maxRecDepth 100000
/-- the search through the table ends at its first row, whose class is linked now or was before -/
theorem w_go {Q : Handler → Pre} {E : CtlPost} {e : Env} {d : Bool} {acts : List Action} {s : State} {f : JFrame} {a : Addr} {row : ExceptionTableEntry} {t : List ExceptionTableEntry} {cell : Cell} (hcov : covers row f.pc = true) (h0 : row.catchType ≠ 0) (hl : s.vm.ClassLinks e.platform f.method.cls row.catchType cell.cls) (hcell : s.heap[a]? = some cell) (hobj : ∀ k, cell.vm ≠ .statics k) (hkt : ∃ k, s.vm.classes[cell.cls]? = some k) :
    wp (findHandler.go f a (row :: t)) Q E e d acts s ↔ Q (.found row.handlerPc) d acts (s.setVm (s.vm.noted f.method.cls row.catchType (.cls cell.cls))) := by
  have hal : s.vm.Alike (s.vm.noted f.method.cls row.catchType (.cls cell.cls)) := (Vm.Alike.refl s.vm).noted _ _ _
  obtain ⟨k1, hk1⟩ := hkt
  obtain ⟨k2, hk2, -⟩ := hal.2.2 _ _ hk1
  have hasg : (s.vm.noted f.method.cls row.catchType (.cls cell.cls)).assignable cell.cls cell.cls = true := va_asg _ _
  obtain ⟨ha, ht⟩ := (resolveClass_links e.toSetting hl).op (op := VmOp.resolveClass f.method.cls row.catchType) rfl
  simp only [covers] at hcov
  simp [findHandler.go, hcov, h0, ha, ht, hcell, hobj, hk2, hasg, VmOp.dirties, VmOp.acts]
set_option maxHeartbeats 1000000 in
/-- a Malformed is caught by the first row of the method's own table -/
theorem w_caught {p : Program} {l : Launch} {e : Env} {R : Room} {s : State} {m : MethodId} {args : Array Value} {below : List Frame} {meth : Method} {c : Code} {T : State} {locs : List Loc} {cells slots : Nat}
    (X : Stand p l e R s m args below meth c T locs cells slots) (a : Addr) {g : JFrame} (hg : g.method = m) {cell : Cell} (hcell : T.heap[a]? = some cell) (hobj : cell.vm.isStatics = false) {own name : String} (hown : s.vm.findClass own = some m.cls)
    {row : ExceptionTableEntry} {rest : List ExceptionTableEntry} (hsplit : c.exceptionTable.toList = row :: rest) (hcov : covers row g.pc = true) (h0 : row.catchType ≠ 0) (hlink : (Cond.classLink own row.catchType name).before args s = true) (hcls : s.vm.findClass name = some cell.cls) :
    ∃ vm', Stand p l e R s m args below meth c (T.setVm vm') locs cells slots ∧ ∀ target, Steps p.tables e below ((T.setVm vm').setTop { g with pc := row.handlerPc, stack := [.ref a] }) target → Steps p.tables e below ((T.setTop g).pushFrame (.throwing a)) target := by
  subst hg
  have hpl : e.platform.magicAccessors = ({} : Platform).magicAccessors := by rw [X.admits.platform]
  obtain ⟨cT, hcT, hl⟩ := Cond.classLink_spec hown hlink e.platform hpl
  cases hcls.symm.trans hcT
  obtain ⟨dk, _, _, kt, hdk, _, _, _, _, hkt, _, hopen⟩ := hl.here
  have hW' : s.WarmedH (T.vm.noted g.method.cls row.catchType (.cls cell.cls)) := X.warmed.noted hdk hopen (State.rightAt_cls hl)
  have hlT := X.warmed.classLinks hl
  refine ⟨_, X.noted hW', fun target hrest => ?_⟩
  have hvm : ((T.setTop g).pushFrame (.throwing a)).vm = T.vm := throwing_vm T g a
  have hheap : ((T.setTop g).pushFrame (.throwing a)).heap = T.heap := throwing_heap T g a
  obtain ⟨kt', hkt', -⟩ := hW'.alike.2.2 _ _ hkt
  have hasg : (T.vm.noted g.method.cls row.catchType (.cls cell.cls)).assignable cell.cls cell.cls = true := va_asg _ _
  have hfind : ∀ (Q : Handler → Pre) (E : CtlPost) (d : Bool) (acts : List Action), wp (findHandler g a) Q E e d acts ((T.setTop g).pushFrame (.throwing a)) ↔ Q (.found row.handlerPc) d acts (((T.setTop g).pushFrame (.throwing a)).setVm (T.vm.noted g.method.cls row.catchType (.cls cell.cls))) := by
    intro Q E d acts
    rw [W.findHandler_eq (by rw [hvm]; exact X.method') X.code, hsplit]
    obtain ⟨kq, hkq, -⟩ := X.warmed.alike.2.2 _ _ hkt
    have := w_go (Q := Q) (E := E) (e := e) (d := d) (acts := acts) (s := (T.setTop g).pushFrame (.throwing a)) (f := g) (a := a) (t := rest) hcov h0 (by rw [hvm]; exact hlT) (by rw [hheap]; exact hcell) (VmData.ne_statics_of hobj) ⟨kq, by rw [hvm]; exact hkq⟩
    rw [hvm] at this
    exact this
  have hstep : (stepThrowing e ((T.setTop g).pushFrame (.throwing a)) a (.java g :: T.frames.tail)).Is ((((T.setTop g).pushFrame (.throwing a)).setVm (T.vm.noted g.method.cls row.catchType (.cls cell.cls))).setFrames (.java { g with pc := row.handlerPc, stack := [.ref a] } :: T.frames.tail)) [] := by
    simp only [stepThrowing, searchFrame, vmDo]
    generalize hr : Sem.go _ e false [] ((T.setTop g).pushFrame (.throwing a)) = res
    obtain ⟨as, rfl, ha⟩ := Sem.eq_ok_of hr (a := Handler.found row.handlerPc) (s' := ((T.setTop g).pushFrame (.throwing a)).setVm (T.vm.noted g.method.cls row.catchType (.cls cell.cls))) (acts' := []) (by simp [hfind _ _ _ _])
    exact ⟨rfl, ha⟩
  obtain ⟨hgo, hw⟩ := X.here.throwing a
  refine Steps.head hgo hw ?_
  rw [stepThread_throwing (frames_entered X.here.top _), hstep.1]
  obtain ⟨g₀, hg0⟩ := Option.isSome_iff_exists.mp X.here.top
  obtain ⟨r, hr⟩ := State.topJava?_eq_some.mp hg0
  have e1 : (((T.setTop g).pushFrame (.throwing a)).setVm (T.vm.noted g.method.cls row.catchType (.cls cell.cls))).setFrames (.java { g with pc := row.handlerPc, stack := [.ref a] } :: T.frames.tail) = (T.setVm (T.vm.noted g.method.cls row.catchType (.cls cell.cls))).setTop { g with pc := row.handlerPc, stack := [.ref a] } := by
    rw [State.setTop_of_frames _ (show (T.setVm (T.vm.noted g.method.cls row.catchType (.cls cell.cls))).frames = .java g₀ :: r from hr), hr]
    rw [State.setTop_of_frames _ hr]
    rw [State.pushFrame, State.setFrames_setFrames]
    show ((T.setVm _).setFrames _).setFrames _ = _
    rw [State.setFrames_setFrames]
    rfl
  rw [e1]
  exact hrest
section YCT
variable {I : Iv} {own : String} {cc : ByteArray} {nL : Nat} {ret : Option FieldType} {d : Nat} {ini : Bool} {pc : Nat} {ls : List (Option AV)}
/-- a call under a try: what is thrown is caught by the table's first row -/
theorem y_callC {O : OA → HS → Prop} {S : HS} {N : HS → Prop} {X : Nat → HS → Prop} {y : MethodName} {bytes : ByteArray} {maxL d' r1 r2 r3 r4 : Nat} {rt : Option FieldType} {ws : List Cond} {stk : List AV} {hs : List (Nat × Nat × Nat × Nat)} (As : List AV) (cx : Cx I own cc nL ret (d + 1) ((r1, r2, r3, r4) :: hs) ini) (hst : stk = As.reverse ++ []) (hlen : ls.length = nL)
    (hM : ∀ l G, Ct Eq l y ws d' G As S (oV N X)) (hws : GoodIn lw_all ws) (hdd : d' ≤ d) (hcode : Cond.code y bytes maxL rt ∈ lw_all ∨ ∃ hh, Cond.codeWith y bytes maxL rt hh ∈ lw_all) (hini : Cond.initialized y.cls ∈ lw_all) (hlk : LinkY I pc As [] y) (hW : maxL + 11 ≤ 64)
    (hr : r1 ≤ pc ∧ pc < r2 ∧ r4 ≠ 0) (hcl : Cond.classLink own r4 "ClassFileReader$Malformed" ∈ lw_all)
    (kr : ∀ S', N S' → Y Eq I O (pc + 3) ls [] S') (kx : ∀ (a : Nat) (S' : HS), X a S' → Y Eq I O r3 ls [vR (some (5, a, []))] S') : Y Eq I O pc ls stk S := by
  subst hst
  obtain ⟨p, l, e, R, s, m, args, below, meth, c0, G, S0⟩ := I
  obtain ⟨hx, hb, hml, hown, hts, hE, -, hlk0, hR0, hht, -, hl0, -⟩ := cx
  intro S1 H locs la hS hbs hv hw1 hw2
  subst hS
  subst hR0
  obtain ⟨hA, -⟩ := lvS_app.mp hw2
  have hA := lvS_rev.mp hA
  intro T hT X0
  refine w_call (d := d) X0 hT hbs hE hts (rfl : S = S) hA (hM l G) hl0 hws hdd hcode hini (hlk S H locs la T _ _ hbs hA hT X0) (by rw [hml, ← hlen, ← lc_len]; exact hv.1) (by simpa using hW) ?_ ?_
  · intro S' x' v T' locs' hx' hbs' hm hlv hO X'
    subst hx'
    match v, hO with
    | none, hO => exact kr x' hO x' T'.heap locs' la rfl hbs' hv (hw1.mono hm) trivial T' rfl X'
  · intro S' x' a T' locs' hx' hbs' hm hC5 hO X'
    subst hx'
    obtain ⟨cell, g1, g2, g3⟩ := rcv.cell (C := "ClassFileReader$Malformed") (Or.inr (Or.inr ⟨rfl, rfl⟩)) hE hbs' hC5
    obtain ⟨vm', X2, st2⟩ := w_caught X' a (g := F0 m pc la []) rfl g1 g2 hown (row := ⟨r1, r2, r3, r4⟩) (rest := tableOf hs) hht (by simp only [covers, Bool.and_eq_true, decide_eq_true_eq]; exact ⟨hr.1, hr.2.1⟩) hr.2.2 (hts _ hcl) g3
    obtain ⟨t, t1, t2⟩ := kx a x' hO x' T'.heap locs' la rfl hbs' hv (hw1.mono hm) ⟨hC5, trivial⟩ (T'.setVm vm') rfl X2
    exact ⟨t, st2 t t1, t2⟩
/-- a call outside the table's rows of a method that throws nothing -/
theorem y_callV0 {O : OA → HS → Prop} {S : HS} {N : HS → Prop} {y : MethodName} {bytes : ByteArray} {maxL d' : Nat} {rt : Option FieldType} {ws : List Cond} {stk rest : List AV} {hs : List (Nat × Nat × Nat × Nat)} (As : List AV) (cx : Cx I own cc nL ret (d + 1) hs ini) (hst : stk = As.reverse ++ rest) (hlen : ls.length = nL)
    (hM : ∀ l G, Ct Eq l y ws d' G As S (oV N (fun _ _ => False))) (hws : GoodIn lw_all ws) (hdd : d' ≤ d) (hcode : Cond.code y bytes maxL rt ∈ lw_all ∨ ∃ hh, Cond.codeWith y bytes maxL rt hh ∈ lw_all) (hini : Cond.initialized y.cls ∈ lw_all) (hlk : LinkY I pc As rest y) (hW : (rest.map catA).sum + (maxL + 11) ≤ 64)
    (kr : ∀ S', N S' → Y Eq I O (pc + 3) ls rest S') : Y Eq I O pc ls stk S := by
  subst hst
  obtain ⟨p, l, e, R, s, m, args, below, meth, c0, G, S0⟩ := I
  obtain ⟨hx, hb, hml, hown, hts, hE, -, hlk0, hR0, hht, -, hl0, -⟩ := cx
  intro S1 H locs la hS hbs hv hw1 hw2
  subst hS
  subst hR0
  obtain ⟨hA, hRst⟩ := lvS_app.mp hw2
  have hA := lvS_rev.mp hA
  intro T hT X0
  refine w_call (d := d) X0 hT hbs hE hts (rfl : S = S) hA (hM l G) hl0 hws hdd hcode hini (hlk S H locs la T _ _ hbs hA hT X0) (by rw [hml, ← hlen, ← lc_len]; exact hv.1) hW ?_ ?_
  · intro S' x' v T' locs' hx' hbs' hm hlv hO X'
    subst hx'
    match v, hO with
    | none, hO => exact kr x' hO x' T'.heap locs' la rfl hbs' hv (hw1.mono hm) (lvS.mono hm hRst) T' rfl X'
  · intro S' x' a T' locs' hx' hbs' hm hC5 hO X'
    exact False.elim hO
end YCT
/-- the contract of a method with a table of handlers, out of the walk of its body -/
theorem Ct.ofYW {σ : Type} {ρ : σ → HS → Prop} {l : Launch} {y : MethodName} {d maxL : Nat} {G : GT} {As : List AV} {x0 : σ} {O : OA → σ → Prop} {cc : ByteArray} {ret : Option FieldType} {hs : List (Nat × Nat × Nat × Nat)} (ls : List (Option AV)) (hy : plainName y.cls = true) (hls : entN As maxL = ls) (hlen : ls.length = maxL) (hle : (entL As).length ≤ maxL)
    (body : ∀ I : Iv, Cx I y.cls cc maxL ret d hs false → Y ρ I O 0 ls [] x0) : Ct ρ l y (wsW_ y cc maxL ret hs) d G As x0 O := by
  intro S0 hS0 hl0
  refine MetFree.of_bodyS (code := cc) (maxLocals := maxL) (ret := ret) hy ?_ ?_
  · intro args s m h hn
    obtain ⟨m', meth, c, h0, h1, h2, h3, h4, -, h5, h6, -⟩ := Cond.codeWith_spec (atoms_spec (ws := wsW_ y cc maxL ret hs) h _ List.mem_cons_self)
    cases hn.symm.trans h0
    exact ⟨meth, c, h1, h2, h3, h4, h5, h6⟩
  · intro p e s m args below meth c s₁ B hml hP _
    obtain ⟨rfl, hE, hr, hlv⟩ := hP
    have hts := atoms_spec (ws := wsW_ y cc maxL ret hs) B.pre
    obtain ⟨m', meth', c', g0, g1, g2, -, -, g3, -⟩ := Cond.codeWith_spec (hts _ List.mem_cons_self)
    cases g0.symm.trans B.named
    cases g1.symm.trans B.method
    cases g2.symm.trans (Stand.of_body B).code
    have cx : Cx (p, l, e, rmD d S0, s, m, (As.map cv).toArray, below, meth, c, G, S0) y.cls cc maxL ret d hs false := by
      refine ⟨B.exec, B.bytes, hml, findClass_of_methodNamed B.named, fun w h => hts w (List.mem_cons_of_mem _ h), hE, B.returns, B.notSynchronized, rfl, ?_, (fun h => by cases h), hl0, hr⟩
      rw [← g3]
      unfold tableOf
      rw [List.map_map]
      exact (List.map_id _).symm
    have hh0 : s₁.heap = s.heap := by rw [B.state]; rfl
    have hlen2 := entL_len As
    have hl := lv_entry (As.map cv) (n := maxL) (by rw [hlen2]; exact hle)
    have hv : LV ((lg_sl (As.map cv) ++ List.replicate (maxL - (lg_sl (As.map cv)).length) Slot.unset).toArray) (lc ls) := by
      refine ⟨by rw [hl.1, lc_len, hlen], hl.2.1, fun k v hk => ?_⟩
      unfold lc at hk
      rw [List.getElem?_map] at hk
      cases hkk : ls[k]? with
      | none => rw [hkk] at hk; cases hk
      | some w =>
        rw [hkk] at hk
        cases w with
        | none => cases hk
        | some u =>
          cases hk
          rw [← hls] at hkk
          have h1 := entL_args As 0 k u (entN_get hkk)
          rw [Nat.zero_add] at h1
          exact hl.2.2 _ h1
    have hY := body _ cx S0 s₁.heap [] _ hS0 ⟨by rw [hh0]; exact hr, (fun _ h => by cases h), Nat.le_refl _, Nat.le_refl _, Mono.rf⟩ hv (fun i v e => by rw [← hls] at e; exact entL_lv As hlv i v (entN_get e)) trivial
    rw [Nat.sub_self, Nat.sub_self] at hY
    obtain ⟨t, a1, o, b1, b2, b3⟩ := hY s₁ rfl (Stand.of_body B)
    refine ⟨t, o, ?_, b1, b2, b3⟩
    rw [lg_entry_eq]
    exact a1
end
section
set_option maxRecDepth 100000
/-- bytes are copied from one array to another -/
def sK (S : HS) (b sp a dp n : Nat) : HS := (S.1, S.2.1, S.2.2.1, S.2.2.2.1, S.2.2.2.2.1, S.2.2.2.2.2.1, fun c j => if c = a ∧ dp ≤ j ∧ j < dp + n then S.2.2.2.2.2.2.1 b (sp + (j - dp)) else S.2.2.2.2.2.2.1 c j, S.2.2.2.2.2.2.2)
theorem hC_sK (S : HS) (b sp a dp n c : Nat) : hC (sK S b sp a dp n) c = hC S c := rfl
theorem hI_sK (S : HS) (b sp a dp n f c : Nat) : hI (sK S b sp a dp n) f c = hI S f c := rfl
theorem hL_sK (S : HS) (b sp a dp n f c : Nat) : hL (sK S b sp a dp n) f c = hL S f c := rfl
theorem hR_sK (S : HS) (b sp a dp n f c : Nat) : hR (sK S b sp a dp n) f c = hR S f c := rfl
theorem hN_sK (S : HS) (b sp a dp n c : Nat) : hN (sK S b sp a dp n) c = hN S c := rfl
theorem hA_sK (S : HS) (b sp a dp n c j : Nat) : hA (sK S b sp a dp n) c j = hA S c j := rfl
theorem hY_sK (S : HS) (b sp a dp n c j : Nat) : hY (sK S b sp a dp n) c j = if c = a ∧ dp ≤ j ∧ j < dp + n then hY S b (sp + (j - dp)) else hY S c j := rfl
theorem hP_sK (S : HS) (b sp a dp n c j : Nat) : hP (sK S b sp a dp n) c j = hP S c j := rfl
theorem hZ_sK (S : HS) (b sp a dp n : Nat) : hZ (sK S b sp a dp n) = hZ S := rfl
theorem hB_sK (S : HS) (b sp a dp n : Nat) : hB (sK S b sp a dp n) = hB S := rfl
theorem hU_sK (S : HS) (b sp a dp n : Nat) : hU (sK S b sp a dp n) = hU S := rfl
section YK2
variable {I : Iv} {own : String} {cc : ByteArray} {nL : Nat} {ret : Option FieldType} {d : Nat} {hs : List (Nat × Nat × Nat × Nat)} {ini : Bool} {O : OA → HS → Prop} {pc : Nat} {ls : List (Option AV)} {st : List AV} {S : HS}
theorem y_eqR0 {σ : Type} {ρ : σ → HS → Prop} {O : OA → σ → Prop} {x : σ} {r r' : Rf} (e : r = r') (k : Y ρ I O pc ls (vR r' :: st) x) : Y ρ I O pc ls (vR r :: st) x := by rw [e]; exact k
theorem y_eqR1 {σ : Type} {ρ : σ → HS → Prop} {O : OA → σ → Prop} {x : σ} {r r' : Rf} {v : AV} (e : r = r') (k : Y ρ I O pc ls (v :: vR r' :: st) x) : Y ρ I O pc ls (v :: vR r :: st) x := by rw [e]; exact k
theorem y_eqR2 {σ : Type} {ρ : σ → HS → Prop} {O : OA → σ → Prop} {x : σ} {r r' : Rf} {v w : AV} (e : r = r') (k : Y ρ I O pc ls (v :: w :: vR r' :: st) x) : Y ρ I O pc ls (v :: w :: vR r :: st) x := by rw [e]; exact k
theorem y_eqR3 {σ : Type} {ρ : σ → HS → Prop} {O : OA → σ → Prop} {x : σ} {r r' : Rf} {v w u : AV} (e : r = r') (k : Y ρ I O pc ls (v :: w :: u :: vR r' :: st) x) : Y ρ I O pc ls (v :: w :: u :: vR r :: st) x := by rw [e]; exact k
theorem y_eqR4 {σ : Type} {ρ : σ → HS → Prop} {O : OA → σ → Prop} {x : σ} {r r' : Rf} {v w u z : AV} (e : r = r') (k : Y ρ I O pc ls (v :: w :: u :: z :: vR r' :: st) x) : Y ρ I O pc ls (v :: w :: u :: z :: vR r :: st) x := by rw [e]; exact k
/-- new, address and state by name -/
theorem y_newN {c ci N idx : Nat} {C : String} {T : u_T} (cx : Cx I own cc nL ret d hs ini) (hc : (ob c = true ∧ ci = ck c) ∨ (c = 5 ∧ ci = 5)) (hcl : clW[ci]? = some (C, T, N)) (hq1 : Cond.classLink own idx C ∈ lw_all) (hq2 : Cond.instantiable C N ∈ lw_all) (hq3 : Cond.initialized C ∈ lw_all)
    (hd : decode cc pc = .ok (.new idx, 3)) (h1 : 1 ≤ hB S) (h2 : N ≤ hU S) (k : ∀ a S1, a = hZ S → S1 = sO S c N → Y Eq I O (pc + 3) ls (vR (some (c, a, [])) :: st) S1) : Y Eq I O pc ls st S := y_new cx hc hcl hq1 hq2 hq3 hd h1 h2 (k _ _ rfl rfl)
theorem y_newiN {n : Int32} (cx : Cx I own cc nL ret d hs ini) (hq : Cond.arrayClass .int ∈ lw_all) (hd : decode cc pc = .ok (.newarray .int, 2)) (hn : ¬ n < 0) (hn2 : n.toNatClampNeg ≤ 65536) (h1 : 1 ≤ hB S) (h2 : n.toNatClampNeg ≤ hU S)
    (k : ∀ a S1, a = hZ S → S1 = sN S 100 n.toNatClampNeg → Y Eq I O (pc + 2) ls (vR (some (100, a, [])) :: st) S1) : Y Eq I O pc ls (vI n :: st) S := y_newi cx hq hd hn hn2 h1 h2 (k _ _ rfl rfl)
theorem y_newbN {n : Int32} (cx : Cx I own cc nL ret d hs ini) (hq : Cond.arrayClass .byte ∈ lw_all) (hd : decode cc pc = .ok (.newarray .byte, 2)) (hn : ¬ n < 0) (hn2 : n.toNatClampNeg ≤ 65536) (h1 : 1 ≤ hB S) (h2 : n.toNatClampNeg ≤ hU S)
    (k : ∀ a S1, a = hZ S → S1 = sN S 101 n.toNatClampNeg → Y Eq I O (pc + 2) ls (vR (some (101, a, [])) :: st) S1) : Y Eq I O pc ls (vI n :: st) S := y_newb cx hq hd hn hn2 h1 h2 (k _ _ rfl rfl)
theorem y_newEN {n : Int32} {idx : Nat} (cx : Cx I own cc nL ret d hs ini) (hq : Cond.classLink own idx "ClassFileReader$Entry" ∈ lw_all) (hd : decode cc pc = .ok (.anewarray idx, 3)) (hn : ¬ n < 0) (hn2 : n.toNatClampNeg ≤ 65536) (h1 : 1 ≤ hB S) (h2 : n.toNatClampNeg ≤ hU S)
    (k : ∀ a S1, a = hZ S → S1 = sN S 102 n.toNatClampNeg → Y Eq I O (pc + 3) ls (vR (some (102, a, [])) :: st) S1) : Y Eq I O pc ls (vI n :: st) S := y_newE cx hq hd hn hn2 h1 h2 (k _ _ rfl rfl)
/-- System.arraycopy, of bytes -/
theorem y_copyB {b a idx : Nat} {t u : List Int32} {sp dp n : Int32} (cx : Cx I own cc nL ret (d + 1) hs ini) (hq : Cond.methodLink own idx arraycopyName ∈ lw_all) (hq1 : Cond.native arraycopyName ∈ lw_all) (hq2 : Cond.static arraycopyName ∈ lw_all) (hq3 : Cond.initialized "java/lang/System" ∈ lw_all) (hd : decode cc pc = .ok (.invokestatic idx, 3)) (hlen : ls.length = nL) (hst : (st.map catA).sum ≤ 20)
    (h1 : ¬ sp < 0) (h2 : ¬ dp < 0) (h3 : ¬ n < 0) (h4 : sp.toNatClampNeg + n.toNatClampNeg ≤ hN S b) (h5 : dp.toNatClampNeg + n.toNatClampNeg ≤ hN S a) (hfit : ∀ i, i < n.toNatClampNeg → fits .byte (.int (hY S b (sp.toNatClampNeg + i))) = true)
    (k : Y Eq I O (pc + 3) ls st (sK S b sp.toNatClampNeg a dp.toNatClampNeg n.toNatClampNeg)) : Y Eq I O pc ls (vI n :: vI dp :: vR (some (101, a, u)) :: vI sp :: vR (some (101, b, t)) :: st) S := by
  obtain ⟨p, l, e, R, s, m, args, below, meth, c0, G, S0⟩ := I
  obtain ⟨hx, hb, hml, hown, hts, hE, -, -, hR0, -⟩ := cx
  intro S' H locs la hS hbs hv hw1 hw2
  subst hS
  subst hR0
  have nn : ∀ z : Int32, ¬ z < 0 → z.toInt = (z.toNatClampNeg : Int) := by
    intro z hz
    have hz0 : (0 : Int) ≤ z.toInt := by
      have := Int32.not_lt.mp hz
      simpa using Int32.le_iff_toInt_le.mp this
    show z.toInt = ((z.toInt.toNat : Nat) : Int)
    omega
  have hc1 : H[a]? = some (vp_cell (G.2.1 1) (hN S a, .inl (hY S a))) := (hbs.1.at hw2.2.2.1 rfl).2.2
  have hc0 : H[b]? = some (vp_cell (G.2.1 1) (hN S b, .inl (hY S b))) := (hbs.1.at hw2.2.2.2.2.1 rfl).2.2
  have hnf : nativeFrameWords "java/lang/System" "arraycopy" 5 ≤ 20 := by decide +kernel
  intro T hT X
  obtain ⟨-, k0, hk0, cm0, hkk0⟩ := (hE.1.2 1 _ rfl).1 (hN S b) (fun j => .int (hY S b j))
  obtain ⟨-, k1, hk1, cm1, hkk1⟩ := (hE.1.2 1 _ rfl).1 (hN S a) (fun j => .int (hY S a j))
  obtain ⟨vm', X', step⟩ := X.arraycopy hx hown (hts _ hq) (hts _ hq1) (hts _ hq2) (hts _ hq3) (src := b) (dst := a) (cs := vp_cell (G.2.1 1) (hN S b, .inl (hY S b))) (cd := vp_cell (G.2.1 1) (hN S a, .inl (hY S a))) (srcPos := sp) (destPos := dp) (n := n) (by rw [hT]; exact hc0) (by rw [hT]; exact hc1)
    (fun _ h => by cases h) (fun _ h => by cases h) (fun h => by cases h) (fun h => by cases h) hk0 hk1 hkk0 hkk1 (by simp [refKind]) h1 h2 h3
    (by rw [nn sp h1, nn n h3]; show ¬ _ > ((arrV _ (hN S b) (fun j => .int (hY S b j))).slots.size : Int); rw [arrV_size]; omega)
    (by rw [nn dp h2, nn n h3]; show ¬ _ > ((arrV _ (hN S a) (fun j => .int (hY S a j))).slots.size : Int); rw [arrV_size]; omega)
    (fun vm₁ _ i hi => by
      have e : (vp_cell (G.2.1 1) (hN S b, .inl (hY S b))).slots.getD (sp.toNatClampNeg + i) .null = .int (hY S b (sp.toNatClampNeg + i)) := by
        show (arrV _ (hN S b) (fun j => .int (hY S b j))).slots.getD _ _ = _
        rw [Array.getD_eq_getD_getElem?, arrV_read _ _ (by omega)]
        rfl
      refine ⟨?_, ?_⟩
      · rw [e]
        exact hfit i hi
      · rw [e]
        exact trivial)
    (g := F0 m pc la (.int n :: .int dp :: .ref a :: .int sp :: .ref b :: st.map cv)) rfl (by show la.size = _; rw [hml, ← hlen, ← lc_len]; exact hv.1) (rest := st.map cv) rfl (by rw [hb]; exact hd) (by show 1 ≤ d + 1; omega) (by rw [catA_sum]; show 2 * 0 + _ + (nativeFrameWords "java/lang/System" "arraycopy" 5 + 11) ≤ 64 * (d + 1); omega)
  have e1 : copied (vp_cell (G.2.1 1) (hN S b, .inl (hY S b))) (vp_cell (G.2.1 1) (hN S a, .inl (hY S a))) sp dp n = vp_cell (G.2.1 1) (hN S a, .inl (va_cpy (hY S b) (hY S a) sp.toNatClampNeg dp.toNatClampNeg n.toNatClampNeg)) := va_copied (fun z => .int z) (G.2.1 1) (G.2.1 1) (hY S b) (hY S a) h4
  rw [e1] at X' step
  have hl : a < H.size := (Array.getElem?_eq_some_iff.mp hc1).1
  generalize hS1 : sK S b sp.toNatClampNeg a dp.toNatClampNeg n.toNatClampNeg = S1 at k
  have ecell : vp_cell (G.2.1 1) (hN S a, .inl (va_cpy (hY S b) (hY S a) sp.toNatClampNeg dp.toNatClampNeg n.toNatClampNeg)) = vp_cell (G.2.1 1) (hN S1 a, .inl (hY S1 a)) := by
    rw [← hS1, hN_sK]
    congr 3
    funext j
    rw [hY_sK]
    unfold va_cpy
    by_cases hj : dp.toNatClampNeg ≤ j ∧ j < dp.toNatClampNeg + n.toNatClampNeg
    · rw [if_pos hj, if_pos ⟨rfl, hj⟩]
    · rw [if_neg hj, if_neg (fun z => hj z.2)]
  rw [ecell] at X' step
  have hheap : ((T.setVm vm').setCell a (vp_cell (G.2.1 1) (hN S1 a, .inl (hY S1 a)))).heap = H.setIfInBounds a (vp_cell (G.2.1 1) (hN S1 a, .inl (hY S1 a))) := by rw [← hT]; rfl
  have hr' : Rep G S1 (H.setIfInBounds a (vp_cell (G.2.1 1) (hN S1 a, .inl (hY S1 a)))) := by
    subst hS1
    obtain ⟨ht, hza, -⟩ := hbs.1.at hw2.2.2.1 rfl
    refine hbs.1.set hw2.2.2.1 hza (fun _ => rfl) rfl (fun c hb => ⟨fun _ => rfl, fun _ => rfl, fun _ => rfl, rfl, fun _ => rfl, fun j => by rw [hY_sK, if_neg (fun z => hb z.1)], fun _ => rfl⟩) (fun f => hbs.1.2.2.2.2.1 f a) (fun k => hbs.1.2.2.2.2.2.1 a k) (by simp) (fun q hq => by simp [Array.getElem?_setIfInBounds, Ne.symm hq]) (Or.inl ⟨rfl, ht, hza, ?_⟩)
    show (H.setIfInBounds a _)[a]? = some _
    simp [Array.getElem?_setIfInBounds, hl]
  have hm : Mono S S1 := by rw [← hS1]; exact fun _ _ h => h
  have hBU : hB S1 = hB S ∧ hU S1 = hU S := by rw [← hS1]; exact ⟨rfl, rfl⟩
  generalize hL : locs ++ List.map _ _ = L at X'
  have hLb : ∀ q ∈ L, gz G ≤ q.base := by
    intro q hq
    rw [← hL] at hq
    rcases List.mem_append.mp hq with h | h
    · exact hbs.2.1 q h
    · obtain ⟨z, -, hz⟩ := List.mem_map.mp h
      rw [← hz]
      exact (hbs.1.at hw2.2.2.1 rfl).2.1
  have k := k S1 _ L la rfl ⟨hr', hLb, by rw [hBU.1]; exact hbs.2.2.1, by rw [hBU.2]; exact hbs.2.2.2.1, hbs.2.2.2.2.tr hm⟩ hv (hw1.mono hm) (lvS.mono hm hw2.2.2.2.2.2)
  rw [hBU.1, hBU.2] at k
  obtain ⟨t, a1, b1⟩ := k _ hheap X'
  exact ⟨t, step t a1, b1⟩
end YK2
end
section
set_option maxRecDepth 100000
theorem pd_0 : parseFieldDescriptor "[I" = some (.array .int) := by decide +kernel
theorem pd_3 : parseFieldDescriptor "[LClassFileReader$Entry;" = some (.array (.object "ClassFileReader$Entry")) := by decide +kernel
theorem pd_5 : parseFieldDescriptor "Ljava/lang/StringBuilder;" = some (.object "java/lang/StringBuilder") := by decide +kernel
theorem pd_6 : parseFieldDescriptor "LClassFileReader$Mirror;" = some (.object "ClassFileReader$Mirror") := by decide +kernel
theorem pd_7 : parseFieldDescriptor "LClassFileReader$Mirror;" = some (.object "ClassFileReader$Mirror") := by decide +kernel
theorem pd_10 : parseFieldDescriptor "[I" = some (.array .int) := by decide +kernel
theorem pd_12 : parseFieldDescriptor "[I" = some (.array .int) := by decide +kernel
theorem pd_13 : parseFieldDescriptor "[I" = some (.array .int) := by decide +kernel
theorem pd_14 : parseFieldDescriptor "[I" = some (.array .int) := by decide +kernel
theorem pd_20 : parseFieldDescriptor "Ljava/lang/String;" = some (.object "java/lang/String") := by decide +kernel
theorem pd_26 : parseFieldDescriptor "Ljava/lang/String;" = some (.object "java/lang/String") := by decide +kernel
theorem pd_27 : parseFieldDescriptor "Ljava/lang/String;" = some (.object "java/lang/String") := by decide +kernel
theorem pd_28 : parseFieldDescriptor "Ljava/lang/String;" = some (.object "java/lang/String") := by decide +kernel
theorem pd_30 : parseFieldDescriptor "LClassFileReader$Links;" = some (.object "ClassFileReader$Links") := by decide +kernel
theorem pd_31 : parseFieldDescriptor "LClassFileReader$Members;" = some (.object "ClassFileReader$Members") := by decide +kernel
theorem pd_32 : parseFieldDescriptor "LClassFileReader$Members;" = some (.object "ClassFileReader$Members") := by decide +kernel
theorem pd_33 : parseFieldDescriptor "LClassFileReader$Members;" = some (.object "ClassFileReader$Members") := by decide +kernel
theorem pd_34 : parseFieldDescriptor "LClassFileReader$Links;" = some (.object "ClassFileReader$Links") := by decide +kernel
theorem pd_35 : parseFieldDescriptor "LClassFileReader$Links;" = some (.object "ClassFileReader$Links") := by decide +kernel
theorem pd_36 : parseFieldDescriptor "LClassFileReader$Links;" = some (.object "ClassFileReader$Links") := by decide +kernel
theorem pd_37 : parseFieldDescriptor "[I" = some (.array .int) := by decide +kernel
theorem pd_38 : parseFieldDescriptor "LClassFileReader$Links;" = some (.object "ClassFileReader$Links") := by decide +kernel
theorem pd_39 : parseFieldDescriptor "LClassFileReader$Links;" = some (.object "ClassFileReader$Links") := by decide +kernel
theorem pd_40 : parseFieldDescriptor "LClassFileReader$Link;" = some (.object "ClassFileReader$Link") := by decide +kernel
theorem pd_41 : parseFieldDescriptor "LClassFileReader$Link;" = some (.object "ClassFileReader$Link") := by decide +kernel
theorem pd_43 : parseFieldDescriptor "LClassFileReader$Member;" = some (.object "ClassFileReader$Member") := by decide +kernel
theorem pd_44 : parseFieldDescriptor "LClassFileReader$Member;" = some (.object "ClassFileReader$Member") := by decide +kernel
theorem pd_55 : parseFieldDescriptor "Ljava/lang/String;" = some (.object "java/lang/String") := by decide +kernel
theorem pd_60 : parseFieldDescriptor "Ljava/lang/String;" = some (.object "java/lang/String") := by decide +kernel
theorem pd_64 : parseFieldDescriptor "Ljava/lang/String;" = some (.object "java/lang/String") := by decide +kernel
theorem pd_65 : parseFieldDescriptor "LClassFileReader$Link;" = some (.object "ClassFileReader$Link") := by decide +kernel
theorem pd_67 : parseFieldDescriptor "Ljava/lang/String;" = some (.object "java/lang/String") := by decide +kernel
theorem pd_68 : parseFieldDescriptor "Ljava/lang/String;" = some (.object "java/lang/String") := by decide +kernel
theorem pd_69 : parseFieldDescriptor "LClassFileReader$Member;" = some (.object "ClassFileReader$Member") := by decide +kernel
theorem pd_70 : parseFieldDescriptor "LClassFileReader$Links;" = some (.object "ClassFileReader$Links") := by decide +kernel
theorem pd_72 : parseFieldDescriptor "[B" = some (.array .byte) := by decide +kernel
theorem pd_76 : parseFieldDescriptor "[B" = some (.array .byte) := by decide +kernel
theorem cast_Entry : ∀ c ∈ [6, 7, 8, 9], ob c = true ∧ Cond.castable (cn (ck c)) "ClassFileReader$Entry" ∈ lw_tbl := List.forall_mem_cons.mpr ⟨⟨rfl, q1431⟩, List.forall_mem_cons.mpr ⟨⟨rfl, q1432⟩, List.forall_mem_cons.mpr ⟨⟨rfl, q1433⟩, List.forall_mem_cons.mpr ⟨⟨rfl, q1434⟩, fun _ h => absurd h List.not_mem_nil⟩⟩⟩⟩
theorem cast_Text : ∀ c ∈ [6], ob c = true ∧ (cn (ck c) = "ClassFileReader$Text" ∨ Cond.castable (cn (ck c)) "ClassFileReader$Text" ∈ lw_tbl) := List.forall_mem_cons.mpr ⟨⟨rfl, Or.inl rfl⟩, fun _ h => absurd h List.not_mem_nil⟩
theorem nocast_Text : ∀ c ∈ ([7, 8, 9] : List Nat), ob c = true ∧ (cn (ck c), "ClassFileReader$Text") ∈ ncW ∧ ¬ c ∈ [6] := List.forall_mem_cons.mpr ⟨⟨rfl, List.mem_of_getElem? (i := 3) rfl, by decide⟩, List.forall_mem_cons.mpr ⟨⟨rfl, List.mem_of_getElem? (i := 6) rfl, by decide⟩, List.forall_mem_cons.mpr ⟨⟨rfl, List.mem_of_getElem? (i := 9) rfl, by decide⟩, fun _ h => absurd h List.not_mem_nil⟩⟩⟩
theorem cast_Constant : ∀ c ∈ [7], ob c = true ∧ (cn (ck c) = "ClassFileReader$Constant" ∨ Cond.castable (cn (ck c)) "ClassFileReader$Constant" ∈ lw_tbl) := List.forall_mem_cons.mpr ⟨⟨rfl, Or.inl rfl⟩, fun _ h => absurd h List.not_mem_nil⟩
theorem nocast_Constant : ∀ c ∈ ([6, 8, 9] : List Nat), ob c = true ∧ (cn (ck c), "ClassFileReader$Constant") ∈ ncW ∧ ¬ c ∈ [7] := List.forall_mem_cons.mpr ⟨⟨rfl, List.mem_of_getElem? (i := 2) rfl, by decide⟩, List.forall_mem_cons.mpr ⟨⟨rfl, List.mem_of_getElem? (i := 7) rfl, by decide⟩, List.forall_mem_cons.mpr ⟨⟨rfl, List.mem_of_getElem? (i := 10) rfl, by decide⟩, fun _ h => absurd h List.not_mem_nil⟩⟩⟩
theorem cast_Named : ∀ c ∈ [8], ob c = true ∧ (cn (ck c) = "ClassFileReader$Named" ∨ Cond.castable (cn (ck c)) "ClassFileReader$Named" ∈ lw_tbl) := List.forall_mem_cons.mpr ⟨⟨rfl, Or.inl rfl⟩, fun _ h => absurd h List.not_mem_nil⟩
theorem nocast_Named : ∀ c ∈ ([6, 7, 9] : List Nat), ob c = true ∧ (cn (ck c), "ClassFileReader$Named") ∈ ncW ∧ ¬ c ∈ [8] := List.forall_mem_cons.mpr ⟨⟨rfl, List.mem_of_getElem? (i := 0) rfl, by decide⟩, List.forall_mem_cons.mpr ⟨⟨rfl, List.mem_of_getElem? (i := 4) rfl, by decide⟩, List.forall_mem_cons.mpr ⟨⟨rfl, List.mem_of_getElem? (i := 11) rfl, by decide⟩, fun _ h => absurd h List.not_mem_nil⟩⟩⟩
theorem cast_Pair : ∀ c ∈ [9], ob c = true ∧ (cn (ck c) = "ClassFileReader$Pair" ∨ Cond.castable (cn (ck c)) "ClassFileReader$Pair" ∈ lw_tbl) := List.forall_mem_cons.mpr ⟨⟨rfl, Or.inl rfl⟩, fun _ h => absurd h List.not_mem_nil⟩
theorem nocast_Pair : ∀ c ∈ ([6, 7, 8] : List Nat), ob c = true ∧ (cn (ck c), "ClassFileReader$Pair") ∈ ncW ∧ ¬ c ∈ [9] := List.forall_mem_cons.mpr ⟨⟨rfl, List.mem_of_getElem? (i := 1) rfl, by decide⟩, List.forall_mem_cons.mpr ⟨⟨rfl, List.mem_of_getElem? (i := 5) rfl, by decide⟩, List.forall_mem_cons.mpr ⟨⟨rfl, List.mem_of_getElem? (i := 8) rfl, by decide⟩, fun _ h => absurd h List.not_mem_nil⟩⟩⟩
theorem cast_Method : ∀ c ∈ [12], ob c = true ∧ (cn (ck c) = "ClassFileReader$Method" ∨ Cond.castable (cn (ck c)) "ClassFileReader$Method" ∈ lw_tbl) := List.forall_mem_cons.mpr ⟨⟨rfl, Or.inl rfl⟩, fun _ h => absurd h List.not_mem_nil⟩
theorem nocast_Method : ∀ c ∈ ([] : List Nat), ob c = true ∧ (cn (ck c), "ClassFileReader$Method") ∈ ncW ∧ ¬ c ∈ [12] := fun _ h => absurd h List.not_mem_nil
theorem cast_Field : ∀ c ∈ [13], ob c = true ∧ (cn (ck c) = "ClassFileReader$Field" ∨ Cond.castable (cn (ck c)) "ClassFileReader$Field" ∈ lw_tbl) := List.forall_mem_cons.mpr ⟨⟨rfl, Or.inl rfl⟩, fun _ h => absurd h List.not_mem_nil⟩
theorem nocast_Field : ∀ c ∈ ([] : List Nat), ob c = true ∧ (cn (ck c), "ClassFileReader$Field") ∈ ncW ∧ ¬ c ∈ [13] := fun _ h => absurd h List.not_mem_nil
theorem cast_Mirror : ∀ c ∈ [2], ob c = true ∧ (cn (ck c) = "ClassFileReader$Mirror" ∨ Cond.castable (cn (ck c)) "ClassFileReader$Mirror" ∈ lw_tbl) := List.forall_mem_cons.mpr ⟨⟨rfl, Or.inl rfl⟩, fun _ h => absurd h List.not_mem_nil⟩
theorem nocast_Mirror : ∀ c ∈ ([] : List Nat), ob c = true ∧ (cn (ck c), "ClassFileReader$Mirror") ∈ ncW ∧ ¬ c ∈ [2] := fun _ h => absurd h List.not_mem_nil
section YT2
variable {I : Iv} {own : String} {cc : ByteArray} {nL : Nat} {ret : Option FieldType} {d : Nat} {hs : List (Nat × Nat × Nat × Nat)} {ini : Bool} {O : OA → HS → Prop} {pc : Nat} {ls : List (Option AV)} {st : List AV} {S : HS}
theorem y_strVal14 {a idx : Nat} {t : List Int32} (cx : Cx I own cc nL ret d hs ini) (hq : Cond.fieldLink own idx "java/lang/String" "value" "[B" ∈ lw_all) (hd : decode cc pc = .ok (.getfield idx, 3)) (k : ∀ w, tok t → Y Eq I O (pc + 3) ls (vR (some (104, w, t)) :: st) S) : Y Eq I O pc ls (vR (some (14, a, t)) :: st) S := by
  obtain ⟨p, l, e, R, s, m, args, below, meth, c0, G, S0⟩ := I
  obtain ⟨hx, hb, hml, hown, hts, hE, -⟩ := cx
  intro S' H locs la hS hbs hv hw1 hw2
  subst hS
  have htk := hbs.1.tok hw2.1 (Or.inl rfl)
  obtain ⟨-, v, x, z, hat, hv4, -⟩ := hbs.1.str hw2.1
  exact w_getf (ci := 14) (kk := 0) (C := RJ2) (T := TJ2) (N := 4) (ref := "java/lang/String") hx hb hown hts hE rfl (by decide) hat rfl (Or.inl hq) (Or.inl rfl) hd (k v htk S H locs la rfl hbs hv hw1 ⟨hv4, hw2.2⟩)
end YT2
end
section
set_option maxRecDepth 100000
/-- a private method of a class above the receiver's own -/
theorem lk_P {p : Program} {l : Launch} {e : Env} {R : Room} {s : State} {m : MethodId} {args : Array Value} {below : List Frame} {meth : Method} {c : Code} {T : State} {locs : List Loc} {cells slots : Nat}
    (X : Stand p l e R s m args below meth c T locs cells slots) (hexec : p.tables.exec = Jvm.exec) {own : String} {index : Nat} {y : MethodName} {bytes : ByteArray} {maxL : Nat} {ret : Option FieldType}
    (hown : s.vm.findClass own = some m.cls) (hlink : (Cond.methodLink own index y).before args s = true) (hsame : (Cond.sameMethod y.cls y.cls y.name y.desc).before args s = true) (hinst : (Cond.instanceMethod y).before args s = true) (hpriv : (Cond.privateMethod y).before args s = true)
    (hcode : (Cond.code y bytes maxL ret).before args s = true) (hy : y.cls ≠ "java/lang/invoke/MethodHandle" ∧ y.cls ≠ "java/lang/invoke/VarHandle")
    {b : Addr} {cellB : Cell} (hcell : T.heap[b]? = some cellB) (hobj : cellB.vm.isStatics = false)
    {g : JFrame} (hg : g.method = m) {argsL rest : List Value} (hlen : ∀ sig, parseMethodDescriptor y.desc = some sig → argsL.length = sig.parameters.length)
    (hstack : g.stack = argsL.reverse ++ .ref b :: rest) (hdg : decode c.code g.pc = .ok (.invokevirtual index, 3)) :
    Lk p l e R s m args below meth c T locs cells slots g rest y (Value.ref b :: argsL).toArray := by
  obtain ⟨mk, methM, hnamed, hmethM, hstM, habM⟩ := Cond.instanceMethod_spec hinst
  obtain ⟨methM', cM, hmethM', -, -, -, -, -, -, hsigM⟩ := Cond.code_spec hnamed hcode
  cases hmethM.symm.trans hmethM'
  obtain ⟨cS, kS, r1, h1, h2, h3, -, -⟩ := Cond.sameMethod_found hsame
  have hcls : cS = mk.cls := Option.some.inj (h1.symm.trans (findClass_of_methodNamed hnamed))
  subst hcls
  have hselP : selectMethod e.platform s.vm cellB.cls mk = .method mk := selectMethod_private hmethM (Cond.privateMethod_at hpriv mk methM hnamed hmethM)
  obtain ⟨vm₁, X₁, hstep₁⟩ := X.invokevirtual hexec hown hlink hnamed hmethM hstM h2 h3 hy (a := b) (cell := cellB) hcell
    (fun z h => by rw [h] at hobj; cases hobj) hselP hmethM habM h2 h3 (g := g) hg (argsL := argsL) (rest := rest) (hlen _ hsigM) hstack hdg
  exact ⟨vm₁, mk, _, X₁.warmed, X₁, X₁.named hnamed, hdg, fun target h => hstep₁ _ fun acts => by rw [doInvoke_state]; exact h⟩
theorem link_P {I : Iv} {own : String} {cc : ByteArray} {nL : Nat} {ret : Option FieldType} {d pc : Nat} {ini : Bool} {c a idx n maxL : Nat} {t : List Int32} {As rest : List AV} {hs : List (Nat × Nat × Nat × Nat)} {y : MethodName} {bytes : ByteArray} {rt : Option FieldType} {C : String} (cx : Cx I own cc nL ret d hs ini) (hrc : rcv c C) (hl : Cond.methodLink own idx y ∈ lw_all) (hsm : Cond.sameMethod y.cls y.cls y.name y.desc ∈ lw_all) (hi : Cond.instanceMethod y ∈ lw_all) (hp : Cond.privateMethod y ∈ lw_tbl) (hcd : Cond.code y bytes maxL rt ∈ lw_all)
    (hd : y.cls ≠ "java/lang/invoke/MethodHandle" ∧ y.cls ≠ "java/lang/invoke/VarHandle" ∧ (parseMethodDescriptor y.desc).map (fun d => d.parameters.length) = some n) (hn : As.length = n) (hdg : decode cc pc = .ok (.invokevirtual idx, 3)) : LinkY I pc (vR (some (c, a, t)) :: As) rest y := by
  obtain ⟨p, l, e, R, s, m, args, below, meth, c0, G, S0⟩ := I
  obtain ⟨hx, hb, hml, hown, hts, hE, -⟩ := cx
  intro S H locs la T cells slots hbs hA hT X
  obtain ⟨cell, h1, h2, h3⟩ := hrc.cell hE hbs hA.1
  exact lk_P X hx hown (hts _ hl) (hts _ hsm) (hts _ hi) (va_Nw.use rfl (hE.2.1 _ hp rfl)) (hts _ hcd) ⟨hd.1, hd.2.1⟩ (by rw [hT]; exact h1) h2 (g := F0 m pc la _) rfl (argsL := As.map cv) (par_len hd.2.2 hn) (rev_stk _ As rest) (by rw [hb]; exact hdg)
/-- Math.min -/
theorem y_min {σ : Type} {ρ : σ → HS → Prop} {I : Iv} {own : String} {cc : ByteArray} {nL : Nat} {ret : Option FieldType} {d pc : Nat} {ini : Bool} {hs : List (Nat × Nat × Nat × Nat)} {O : OA → σ → Prop} {ls : List (Option AV)} {st : List AV} {x : σ} {idx : Nat} {x1 y1 : Int32} (cx : Cx I own cc nL ret (d + 1) hs ini) (hq : Cond.methodLink own idx Lib.Math.min.name ∈ lw_all) (hq1 : Cond.static Lib.Math.min.name ∈ lw_all) (hq2 : Cond.initialized "java/lang/Math" ∈ lw_all) (hq3 : Cond.code Lib.Math.min.name Lib.Math.min.code 2 (some .int) ∈ lw_all) (hd : decode cc pc = .ok (.invokestatic idx, 3)) (hlen : ls.length = nL) (hst : (st.map catA).sum ≤ 20)
    (k : Y ρ I O (pc + 3) ls (vI (if y1 < x1 then y1 else x1) :: st) x) : Y ρ I O pc ls (vI y1 :: vI x1 :: st) x := by
  obtain ⟨p, l, e, R, s, m, args, below, meth, c0, G, S0⟩ := I
  obtain ⟨hx, hb, hml, hown, hts, hE, -, -, hR0, -⟩ := cx
  intro S H locs la hS hbs hv hw1 hw2
  subst hR0
  exact va_mmin hx hb (by rw [hml, ← hlen, ← lc_len]; exact hv.1.symm) hown (hts _ hq) (hts _ hq1) (hts _ hq2) (hts _ hq3) (by show 1 ≤ d + 1; omega) (by rw [catA_sum]; show _ ≤ 64 * (d + 1); omega) (Nat.sub_le _ _) (Nat.sub_le _ _) hd (k S H locs la hS hbs hv hw1 ⟨trivial, hw2.2.2⟩)
end
section
set_option maxRecDepth 100000
/-- Preconditions.checkIndex with the formatter off a static field -/
theorem y_chk {σ : Type} {ρ : σ → HS → Prop} {I : Iv} {own : String} {cc : ByteArray} {nL : Nat} {ret : Option FieldType} {d pc : Nat} {ini : Bool} {hs : List (Nat × Nat × Nat × Nat)} {O : OA → σ → Prop} {ls : List (Option AV)} {st : List AV} {x : σ} {idx idx2 : Nat} {x1 y1 : Int32} (cx : Cx I own cc nL ret (d + 1) hs ini) (hf : Cond.fieldLink own idx2 "jdk/internal/util/Preconditions" "SIOOBE_FORMATTER" "Ljava/util/function/BiFunction;" ∈ lw_all) (hq : Cond.methodLink own idx yJ11_checkIndex ∈ lw_all) (hd : decode cc pc = .ok (.getstatic idx2, 3)) (hd2 : decode cc (pc + 3) = .ok (.invokestatic idx, 3)) (hlen : ls.length = nL) (hst : (st.map catA).sum ≤ 20) (h0 : 0 ≤ x1) (h1 : x1 < y1)
    (k : Y ρ I O (pc + 6) ls (vI x1 :: st) x) : Y ρ I O pc ls (vI y1 :: vI x1 :: st) x := by
  obtain ⟨p, l, e, R, s, m, args, below, meth, c0, G, S0⟩ := I
  obtain ⟨hx, hb, hml, hown, hts, hE, -, -, hR0, -⟩ := cx
  intro S H locs la hS hbs hv hw1 hw2
  subst hR0
  have key : ∀ f : Value, (∃ q, f = .ref q) ∨ f = .null → W p l e (rmD (d + 1) S0) s m args below meth c0 H locs (hB S0 - hB S) (hU S0 - hU S) (Fin' ρ below G S0 O s) (F0 m (pc + 3) la (f :: .int y1 :: .int x1 :: st.map cv)) := by
    intro f hf T hT X
    obtain ⟨v, vm', X', ⟨first, t, hpost⟩, hstep⟩ := X.staticByContractV hx hown (hts _ hq) (hts _ q539) (hts _ q96) (hts _ q540) (by decide)
      (Lib.Preconditions.checkIndex.meetsLoose l) rfl rfl rfl rfl
      (fun args' first o s₂ h => by
        simp only [Lib.Preconditions.checkIndex.spec, Cond.after_and, Bool.and_eq_true] at h
        cases o with
        | returned r => exact ⟨r, rfl⟩
        | threw y => simp [Cond.after, Cond.holds, Cond.value] at h)
      (g := F0 m (pc + 3) la (f :: .int y1 :: .int x1 :: st.map cv)) rfl (by show la.size = _; rw [hml, ← hlen, ← lc_len]; exact hv.1) (argsL := [.int x1, .int y1, f]) (rest := st.map cv)
      (fun sig hs => by
        have h : (parseMethodDescriptor "(IILjava/util/function/BiFunction;)I").map (fun d => d.parameters.length) = some 3 := by decide +kernel
        rw [show yJ11_checkIndex.desc = "(IILjava/util/function/BiFunction;)I" from rfl] at hs
        rw [hs] at h
        exact (Option.some.inj h).symm)
      rfl (by rw [hb]; exact hd2)
      (fun vm' hW => by
        simp only [Lib.Preconditions.checkIndex.spec, Cond.before_and, Bool.and_eq_true]
        refine ⟨?_, rfl, rfl, rfl, ?_, ?_, ?_⟩
        · have q := hts _ q540
          rw [← Cond.code_setVm hW.alike] at q
          simp only [Cond.before, Cond.holds, Cond.value, State.methodNamed?, State.vm_setVm] at q ⊢
          exact q
        · rcases hf with ⟨q, rfl⟩ | rfl <;> rfl
        · simp [Cond.before, Cond.holds, Cond.value, Term.eval, h0]
        · simp [Cond.before, Cond.holds, Cond.value, Term.eval, h1])
      (by show 0 + 1 ≤ d + 1; omega) (by rw [catA_sum]; show 2 * 0 + _ + (3 + 11) + 0 ≤ 64 * (d + 1); omega) (by show _ + 0 ≤ hB S0; omega) (by show _ + 0 ≤ hU S0; omega)
    have hv1 : v = some (.int x1) := by
      rcases v with _ | w
      · simp [Lib.Preconditions.checkIndex.spec, Cond.after, Cond.holds, Cond.value, Term.eval] at hpost
      · cases w <;> simp [Lib.Preconditions.checkIndex.spec, Cond.after, Cond.holds, Cond.value, Term.eval] at hpost
        simp [hpost]
    subst hv1
    obtain ⟨t, a1, b1⟩ := k S H locs la hS hbs hv hw1 ⟨trivial, hw2.2.2⟩ (T.setVm vm') hT X'
    exact ⟨t, hstep t a1, b1⟩
  rcases hE.2.2.2.2.2.2.1 with ⟨cf, kf, fi, f, a, cell, h1, h2, h3, h4, h5, h6, h7, h8⟩ | ⟨t, cf, kf, fi, f, a, cell, h1, h2, h3, h4, h5, h6, h7, h8⟩
  · exact W.gets hx hb hown (hts _ hf) h1 h2 h3 h4 (by rw [hbs.1.2.2.1 a (Nat.not_le.mp h8)]; exact h5) (fun e => by rw [e] at h6; cases h6) h7 rfl hd (key _ (Or.inr rfl))
  · exact W.gets hx hb hown (hts _ hf) h1 h2 h3 h4 (by rw [hbs.1.2.2.1 a (Nat.not_le.mp h8)]; exact h5) (fun e => by rw [e] at h6; cases h6) h7 rfl hd (key _ (Or.inl ⟨t, rfl⟩))
theorem dJ2_checkIndex_0 : decode cJ2_checkIndex 0 = .ok (.iload_n 0, 1) := by decide +kernel
theorem dJ2_checkIndex_1 : decode cJ2_checkIndex 1 = .ok (.iload_n 1, 1) := by decide +kernel
theorem dJ2_checkIndex_2 : decode cJ2_checkIndex 2 = .ok (.getstatic 1053, 3) := by decide +kernel
theorem dJ2_checkIndex_5 : decode cJ2_checkIndex 5 = .ok (.invokestatic 1059, 3) := by decide +kernel
theorem dJ2_checkIndex_8 : decode cJ2_checkIndex 8 = .ok (.pop, 1) := by decide +kernel
theorem dJ2_checkIndex_9 : decode cJ2_checkIndex 9 = .ok (.return_, 1) := by decide +kernel
def w_J2_checkIndex {σ : Type} (l0 l1 : Int32) (x : σ) (N : σ → Prop) : Prop := 0 ≤ l0 ∧ l0 < l1 ∧ N x
theorem ct_J2_checkIndex {l : Launch} {G : GT} {σ : Type} {ρ : σ → HS → Prop} (l0 l1 : Int32) (x : σ) (N : σ → Prop) (h : w_J2_checkIndex l0 l1 x N) : Ct ρ l yJ2_checkIndex (ws_ yJ2_checkIndex cJ2_checkIndex 2 none) 2 G [vI l0, vI l1] x (oV N (fun _ _ => False)) := by
  refine Ct.ofY (cc := cJ2_checkIndex) (maxL := 2) (ret := none) [some (vI l0), some (vI l1)] false (by decide +kernel) (fun h => by cases h) rfl rfl (Nat.le_of_ble_eq_true rfl) (fun I cx => ?_)
  obtain ⟨h0, h1, h⟩ := h
  refine y_iload_n 0 cx dJ2_checkIndex_0 rfl rfl ?_
  refine y_iload_n 1 cx dJ2_checkIndex_1 rfl rfl ?_
  refine y_chk (d := 1) cx q515 q538 dJ2_checkIndex_2 dJ2_checkIndex_5 rfl (by decide) h0 h1 ?_
  refine y_popi cx dJ2_checkIndex_8 ?_
  exact y_vret cx dJ2_checkIndex_9 h
theorem md_J2_checkIndex : yJ2_checkIndex.cls ≠ "java/lang/invoke/MethodHandle" ∧ yJ2_checkIndex.cls ≠ "java/lang/invoke/VarHandle" ∧ (parseMethodDescriptor yJ2_checkIndex.desc).map (fun d => d.parameters.length) = some 2 := by decide +kernel
end
section
set_option maxRecDepth 100000
set_option maxHeartbeats 4000000
/-! java/lang/Integer.bitCount -/
theorem dJ12_bitCount_0 : decode cJ12_bitCount 0 = .ok (.iload_n 0, 1) := by decide +kernel
theorem dJ12_bitCount_1 : decode cJ12_bitCount 1 = .ok (.iload_n 0, 1) := by decide +kernel
theorem dJ12_bitCount_2 : decode cJ12_bitCount 2 = .ok (.iconst 1, 1) := by decide +kernel
theorem dJ12_bitCount_3 : decode cJ12_bitCount 3 = .ok (.iushr, 1) := by decide +kernel
theorem dJ12_bitCount_4 : decode cJ12_bitCount 4 = .ok (.ldc_w 265, 3) := by decide +kernel
theorem dJ12_bitCount_7 : decode cJ12_bitCount 7 = .ok (.iand, 1) := by decide +kernel
theorem dJ12_bitCount_8 : decode cJ12_bitCount 8 = .ok (.isub, 1) := by decide +kernel
theorem dJ12_bitCount_9 : decode cJ12_bitCount 9 = .ok (.istore_n 0, 1) := by decide +kernel
theorem dJ12_bitCount_10 : decode cJ12_bitCount 10 = .ok (.iload_n 0, 1) := by decide +kernel
theorem dJ12_bitCount_11 : decode cJ12_bitCount 11 = .ok (.ldc_w 266, 3) := by decide +kernel
theorem dJ12_bitCount_14 : decode cJ12_bitCount 14 = .ok (.iand, 1) := by decide +kernel
theorem dJ12_bitCount_15 : decode cJ12_bitCount 15 = .ok (.iload_n 0, 1) := by decide +kernel
theorem dJ12_bitCount_16 : decode cJ12_bitCount 16 = .ok (.iconst 2, 1) := by decide +kernel
theorem dJ12_bitCount_17 : decode cJ12_bitCount 17 = .ok (.iushr, 1) := by decide +kernel
theorem dJ12_bitCount_18 : decode cJ12_bitCount 18 = .ok (.ldc_w 266, 3) := by decide +kernel
theorem dJ12_bitCount_21 : decode cJ12_bitCount 21 = .ok (.iand, 1) := by decide +kernel
theorem dJ12_bitCount_22 : decode cJ12_bitCount 22 = .ok (.iadd, 1) := by decide +kernel
theorem dJ12_bitCount_23 : decode cJ12_bitCount 23 = .ok (.istore_n 0, 1) := by decide +kernel
theorem dJ12_bitCount_24 : decode cJ12_bitCount 24 = .ok (.iload_n 0, 1) := by decide +kernel
theorem dJ12_bitCount_25 : decode cJ12_bitCount 25 = .ok (.iload_n 0, 1) := by decide +kernel
theorem dJ12_bitCount_26 : decode cJ12_bitCount 26 = .ok (.iconst 4, 1) := by decide +kernel
theorem dJ12_bitCount_27 : decode cJ12_bitCount 27 = .ok (.iushr, 1) := by decide +kernel
theorem dJ12_bitCount_28 : decode cJ12_bitCount 28 = .ok (.iadd, 1) := by decide +kernel
theorem dJ12_bitCount_29 : decode cJ12_bitCount 29 = .ok (.ldc_w 267, 3) := by decide +kernel
theorem dJ12_bitCount_32 : decode cJ12_bitCount 32 = .ok (.iand, 1) := by decide +kernel
theorem dJ12_bitCount_33 : decode cJ12_bitCount 33 = .ok (.istore_n 0, 1) := by decide +kernel
theorem dJ12_bitCount_34 : decode cJ12_bitCount 34 = .ok (.iload_n 0, 1) := by decide +kernel
theorem dJ12_bitCount_35 : decode cJ12_bitCount 35 = .ok (.iload_n 0, 1) := by decide +kernel
theorem dJ12_bitCount_36 : decode cJ12_bitCount 36 = .ok (.bipush 8, 2) := by decide +kernel
theorem dJ12_bitCount_38 : decode cJ12_bitCount 38 = .ok (.iushr, 1) := by decide +kernel
theorem dJ12_bitCount_39 : decode cJ12_bitCount 39 = .ok (.iadd, 1) := by decide +kernel
theorem dJ12_bitCount_40 : decode cJ12_bitCount 40 = .ok (.istore_n 0, 1) := by decide +kernel
theorem dJ12_bitCount_41 : decode cJ12_bitCount 41 = .ok (.iload_n 0, 1) := by decide +kernel
theorem dJ12_bitCount_42 : decode cJ12_bitCount 42 = .ok (.iload_n 0, 1) := by decide +kernel
theorem dJ12_bitCount_43 : decode cJ12_bitCount 43 = .ok (.bipush 16, 2) := by decide +kernel
theorem dJ12_bitCount_45 : decode cJ12_bitCount 45 = .ok (.iushr, 1) := by decide +kernel
theorem dJ12_bitCount_46 : decode cJ12_bitCount 46 = .ok (.iadd, 1) := by decide +kernel
theorem dJ12_bitCount_47 : decode cJ12_bitCount 47 = .ok (.istore_n 0, 1) := by decide +kernel
theorem dJ12_bitCount_48 : decode cJ12_bitCount 48 = .ok (.iload_n 0, 1) := by decide +kernel
theorem dJ12_bitCount_49 : decode cJ12_bitCount 49 = .ok (.bipush 63, 2) := by decide +kernel
theorem dJ12_bitCount_51 : decode cJ12_bitCount 51 = .ok (.iand, 1) := by decide +kernel
theorem dJ12_bitCount_52 : decode cJ12_bitCount 52 = .ok (.ireturn, 1) := by decide +kernel
def w_J12_bitCount {σ : Type} (l0 : Int32) (x : σ) (N : Int32 → σ → Prop) : Prop :=
  ∀ v1, v1 = (l0 - (((l0.toUInt32 >>> ((1 : Int32).toUInt32 &&& Int32.toUInt32 31)).toInt32) &&& (1431655765 : Int32))) → ∀ v3, v3 = ((v1 &&& (858993459 : Int32)) + (((v1.toUInt32 >>> ((2 : Int32).toUInt32 &&& Int32.toUInt32 31)).toInt32) &&& (858993459 : Int32))) → ∀ v5, v5 = ((v3 + ((v3.toUInt32 >>> ((4 : Int32).toUInt32 &&& Int32.toUInt32 31)).toInt32)) &&& (252645135 : Int32)) → ∀ v7, v7 = (v5 + ((v5.toUInt32 >>> ((8 : Int32).toUInt32 &&& Int32.toUInt32 31)).toInt32)) → ∀ v9, v9 = (v7 + ((v7.toUInt32 >>> ((16 : Int32).toUInt32 &&& Int32.toUInt32 31)).toInt32)) → N (v9 &&& (63 : Int32)) x
theorem ct_J12_bitCount {l : Launch} {G : GT} {σ : Type} {ρ : σ → HS → Prop} (l0 : Int32) (x : σ) (N : Int32 → σ → Prop) (h : w_J12_bitCount l0 x N) : Ct ρ l yJ12_bitCount (ws_ yJ12_bitCount cJ12_bitCount 1 (some .int)) 1 G [vI l0] x (oI N (fun _ _ => False)) := by
  refine Ct.ofY (cc := cJ12_bitCount) (maxL := 1) (ret := (some .int)) [some (vI l0)] false (by decide +kernel) (fun h => by cases h) rfl rfl (Nat.le_of_ble_eq_true rfl) (fun I cx => ?_)
  unfold w_J12_bitCount at h
  refine y_iload_n 0 cx dJ12_bitCount_0 rfl rfl ?_
  refine y_iload_n 0 cx dJ12_bitCount_1 rfl rfl ?_
  refine y_iconst (v := 1) cx dJ12_bitCount_2 (by decide) ?_
  refine y_iushr cx dJ12_bitCount_3 ?_
  refine y_ldcw cx q826 dJ12_bitCount_4 ?_
  refine y_iand cx dJ12_bitCount_7 ?_
  refine y_isub cx dJ12_bitCount_8 ?_
  refine y_nmI (fun v1 e2 => ?_)
  replace h := h v1 e2
  refine y_istore_n 0 [some (vI v1)] cx dJ12_bitCount_9 rfl (Nat.le_of_ble_eq_true rfl) trivial rfl ?_
  refine y_iload_n 0 cx dJ12_bitCount_10 rfl rfl ?_
  refine y_ldcw cx q827 dJ12_bitCount_11 ?_
  refine y_iand cx dJ12_bitCount_14 ?_
  refine y_iload_n 0 cx dJ12_bitCount_15 rfl rfl ?_
  refine y_iconst (v := 2) cx dJ12_bitCount_16 (by decide) ?_
  refine y_iushr cx dJ12_bitCount_17 ?_
  refine y_ldcw cx q827 dJ12_bitCount_18 ?_
  refine y_iand cx dJ12_bitCount_21 ?_
  refine y_iadd cx dJ12_bitCount_22 ?_
  refine y_nmI (fun v3 e4 => ?_)
  replace h := h v3 e4
  refine y_istore_n 0 [some (vI v3)] cx dJ12_bitCount_23 rfl (Nat.le_of_ble_eq_true rfl) trivial rfl ?_
  refine y_iload_n 0 cx dJ12_bitCount_24 rfl rfl ?_
  refine y_iload_n 0 cx dJ12_bitCount_25 rfl rfl ?_
  refine y_iconst (v := 4) cx dJ12_bitCount_26 (by decide) ?_
  refine y_iushr cx dJ12_bitCount_27 ?_
  refine y_iadd cx dJ12_bitCount_28 ?_
  refine y_ldcw cx q828 dJ12_bitCount_29 ?_
  refine y_iand cx dJ12_bitCount_32 ?_
  refine y_nmI (fun v5 e6 => ?_)
  replace h := h v5 e6
  refine y_istore_n 0 [some (vI v5)] cx dJ12_bitCount_33 rfl (Nat.le_of_ble_eq_true rfl) trivial rfl ?_
  refine y_iload_n 0 cx dJ12_bitCount_34 rfl rfl ?_
  refine y_iload_n 0 cx dJ12_bitCount_35 rfl rfl ?_
  refine y_bipush (v := 8) cx dJ12_bitCount_36 (by decide) ?_
  refine y_iushr cx dJ12_bitCount_38 ?_
  refine y_iadd cx dJ12_bitCount_39 ?_
  refine y_nmI (fun v7 e8 => ?_)
  replace h := h v7 e8
  refine y_istore_n 0 [some (vI v7)] cx dJ12_bitCount_40 rfl (Nat.le_of_ble_eq_true rfl) trivial rfl ?_
  refine y_iload_n 0 cx dJ12_bitCount_41 rfl rfl ?_
  refine y_iload_n 0 cx dJ12_bitCount_42 rfl rfl ?_
  refine y_bipush (v := 16) cx dJ12_bitCount_43 (by decide) ?_
  refine y_iushr cx dJ12_bitCount_45 ?_
  refine y_iadd cx dJ12_bitCount_46 ?_
  refine y_nmI (fun v9 e10 => ?_)
  replace h := h v9 e10
  refine y_istore_n 0 [some (vI v9)] cx dJ12_bitCount_47 rfl (Nat.le_of_ble_eq_true rfl) trivial rfl ?_
  refine y_iload_n 0 cx dJ12_bitCount_48 rfl rfl ?_
  refine y_bipush (v := 63) cx dJ12_bitCount_49 (by decide) ?_
  refine y_iand cx dJ12_bitCount_51 ?_
  exact y_iret cx dJ12_bitCount_52 h
theorem md_J12_bitCount : yJ12_bitCount.cls ≠ "java/lang/invoke/MethodHandle" ∧ yJ12_bitCount.cls ≠ "java/lang/invoke/VarHandle" ∧ (parseMethodDescriptor yJ12_bitCount.desc).map (fun d => d.parameters.length) = some 1 := by decide +kernel
/-! java/lang/String.coder -/
theorem dJ2_coder_0 : decode cJ2_coder 0 = .ok (.getstatic 38, 3) := by decide +kernel
theorem dJ2_coder_3 : decode cJ2_coder 3 = .ok (.ifCond .eq 10, 3) := by decide +kernel
theorem dJ2_coder_6 : decode cJ2_coder 6 = .ok (.aload_n 0, 1) := by decide +kernel
theorem dJ2_coder_7 : decode cJ2_coder 7 = .ok (.getfield 15, 3) := by decide +kernel
theorem dJ2_coder_10 : decode cJ2_coder 10 = .ok (.goto 4, 3) := by decide +kernel
theorem dJ2_coder_13 : decode cJ2_coder 13 = .ok (.iconst 1, 1) := by decide +kernel
theorem dJ2_coder_14 : decode cJ2_coder 14 = .ok (.ireturn, 1) := by decide +kernel
def w_J2_coder (a : Nat) (t : List Int32) (S : HS) (N : Int32 → HS → Prop) (X : Nat → HS → Prop) : Prop :=
  (((1 : Int32) = 0 → narrow .byte (.int (1 : Int32)) = .int (1 : Int32) ∧ N (1 : Int32) S) ∧
   (¬ (1 : Int32) = 0 → narrow .byte (.int (0 : Int32)) = .int (0 : Int32) ∧ N (0 : Int32) S))
theorem ct_J2_coder {l : Launch} {G : GT} (a : Nat) (t : List Int32) (S : HS) (N : Int32 → HS → Prop) (X : Nat → HS → Prop) (h : w_J2_coder a t S N X) : Ct Eq l yJ2_coder (ws_ yJ2_coder cJ2_coder 1 (some .byte)) 1 G [vR (some (14, a, t))] S (oI N X) := by
  refine Ct.ofY (cc := cJ2_coder) (maxL := 1) (ret := (some .byte)) [some (vR (some (14, a, t)))] false (by decide +kernel) (fun h => by cases h) rfl rfl (Nat.le_of_ble_eq_true rfl) (fun I cx => ?_)
  unfold w_J2_coder at h
  refine y_compact cx q579 dJ2_coder_0 ?_
  refine y_if_eq 13 cx dJ2_coder_3 (by decide) (fun c1 => ?_) (fun c1 => ?_)
  · replace h := h.1 c1
    refine y_iconst (v := 1) cx dJ2_coder_13 (by decide) ?_
    obtain ⟨h2, h⟩ := h
    exact y_zret cx h2 dJ2_coder_14 h
  · replace h := h.2 c1
    refine y_aload_n 0 cx dJ2_coder_6 rfl rfl ?_
    refine y_strCoder cx q594 dJ2_coder_7 (Or.inl rfl) ?_
    refine y_goto 14 cx dJ2_coder_10 (by decide) ?_
    obtain ⟨h3, h⟩ := h
    exact y_zret cx h3 dJ2_coder_14 h
theorem md_J2_coder : yJ2_coder.cls ≠ "java/lang/invoke/MethodHandle" ∧ yJ2_coder.cls ≠ "java/lang/invoke/VarHandle" ∧ (parseMethodDescriptor yJ2_coder.desc).map (fun d => d.parameters.length) = some 0 := by decide +kernel
/-! java/lang/String.isLatin1 -/
theorem dJ2_isLatin1_0 : decode cJ2_isLatin1 0 = .ok (.getstatic 38, 3) := by decide +kernel
theorem dJ2_isLatin1_3 : decode cJ2_isLatin1 3 = .ok (.ifCond .eq 14, 3) := by decide +kernel
theorem dJ2_isLatin1_6 : decode cJ2_isLatin1 6 = .ok (.aload_n 0, 1) := by decide +kernel
theorem dJ2_isLatin1_7 : decode cJ2_isLatin1 7 = .ok (.getfield 15, 3) := by decide +kernel
theorem dJ2_isLatin1_10 : decode cJ2_isLatin1 10 = .ok (.ifCond .ne 7, 3) := by decide +kernel
theorem dJ2_isLatin1_13 : decode cJ2_isLatin1 13 = .ok (.iconst 1, 1) := by decide +kernel
theorem dJ2_isLatin1_14 : decode cJ2_isLatin1 14 = .ok (.goto 4, 3) := by decide +kernel
theorem dJ2_isLatin1_17 : decode cJ2_isLatin1 17 = .ok (.iconst 0, 1) := by decide +kernel
theorem dJ2_isLatin1_18 : decode cJ2_isLatin1 18 = .ok (.ireturn, 1) := by decide +kernel
def w_J2_isLatin1 (a : Nat) (t : List Int32) (S : HS) (N : Int32 → HS → Prop) (X : Nat → HS → Prop) : Prop :=
  (((1 : Int32) = 0 → N (0 : Int32) S) ∧
   (¬ (1 : Int32) = 0 → ((¬ (0 : Int32) = 0 → N (0 : Int32) S) ∧
     ((0 : Int32) = 0 → N (1 : Int32) S))))
theorem ct_J2_isLatin1 {l : Launch} {G : GT} (a : Nat) (t : List Int32) (S : HS) (N : Int32 → HS → Prop) (X : Nat → HS → Prop) (h : w_J2_isLatin1 a t S N X) : Ct Eq l yJ2_isLatin1 (ws_ yJ2_isLatin1 cJ2_isLatin1 1 (some .boolean)) 1 G [vR (some (14, a, t))] S (oI N X) := by
  refine Ct.ofY (cc := cJ2_isLatin1) (maxL := 1) (ret := (some .boolean)) [some (vR (some (14, a, t)))] false (by decide +kernel) (fun h => by cases h) rfl rfl (Nat.le_of_ble_eq_true rfl) (fun I cx => ?_)
  unfold w_J2_isLatin1 at h
  refine y_compact cx q579 dJ2_isLatin1_0 ?_
  refine y_if_eq 17 cx dJ2_isLatin1_3 (by decide) (fun c1 => ?_) (fun c1 => ?_)
  · replace h := h.1 c1
    refine y_iconst (v := 0) cx dJ2_isLatin1_17 (by decide) ?_
    exact y_zret cx rfl dJ2_isLatin1_18 h
  · replace h := h.2 c1
    refine y_aload_n 0 cx dJ2_isLatin1_6 rfl rfl ?_
    refine y_strCoder cx q594 dJ2_isLatin1_7 (Or.inl rfl) ?_
    refine y_if_ne 17 cx dJ2_isLatin1_10 (by decide) (fun c2 => ?_) (fun c2 => ?_)
    · replace h := h.1 c2
      refine y_iconst (v := 0) cx dJ2_isLatin1_17 (by decide) ?_
      exact y_zret cx rfl dJ2_isLatin1_18 h
    · replace h := h.2 c2
      refine y_iconst (v := 1) cx dJ2_isLatin1_13 (by decide) ?_
      refine y_goto 18 cx dJ2_isLatin1_14 (by decide) ?_
      exact y_zret cx rfl dJ2_isLatin1_18 h
theorem md_J2_isLatin1 : yJ2_isLatin1.cls ≠ "java/lang/invoke/MethodHandle" ∧ yJ2_isLatin1.cls ≠ "java/lang/invoke/VarHandle" ∧ (parseMethodDescriptor yJ2_isLatin1.desc).map (fun d => d.parameters.length) = some 0 := by decide +kernel
/-! java/lang/String.length -/
theorem dJ2_length_0 : decode cJ2_length 0 = .ok (.aload_n 0, 1) := by decide +kernel
theorem dJ2_length_1 : decode cJ2_length 1 = .ok (.getfield 9, 3) := by decide +kernel
theorem dJ2_length_4 : decode cJ2_length 4 = .ok (.arraylength, 1) := by decide +kernel
theorem dJ2_length_5 : decode cJ2_length 5 = .ok (.aload_n 0, 1) := by decide +kernel
theorem dJ2_length_6 : decode cJ2_length 6 = .ok (.invokevirtual 335, 3) := by decide +kernel
theorem dJ2_length_9 : decode cJ2_length 9 = .ok (.ishr, 1) := by decide +kernel
theorem dJ2_length_10 : decode cJ2_length 10 = .ok (.ireturn, 1) := by decide +kernel
def w_J2_length (a : Nat) (t : List Int32) (S : HS) (N : Int32 → HS → Prop) (X : Nat → HS → Prop) : Prop :=
  ∀ (w1 : Nat), tok t → w_J2_coder a t S (fun r4 S3 =>
   N ((nI t.length) >>> (r4 &&& 31)) S3) X
theorem ct_J2_length {l : Launch} {G : GT} (a : Nat) (t : List Int32) (S : HS) (N : Int32 → HS → Prop) (X : Nat → HS → Prop) (h : w_J2_length a t S N X) : Ct Eq l yJ2_length (ws_ yJ2_length cJ2_length 1 (some .int)) 2 G [vR (some (14, a, t))] S (oI N X) := by
  refine Ct.ofY (cc := cJ2_length) (maxL := 1) (ret := (some .int)) [some (vR (some (14, a, t)))] false (by decide +kernel) (fun h => by cases h) rfl rfl (Nat.le_of_ble_eq_true rfl) (fun I cx => ?_)
  unfold w_J2_length at h
  refine y_aload_n 0 cx dJ2_length_0 rfl rfl ?_
  refine y_strVal14 cx q593 dJ2_length_1 (fun w1 h2 => ?_)
  replace h := h w1 h2
  refine y_alenT cx dJ2_length_4 (Or.inr rfl) ?_
  refine y_aload_n 0 cx dJ2_length_5 rfl rfl ?_
  refine y_callI (d := 1) [vR (some (14, a, t))] [vI (nI t.length)] cx rfl rfl (fun l G => ct_J2_coder a t S _ _ h) (lw_meth q701) (by decide) (Or.inl q701) q80 (link_V cx (Or.inr (Or.inl ⟨Or.inl rfl, rfl⟩)) (Or.inl q698) q699 q700 q701 md_J2_coder rfl dJ2_length_6) (Nat.le_of_ble_eq_true rfl) (fun r4 S3 h => ?_) (fun a x' hx => hx)
  refine y_ishr cx dJ2_length_9 ?_
  exact y_iret cx dJ2_length_10 h
theorem md_J2_length : yJ2_length.cls ≠ "java/lang/invoke/MethodHandle" ∧ yJ2_length.cls ≠ "java/lang/invoke/VarHandle" ∧ (parseMethodDescriptor yJ2_length.desc).map (fun d => d.parameters.length) = some 0 := by decide +kernel
/-! java/lang/String.isEmpty -/
theorem dJ2_isEmpty_0 : decode cJ2_isEmpty 0 = .ok (.aload_n 0, 1) := by decide +kernel
theorem dJ2_isEmpty_1 : decode cJ2_isEmpty 1 = .ok (.getfield 9, 3) := by decide +kernel
theorem dJ2_isEmpty_4 : decode cJ2_isEmpty 4 = .ok (.arraylength, 1) := by decide +kernel
theorem dJ2_isEmpty_5 : decode cJ2_isEmpty 5 = .ok (.ifCond .ne 7, 3) := by decide +kernel
theorem dJ2_isEmpty_8 : decode cJ2_isEmpty 8 = .ok (.iconst 1, 1) := by decide +kernel
theorem dJ2_isEmpty_9 : decode cJ2_isEmpty 9 = .ok (.goto 4, 3) := by decide +kernel
theorem dJ2_isEmpty_12 : decode cJ2_isEmpty 12 = .ok (.iconst 0, 1) := by decide +kernel
theorem dJ2_isEmpty_13 : decode cJ2_isEmpty 13 = .ok (.ireturn, 1) := by decide +kernel
def w_J2_isEmpty (a : Nat) (t : List Int32) (S : HS) (N : Int32 → HS → Prop) (X : Nat → HS → Prop) : Prop :=
  ∀ (w1 : Nat), tok t → ((¬ (nI t.length) = 0 → N (0 : Int32) S) ∧
   ((nI t.length) = 0 → N (1 : Int32) S))
theorem ct_J2_isEmpty {l : Launch} {G : GT} (a : Nat) (t : List Int32) (S : HS) (N : Int32 → HS → Prop) (X : Nat → HS → Prop) (h : w_J2_isEmpty a t S N X) : Ct Eq l yJ2_isEmpty (ws_ yJ2_isEmpty cJ2_isEmpty 1 (some .boolean)) 1 G [vR (some (14, a, t))] S (oI N X) := by
  refine Ct.ofY (cc := cJ2_isEmpty) (maxL := 1) (ret := (some .boolean)) [some (vR (some (14, a, t)))] false (by decide +kernel) (fun h => by cases h) rfl rfl (Nat.le_of_ble_eq_true rfl) (fun I cx => ?_)
  unfold w_J2_isEmpty at h
  refine y_aload_n 0 cx dJ2_isEmpty_0 rfl rfl ?_
  refine y_strVal14 cx q593 dJ2_isEmpty_1 (fun w1 h2 => ?_)
  replace h := h w1 h2
  refine y_alenT cx dJ2_isEmpty_4 (Or.inr rfl) ?_
  refine y_if_ne 12 cx dJ2_isEmpty_5 (by decide) (fun c3 => ?_) (fun c3 => ?_)
  · replace h := h.1 c3
    refine y_iconst (v := 0) cx dJ2_isEmpty_12 (by decide) ?_
    exact y_zret cx rfl dJ2_isEmpty_13 h
  · replace h := h.2 c3
    refine y_iconst (v := 1) cx dJ2_isEmpty_8 (by decide) ?_
    refine y_goto 13 cx dJ2_isEmpty_9 (by decide) ?_
    exact y_zret cx rfl dJ2_isEmpty_13 h
theorem md_J2_isEmpty : yJ2_isEmpty.cls ≠ "java/lang/invoke/MethodHandle" ∧ yJ2_isEmpty.cls ≠ "java/lang/invoke/VarHandle" ∧ (parseMethodDescriptor yJ2_isEmpty.desc).map (fun d => d.parameters.length) = some 0 := by decide +kernel
/-! java/lang/StringLatin1.charAt -/
theorem dJ10_charAt_0 : decode cJ10_charAt 0 = .ok (.iload_n 1, 1) := by decide +kernel
theorem dJ10_charAt_1 : decode cJ10_charAt 1 = .ok (.aload_n 0, 1) := by decide +kernel
theorem dJ10_charAt_2 : decode cJ10_charAt 2 = .ok (.arraylength, 1) := by decide +kernel
theorem dJ10_charAt_3 : decode cJ10_charAt 3 = .ok (.invokestatic 9, 3) := by decide +kernel
theorem dJ10_charAt_6 : decode cJ10_charAt 6 = .ok (.aload_n 0, 1) := by decide +kernel
theorem dJ10_charAt_7 : decode cJ10_charAt 7 = .ok (.iload_n 1, 1) := by decide +kernel
theorem dJ10_charAt_8 : decode cJ10_charAt 8 = .ok (.baload, 1) := by decide +kernel
theorem dJ10_charAt_9 : decode cJ10_charAt 9 = .ok (.sipush 255, 3) := by decide +kernel
theorem dJ10_charAt_12 : decode cJ10_charAt 12 = .ok (.iand, 1) := by decide +kernel
theorem dJ10_charAt_13 : decode cJ10_charAt 13 = .ok (.i2c, 1) := by decide +kernel
theorem dJ10_charAt_14 : decode cJ10_charAt 14 = .ok (.ireturn, 1) := by decide +kernel
def w_J10_charAt (l0 : Rf) (l1 : Int32) (S : HS) (N : Int32 → HS → Prop) (X : Nat → HS → Prop) : Prop :=
  ∃ a1 t3, l0 = some (104, a1, t3) ∧ w_J2_checkIndex l1 (nI t3.length) S (fun S4 =>
   vp_in l1 t3.length ∧ narrow .char (.int ((((t3.getD l1.toNatClampNeg 0) &&& (255 : Int32)).toUInt32 % 65536).toInt32)) = .int ((((t3.getD l1.toNatClampNeg 0) &&& (255 : Int32)).toUInt32 % 65536).toInt32) ∧ N ((((t3.getD l1.toNatClampNeg 0) &&& (255 : Int32)).toUInt32 % 65536).toInt32) S4)
theorem ct_J10_charAt {l : Launch} {G : GT} (l0 : Rf) (l1 : Int32) (S : HS) (N : Int32 → HS → Prop) (X : Nat → HS → Prop) (h : w_J10_charAt l0 l1 S N X) : Ct Eq l yJ10_charAt (ws_ yJ10_charAt cJ10_charAt 2 (some .char)) 3 G [vR l0, vI l1] S (oI N X) := by
  refine Ct.ofY (cc := cJ10_charAt) (maxL := 2) (ret := (some .char)) [some (vR l0), some (vI l1)] false (by decide +kernel) (fun h => by cases h) rfl rfl (Nat.le_of_ble_eq_true rfl) (fun I cx => ?_)
  unfold w_J10_charAt at h
  refine y_iload_n 1 cx dJ10_charAt_0 rfl rfl ?_
  refine y_aload_n 0 cx dJ10_charAt_1 rfl rfl ?_
  obtain ⟨a1, t3, e2, h⟩ := h
  subst e2
  refine y_alenT cx dJ10_charAt_2 (Or.inr rfl) ?_
  refine y_callV (d := 2) [vI l1, vI (nI t3.length)] [] cx rfl rfl (fun l G => ct_J2_checkIndex l1 (nI t3.length) S _ h) (lw_meth q537) (by decide) (Or.inl q537) q80 (link_S cx (Or.inl q716) q536 q80 q537 md_J2_checkIndex rfl dJ10_charAt_3) (Nat.le_of_ble_eq_true rfl) (fun S4 h => ?_) (fun a x' hx => hx.elim)
  refine y_aload_n 0 cx dJ10_charAt_6 rfl rfl ?_
  refine y_iload_n 1 cx dJ10_charAt_7 rfl rfl ?_
  obtain ⟨h5, h⟩ := h
  refine y_baldT cx dJ10_charAt_8 (Or.inr rfl) h5 ?_
  refine y_sipush (v := 255) cx dJ10_charAt_9 (by decide) ?_
  refine y_iand cx dJ10_charAt_12 ?_
  refine y_i2c cx dJ10_charAt_13 ?_
  obtain ⟨h6, h⟩ := h
  exact y_zret cx h6 dJ10_charAt_14 h
theorem md_J10_charAt : yJ10_charAt.cls ≠ "java/lang/invoke/MethodHandle" ∧ yJ10_charAt.cls ≠ "java/lang/invoke/VarHandle" ∧ (parseMethodDescriptor yJ10_charAt.desc).map (fun d => d.parameters.length) = some 2 := by decide +kernel
/-! java/lang/String.charAt -/
theorem dJ2_charAt_0 : decode cJ2_charAt 0 = .ok (.aload_n 0, 1) := by decide +kernel
theorem dJ2_charAt_1 : decode cJ2_charAt 1 = .ok (.invokevirtual 492, 3) := by decide +kernel
theorem dJ2_charAt_4 : decode cJ2_charAt 4 = .ok (.ifCond .eq 12, 3) := by decide +kernel
theorem dJ2_charAt_7 : decode cJ2_charAt 7 = .ok (.aload_n 0, 1) := by decide +kernel
theorem dJ2_charAt_8 : decode cJ2_charAt 8 = .ok (.getfield 9, 3) := by decide +kernel
theorem dJ2_charAt_11 : decode cJ2_charAt 11 = .ok (.iload_n 1, 1) := by decide +kernel
theorem dJ2_charAt_12 : decode cJ2_charAt 12 = .ok (.invokestatic 495, 3) := by decide +kernel
theorem dJ2_charAt_15 : decode cJ2_charAt 15 = .ok (.ireturn, 1) := by decide +kernel
theorem dJ2_charAt_16 : decode cJ2_charAt 16 = .ok (.aload_n 0, 1) := by decide +kernel
theorem dJ2_charAt_17 : decode cJ2_charAt 17 = .ok (.getfield 9, 3) := by decide +kernel
theorem dJ2_charAt_20 : decode cJ2_charAt 20 = .ok (.iload_n 1, 1) := by decide +kernel
theorem dJ2_charAt_21 : decode cJ2_charAt 21 = .ok (.invokestatic 498, 3) := by decide +kernel
def w_J2_charAt (a : Nat) (t : List Int32) (l1 : Int32) (S : HS) (N : Int32 → HS → Prop) (X : Nat → HS → Prop) : Prop :=
  w_J2_isLatin1 a t S (fun r2 S1 =>
   ((r2 = 0 → ∀ (w4 : Nat), tok t → False) ∧
    (¬ r2 = 0 → ∀ (w6 : Nat), tok t → w_J10_charAt (some (104, w6, t)) l1 S1 (fun r9 S8 =>
      narrow .char (.int r9) = .int r9 ∧ N r9 S8) X))) X
theorem ct_J2_charAt {l : Launch} {G : GT} (a : Nat) (t : List Int32) (l1 : Int32) (S : HS) (N : Int32 → HS → Prop) (X : Nat → HS → Prop) (h : w_J2_charAt a t l1 S N X) : Ct Eq l yJ2_charAt (ws_ yJ2_charAt cJ2_charAt 2 (some .char)) 4 G [vR (some (14, a, t)), vI l1] S (oI N X) := by
  refine Ct.ofY (cc := cJ2_charAt) (maxL := 2) (ret := (some .char)) [some (vR (some (14, a, t))), some (vI l1)] false (by decide +kernel) (fun h => by cases h) rfl rfl (Nat.le_of_ble_eq_true rfl) (fun I cx => ?_)
  unfold w_J2_charAt at h
  refine y_aload_n 0 cx dJ2_charAt_0 rfl rfl ?_
  refine y_callI (d := 3) [vR (some (14, a, t))] [] cx rfl rfl (fun l G => ct_J2_isLatin1 a t S _ _ h) (lw_meth q712) (by decide) (Or.inl q712) q80 (link_V cx (Or.inr (Or.inl ⟨Or.inl rfl, rfl⟩)) (Or.inl q709) q710 q711 q712 md_J2_isLatin1 rfl dJ2_charAt_1) (Nat.le_of_ble_eq_true rfl) (fun r2 S1 h => ?_) (fun a x' hx => hx)
  refine y_if_eq 16 cx dJ2_charAt_4 (by decide) (fun c3 => ?_) (fun c3 => ?_)
  · replace h := h.1 c3
    refine y_aload_n 0 cx dJ2_charAt_16 rfl rfl ?_
    refine y_strVal14 cx q593 dJ2_charAt_17 (fun w4 h5 => ?_)
    replace h := h w4 h5
    refine y_iload_n 1 cx dJ2_charAt_20 rfl rfl ?_
    exact False.elim h
  · replace h := h.2 c3
    refine y_aload_n 0 cx dJ2_charAt_7 rfl rfl ?_
    refine y_strVal14 cx q593 dJ2_charAt_8 (fun w6 h7 => ?_)
    replace h := h w6 h7
    refine y_iload_n 1 cx dJ2_charAt_11 rfl rfl ?_
    refine y_callI (d := 3) [vR (some (104, w6, t)), vI l1] [] cx rfl rfl (fun l G => ct_J10_charAt (some (104, w6, t)) l1 S1 _ _ h) (lw_meth q715) (by decide) (Or.inl q715) q95 (link_S cx (Or.inl q713) q714 q95 q715 md_J10_charAt rfl dJ2_charAt_12) (Nat.le_of_ble_eq_true rfl) (fun r9 S8 h => ?_) (fun a x' hx => hx)
    obtain ⟨h10, h⟩ := h
    exact y_zret cx h10 dJ2_charAt_15 h
theorem md_J2_charAt : yJ2_charAt.cls ≠ "java/lang/invoke/MethodHandle" ∧ yJ2_charAt.cls ≠ "java/lang/invoke/VarHandle" ∧ (parseMethodDescriptor yJ2_charAt.desc).map (fun d => d.parameters.length) = some 1 := by decide +kernel
/-! java/lang/StringLatin1.equals -/
theorem dJ10_equals_0 : decode cJ10_equals 0 = .ok (.aload_n 0, 1) := by decide +kernel
theorem dJ10_equals_1 : decode cJ10_equals 1 = .ok (.arraylength, 1) := by decide +kernel
theorem dJ10_equals_2 : decode cJ10_equals 2 = .ok (.aload_n 1, 1) := by decide +kernel
theorem dJ10_equals_3 : decode cJ10_equals 3 = .ok (.arraylength, 1) := by decide +kernel
theorem dJ10_equals_4 : decode cJ10_equals 4 = .ok (.if_icmp .ne 30, 3) := by decide +kernel
theorem dJ10_equals_7 : decode cJ10_equals 7 = .ok (.iconst 0, 1) := by decide +kernel
theorem dJ10_equals_8 : decode cJ10_equals 8 = .ok (.istore_n 2, 1) := by decide +kernel
theorem dJ10_equals_9 : decode cJ10_equals 9 = .ok (.iload_n 2, 1) := by decide +kernel
theorem dJ10_equals_10 : decode cJ10_equals 10 = .ok (.aload_n 0, 1) := by decide +kernel
theorem dJ10_equals_11 : decode cJ10_equals 11 = .ok (.arraylength, 1) := by decide +kernel
theorem dJ10_equals_12 : decode cJ10_equals 12 = .ok (.if_icmp .ge 20, 3) := by decide +kernel
theorem dJ10_equals_15 : decode cJ10_equals 15 = .ok (.aload_n 0, 1) := by decide +kernel
theorem dJ10_equals_16 : decode cJ10_equals 16 = .ok (.iload_n 2, 1) := by decide +kernel
theorem dJ10_equals_17 : decode cJ10_equals 17 = .ok (.baload, 1) := by decide +kernel
theorem dJ10_equals_18 : decode cJ10_equals 18 = .ok (.aload_n 1, 1) := by decide +kernel
theorem dJ10_equals_19 : decode cJ10_equals 19 = .ok (.iload_n 2, 1) := by decide +kernel
theorem dJ10_equals_20 : decode cJ10_equals 20 = .ok (.baload, 1) := by decide +kernel
theorem dJ10_equals_21 : decode cJ10_equals 21 = .ok (.if_icmp .eq 5, 3) := by decide +kernel
theorem dJ10_equals_24 : decode cJ10_equals 24 = .ok (.iconst 0, 1) := by decide +kernel
theorem dJ10_equals_25 : decode cJ10_equals 25 = .ok (.ireturn, 1) := by decide +kernel
theorem dJ10_equals_26 : decode cJ10_equals 26 = .ok (.iinc 2 1, 3) := by decide +kernel
theorem dJ10_equals_29 : decode cJ10_equals 29 = .ok (.goto (-20), 3) := by decide +kernel
theorem dJ10_equals_32 : decode cJ10_equals 32 = .ok (.iconst 1, 1) := by decide +kernel
theorem dJ10_equals_33 : decode cJ10_equals 33 = .ok (.ireturn, 1) := by decide +kernel
theorem dJ10_equals_34 : decode cJ10_equals 34 = .ok (.iconst 0, 1) := by decide +kernel
theorem dJ10_equals_35 : decode cJ10_equals 35 = .ok (.ireturn, 1) := by decide +kernel
def w_J10_equals_b9 (N : Int32 → HS → Prop) (X : Nat → HS → Prop) : Nat → Rf → Rf → Int32 → HS → Prop
  | 0 => fun _ _ _ _ => False
  | n + 1 => fun l0 l1 l2 S =>
    ∃ c4 a1 t3, l0 = some (c4, a1, t3) ∧ (c4 = 103 ∨ c4 = 104) ∧ (((nI t3.length) ≤ l2 → N (1 : Int32) S) ∧
     (¬ (nI t3.length) ≤ l2 → vp_in l2 t3.length ∧ ∃ c11 a8 t10, l1 = some (c11, a8, t10) ∧ (c11 = 103 ∨ c11 = 104) ∧ vp_in l2 t10.length ∧ (((t3.getD l2.toNatClampNeg 0) = (t10.getD l2.toNatClampNeg 0) → ∀ v15, v15 = l2 + 1 → (w_J10_equals_b9 N X n) (some (c4, a1, t3)) (some (c11, a8, t10)) v15 S) ∧
       (¬ (t3.getD l2.toNatClampNeg 0) = (t10.getD l2.toNatClampNeg 0) → N (0 : Int32) S))))
theorem y_J10_equals_b9 {I : Iv} {N : Int32 → HS → Prop} {X : Nat → HS → Prop} (cx : Cx I RJ10 cJ10_equals 3 (some .boolean) 1 [] false) : ∀ (n : Nat) (l0 : Rf) (l1 : Rf) (l2 : Int32) (S : HS), w_J10_equals_b9 N X n l0 l1 l2 S → Y Eq I (oI N X) 9 [some (vR l0), some (vR l1), some (vI l2)] [] S := by
  intro n
  induction n with
  | zero => intro l0 l1 l2 S h; exact False.elim h
  | succ n ih =>
    intro l0 l1 l2 S h
    unfold w_J10_equals_b9 at h
    refine y_iload_n 2 cx dJ10_equals_9 rfl rfl ?_
    refine y_aload_n 0 cx dJ10_equals_10 rfl rfl ?_
    obtain ⟨c4, a1, t3, e2, h5, h⟩ := h
    subst e2
    refine y_alenT cx dJ10_equals_11 h5 ?_
    refine y_icmp_ge 32 cx dJ10_equals_12 (by decide) (fun c6 => ?_) (fun c6 => ?_)
    · replace h := h.1 c6
      refine y_iconst (v := 1) cx dJ10_equals_32 (by decide) ?_
      exact y_zret cx rfl dJ10_equals_33 h
    · replace h := h.2 c6
      refine y_aload_n 0 cx dJ10_equals_15 rfl rfl ?_
      refine y_iload_n 2 cx dJ10_equals_16 rfl rfl ?_
      obtain ⟨h7, h⟩ := h
      refine y_baldT cx dJ10_equals_17 h5 h7 ?_
      refine y_aload_n 1 cx dJ10_equals_18 rfl rfl ?_
      refine y_iload_n 2 cx dJ10_equals_19 rfl rfl ?_
      obtain ⟨c11, a8, t10, e9, h12, h⟩ := h
      subst e9
      obtain ⟨h13, h⟩ := h
      refine y_baldT cx dJ10_equals_20 h12 h13 ?_
      refine y_icmp_eq 26 cx dJ10_equals_21 (by decide) (fun c14 => ?_) (fun c14 => ?_)
      · replace h := h.1 c14
        refine y_iincN (v := 1) 2 (fun v15 => [some (vR (some (c4, a1, t3))), some (vR (some (c11, a8, t10))), some (vI v15)]) cx dJ10_equals_26 rfl (by decide) trivial (fun _ => rfl) (fun v15 e16 => ?_)
        replace h := h v15 e16
        refine y_goto 9 cx dJ10_equals_29 (by decide) ?_
        exact ih (some (c4, a1, t3)) (some (c11, a8, t10)) v15 S h
      · replace h := h.2 c14
        refine y_iconst (v := 0) cx dJ10_equals_24 (by decide) ?_
        exact y_zret cx rfl dJ10_equals_25 h
def w_J10_equals (l0 : Rf) (l1 : Rf) (S : HS) (N : Int32 → HS → Prop) (X : Nat → HS → Prop) : Prop :=
  ∃ c20 a17 t19, l0 = some (c20, a17, t19) ∧ (c20 = 103 ∨ c20 = 104) ∧ ∃ c25 a22 t24, l1 = some (c25, a22, t24) ∧ (c25 = 103 ∨ c25 = 104) ∧ ((¬ (nI t19.length) = (nI t24.length) → N (0 : Int32) S) ∧
   ((nI t19.length) = (nI t24.length) → ∃ k28, w_J10_equals_b9 N X k28 (some (c20, a17, t19)) (some (c25, a22, t24)) (0 : Int32) S))
theorem ct_J10_equals {l : Launch} {G : GT} (l0 : Rf) (l1 : Rf) (S : HS) (N : Int32 → HS → Prop) (X : Nat → HS → Prop) (h : w_J10_equals l0 l1 S N X) : Ct Eq l yJ10_equals (ws_ yJ10_equals cJ10_equals 3 (some .boolean)) 1 G [vR l0, vR l1] S (oI N X) := by
  refine Ct.ofY (cc := cJ10_equals) (maxL := 3) (ret := (some .boolean)) [some (vR l0), some (vR l1), none] false (by decide +kernel) (fun h => by cases h) rfl rfl (Nat.le_of_ble_eq_true rfl) (fun I cx => ?_)
  unfold w_J10_equals at h
  refine y_aload_n 0 cx dJ10_equals_0 rfl rfl ?_
  obtain ⟨c20, a17, t19, e18, h21, h⟩ := h
  subst e18
  refine y_alenT cx dJ10_equals_1 h21 ?_
  refine y_aload_n 1 cx dJ10_equals_2 rfl rfl ?_
  obtain ⟨c25, a22, t24, e23, h26, h⟩ := h
  subst e23
  refine y_alenT cx dJ10_equals_3 h26 ?_
  refine y_icmp_ne 34 cx dJ10_equals_4 (by decide) (fun c27 => ?_) (fun c27 => ?_)
  · replace h := h.1 c27
    refine y_iconst (v := 0) cx dJ10_equals_34 (by decide) ?_
    exact y_zret cx rfl dJ10_equals_35 h
  · replace h := h.2 c27
    refine y_iconst (v := 0) cx dJ10_equals_7 (by decide) ?_
    refine y_istore_n 2 [some (vR (some (c20, a17, t19))), some (vR (some (c25, a22, t24))), some (vI (0 : Int32))] cx dJ10_equals_8 rfl (Nat.le_of_ble_eq_true rfl) trivial rfl ?_
    obtain ⟨k28, h⟩ := h
    exact y_J10_equals_b9 cx k28 (some (c20, a17, t19)) (some (c25, a22, t24)) (0 : Int32) S h
theorem md_J10_equals : yJ10_equals.cls ≠ "java/lang/invoke/MethodHandle" ∧ yJ10_equals.cls ≠ "java/lang/invoke/VarHandle" ∧ (parseMethodDescriptor yJ10_equals.desc).map (fun d => d.parameters.length) = some 2 := by decide +kernel
/-! java/lang/String.equals -/
theorem dJ2_equals_0 : decode cJ2_equals 0 = .ok (.aload_n 0, 1) := by decide +kernel
theorem dJ2_equals_1 : decode cJ2_equals 1 = .ok (.aload_n 1, 1) := by decide +kernel
theorem dJ2_equals_2 : decode cJ2_equals 2 = .ok (.if_acmp .ne 5, 3) := by decide +kernel
theorem dJ2_equals_5 : decode cJ2_equals 5 = .ok (.iconst 1, 1) := by decide +kernel
theorem dJ2_equals_6 : decode cJ2_equals 6 = .ok (.ireturn, 1) := by decide +kernel
theorem dJ2_equals_7 : decode cJ2_equals 7 = .ok (.aload_n 1, 1) := by decide +kernel
theorem dJ2_equals_8 : decode cJ2_equals 8 = .ok (.instanceof 10, 3) := by decide +kernel
theorem dJ2_equals_11 : decode cJ2_equals 11 = .ok (.ifCond .eq 43, 3) := by decide +kernel
theorem dJ2_equals_14 : decode cJ2_equals 14 = .ok (.aload_n 1, 1) := by decide +kernel
theorem dJ2_equals_15 : decode cJ2_equals 15 = .ok (.checkcast 10, 3) := by decide +kernel
theorem dJ2_equals_18 : decode cJ2_equals 18 = .ok (.astore_n 2, 1) := by decide +kernel
theorem dJ2_equals_19 : decode cJ2_equals 19 = .ok (.getstatic 38, 3) := by decide +kernel
theorem dJ2_equals_22 : decode cJ2_equals 22 = .ok (.ifCond .eq 14, 3) := by decide +kernel
theorem dJ2_equals_25 : decode cJ2_equals 25 = .ok (.aload_n 0, 1) := by decide +kernel
theorem dJ2_equals_26 : decode cJ2_equals 26 = .ok (.getfield 15, 3) := by decide +kernel
theorem dJ2_equals_29 : decode cJ2_equals 29 = .ok (.aload_n 2, 1) := by decide +kernel
theorem dJ2_equals_30 : decode cJ2_equals 30 = .ok (.getfield 15, 3) := by decide +kernel
theorem dJ2_equals_33 : decode cJ2_equals 33 = .ok (.if_icmp .ne 21, 3) := by decide +kernel
theorem dJ2_equals_36 : decode cJ2_equals 36 = .ok (.aload_n 0, 1) := by decide +kernel
theorem dJ2_equals_37 : decode cJ2_equals 37 = .ok (.getfield 9, 3) := by decide +kernel
theorem dJ2_equals_40 : decode cJ2_equals 40 = .ok (.aload_n 2, 1) := by decide +kernel
theorem dJ2_equals_41 : decode cJ2_equals 41 = .ok (.getfield 9, 3) := by decide +kernel
theorem dJ2_equals_44 : decode cJ2_equals 44 = .ok (.invokestatic 541, 3) := by decide +kernel
theorem dJ2_equals_47 : decode cJ2_equals 47 = .ok (.ifCond .eq 7, 3) := by decide +kernel
theorem dJ2_equals_50 : decode cJ2_equals 50 = .ok (.iconst 1, 1) := by decide +kernel
theorem dJ2_equals_51 : decode cJ2_equals 51 = .ok (.goto 4, 3) := by decide +kernel
theorem dJ2_equals_54 : decode cJ2_equals 54 = .ok (.iconst 0, 1) := by decide +kernel
theorem dJ2_equals_55 : decode cJ2_equals 55 = .ok (.ireturn, 1) := by decide +kernel
def w_J2_equals_b36 (a : Nat) (t : List Int32) (N : Int32 → HS → Prop) (X : Nat → HS → Prop) (l2 : Rf) (S : HS) : Prop :=
  ∀ (w1 : Nat), tok t → ∃ a3 t5, l2 = some (14, a3, t5) ∧ ∀ (w6 : Nat), tok t5 → w_J10_equals (some (104, w1, t)) (some (104, w6, t5)) S (fun r9 S8 =>
   ((r9 = 0 → N (0 : Int32) S8) ∧
    (¬ r9 = 0 → N (1 : Int32) S8))) X
theorem y_J2_equals_b36 {I : Iv} {a : Nat} {t : List Int32} {N : Int32 → HS → Prop} {X : Nat → HS → Prop} (cx : Cx I RJ2 cJ2_equals 3 (some .boolean) 2 [] false) (l2 : Rf) (S : HS) (h : w_J2_equals_b36 a t N X l2 S) : Y Eq I (oI N X) 36 [some (vR (some (14, a, t))), none, some (vR l2)] [] S := by
  unfold w_J2_equals_b36 at h
  refine y_aload_n 0 cx dJ2_equals_36 rfl rfl ?_
  refine y_strVal14 cx q593 dJ2_equals_37 (fun w1 h2 => ?_)
  replace h := h w1 h2
  refine y_aload_n 2 cx dJ2_equals_40 rfl rfl ?_
  obtain ⟨a3, t5, e4, h⟩ := h
  subst e4
  refine y_strVal14 cx q593 dJ2_equals_41 (fun w6 h7 => ?_)
  replace h := h w6 h7
  refine y_callI (d := 1) [vR (some (104, w1, t)), vR (some (104, w6, t5))] [] cx rfl rfl (fun l G => ct_J10_equals (some (104, w1, t)) (some (104, w6, t5)) S _ _ h) (lw_meth q763) (by decide) (Or.inl q763) q95 (link_S cx (Or.inl q761) q762 q95 q763 md_J10_equals rfl dJ2_equals_44) (Nat.le_of_ble_eq_true rfl) (fun r9 S8 h => ?_) (fun a x' hx => hx)
  refine y_if_eq 54 cx dJ2_equals_47 (by decide) (fun c10 => ?_) (fun c10 => ?_)
  · replace h := h.1 c10
    refine y_iconst (v := 0) cx dJ2_equals_54 (by decide) ?_
    exact y_zret cx rfl dJ2_equals_55 h
  · replace h := h.2 c10
    refine y_iconst (v := 1) cx dJ2_equals_50 (by decide) ?_
    refine y_goto 55 cx dJ2_equals_51 (by decide) ?_
    exact y_zret cx rfl dJ2_equals_55 h
def w_J2_equals (a : Nat) (t : List Int32) (l1 : Rf) (S : HS) (N : Int32 → HS → Prop) (X : Nat → HS → Prop) : Prop :=
  ∃ c14 a11 t13, l1 = some (c14, a11, t13) ∧ (c14 = 14 ∨ c14 = 16) ∧ ((¬ a = a11 → (((1 : Int32) = 0 → N (0 : Int32) S) ∧
     (¬ (1 : Int32) = 0 → (((1 : Int32) = 0 → w_J2_equals_b36 a t N X (some (c14, a11, t13)) S) ∧
       (¬ (1 : Int32) = 0 → ((¬ (0 : Int32) = (0 : Int32) → N (0 : Int32) S) ∧
         ((0 : Int32) = (0 : Int32) → w_J2_equals_b36 a t N X (some (c14, a11, t13)) S))))))) ∧
   (a = a11 → t = t13 → N (1 : Int32) S))
theorem ct_J2_equals {l : Launch} {G : GT} (a : Nat) (t : List Int32) (l1 : Rf) (S : HS) (N : Int32 → HS → Prop) (X : Nat → HS → Prop) (h : w_J2_equals a t l1 S N X) : Ct Eq l yJ2_equals (ws_ yJ2_equals cJ2_equals 3 (some .boolean)) 2 G [vR (some (14, a, t)), vR l1] S (oI N X) := by
  refine Ct.ofY (cc := cJ2_equals) (maxL := 3) (ret := (some .boolean)) [some (vR (some (14, a, t))), some (vR l1), none] false (by decide +kernel) (fun h => by cases h) rfl rfl (Nat.le_of_ble_eq_true rfl) (fun I cx => ?_)
  unfold w_J2_equals at h
  refine y_aload_n 0 cx dJ2_equals_0 rfl rfl ?_
  refine y_aload_n 1 cx dJ2_equals_1 rfl rfl ?_
  obtain ⟨c14, a11, t13, e12, h15, h⟩ := h
  subst e12
  refine y_acmp_ne 7 cx dJ2_equals_2 (by decide) (fun c16 => ?_) (fun c16 c17 => ?_)
  · replace h := h.1 c16
    refine y_aload_n 1 cx dJ2_equals_7 rfl rfl ?_
    refine y_instS cx q760 dJ2_equals_8 h15 ?_
    refine y_if_eq 54 cx dJ2_equals_11 (by decide) (fun c18 => ?_) (fun c18 => ?_)
    · replace h := h.1 c18
      refine y_iconst (v := 0) cx dJ2_equals_54 (by decide) ?_
      exact y_zret cx rfl dJ2_equals_55 h
    · replace h := h.2 c18
      refine y_aload_n 1 cx dJ2_equals_14 rfl rfl ?_
      refine y_castS cx q760 dJ2_equals_15 h15 ?_
      refine y_astore_n 2 [some (vR (some (14, a, t))), some (vR (some (c14, a11, t13))), some (vR (some (c14, a11, t13)))] cx dJ2_equals_18 rfl (Nat.le_of_ble_eq_true rfl) trivial rfl ?_
      refine y_compact cx q579 dJ2_equals_19 ?_
      refine y_if_eq 36 cx dJ2_equals_22 (by decide) (fun c19 => ?_) (fun c19 => ?_)
      · replace h := h.1 c19
        refine y_less [some (vR (some (14, a, t))), none, some (vR (some (c14, a11, t13)))] ⟨rfl, ⟨rfl, trivial⟩⟩ ?_
        exact y_J2_equals_b36 cx (some (c14, a11, t13)) S h
      · replace h := h.2 c19
        refine y_aload_n 0 cx dJ2_equals_25 rfl rfl ?_
        refine y_strCoder cx q594 dJ2_equals_26 (Or.inl rfl) ?_
        refine y_aload_n 2 cx dJ2_equals_29 rfl rfl ?_
        refine y_strCoder cx q594 dJ2_equals_30 h15 ?_
        refine y_icmp_ne 54 cx dJ2_equals_33 (by decide) (fun c20 => ?_) (fun c20 => ?_)
        · replace h := h.1 c20
          refine y_iconst (v := 0) cx dJ2_equals_54 (by decide) ?_
          exact y_zret cx rfl dJ2_equals_55 h
        · replace h := h.2 c20
          refine y_less [some (vR (some (14, a, t))), none, some (vR (some (c14, a11, t13)))] ⟨rfl, ⟨rfl, trivial⟩⟩ ?_
          exact y_J2_equals_b36 cx (some (c14, a11, t13)) S h
  · replace h := h.2 c16 c17
    refine y_iconst (v := 1) cx dJ2_equals_5 (by decide) ?_
    exact y_zret cx rfl dJ2_equals_6 h
theorem md_J2_equals : yJ2_equals.cls ≠ "java/lang/invoke/MethodHandle" ∧ yJ2_equals.cls ≠ "java/lang/invoke/VarHandle" ∧ (parseMethodDescriptor yJ2_equals.desc).map (fun d => d.parameters.length) = some 1 := by decide +kernel
/-! jdk/internal/util/ArraysSupport.signedHashCode -/
theorem dJ7_signedHashCode_0 : decode cJ7_signedHashCode 0 = .ok (.iload_n 2, 1) := by decide +kernel
theorem dJ7_signedHashCode_1 : decode cJ7_signedHashCode 1 = .ok (.iload_n 3, 1) := by decide +kernel
theorem dJ7_signedHashCode_2 : decode cJ7_signedHashCode 2 = .ok (.iadd, 1) := by decide +kernel
theorem dJ7_signedHashCode_3 : decode cJ7_signedHashCode 3 = .ok (.istore 4, 2) := by decide +kernel
theorem dJ7_signedHashCode_5 : decode cJ7_signedHashCode 5 = .ok (.iload_n 2, 1) := by decide +kernel
theorem dJ7_signedHashCode_6 : decode cJ7_signedHashCode 6 = .ok (.istore 5, 2) := by decide +kernel
theorem dJ7_signedHashCode_8 : decode cJ7_signedHashCode 8 = .ok (.iload 5, 2) := by decide +kernel
theorem dJ7_signedHashCode_10 : decode cJ7_signedHashCode 10 = .ok (.iload 4, 2) := by decide +kernel
theorem dJ7_signedHashCode_12 : decode cJ7_signedHashCode 12 = .ok (.if_icmp .ge 23, 3) := by decide +kernel
theorem dJ7_signedHashCode_15 : decode cJ7_signedHashCode 15 = .ok (.bipush 31, 2) := by decide +kernel
theorem dJ7_signedHashCode_17 : decode cJ7_signedHashCode 17 = .ok (.iload_n 0, 1) := by decide +kernel
theorem dJ7_signedHashCode_18 : decode cJ7_signedHashCode 18 = .ok (.imul, 1) := by decide +kernel
theorem dJ7_signedHashCode_19 : decode cJ7_signedHashCode 19 = .ok (.aload_n 1, 1) := by decide +kernel
theorem dJ7_signedHashCode_20 : decode cJ7_signedHashCode 20 = .ok (.iload 5, 2) := by decide +kernel
theorem dJ7_signedHashCode_22 : decode cJ7_signedHashCode 22 = .ok (.baload, 1) := by decide +kernel
theorem dJ7_signedHashCode_23 : decode cJ7_signedHashCode 23 = .ok (.sipush 255, 3) := by decide +kernel
theorem dJ7_signedHashCode_26 : decode cJ7_signedHashCode 26 = .ok (.iand, 1) := by decide +kernel
theorem dJ7_signedHashCode_27 : decode cJ7_signedHashCode 27 = .ok (.iadd, 1) := by decide +kernel
theorem dJ7_signedHashCode_28 : decode cJ7_signedHashCode 28 = .ok (.istore_n 0, 1) := by decide +kernel
theorem dJ7_signedHashCode_29 : decode cJ7_signedHashCode 29 = .ok (.iinc 5 1, 3) := by decide +kernel
theorem dJ7_signedHashCode_32 : decode cJ7_signedHashCode 32 = .ok (.goto (-24), 3) := by decide +kernel
theorem dJ7_signedHashCode_35 : decode cJ7_signedHashCode 35 = .ok (.iload_n 0, 1) := by decide +kernel
theorem dJ7_signedHashCode_36 : decode cJ7_signedHashCode 36 = .ok (.ireturn, 1) := by decide +kernel
def w_J7_signedHashCode_b8 (N : Int32 → HS → Prop) (X : Nat → HS → Prop) : Nat → Int32 → Rf → Int32 → Int32 → HS → Prop
  | 0 => fun _ _ _ _ _ => False
  | n + 1 => fun l0 l1 l4 l5 S =>
    ((l4 ≤ l5 → N l0 S) ∧
     (¬ l4 ≤ l5 → ∃ a2 t4, l1 = some (104, a2, t4) ∧ vp_in l5 t4.length ∧ ∀ v6, v6 = (((31 : Int32) * l0) + ((t4.getD l5.toNatClampNeg 0) &&& (255 : Int32))) → ∀ v8, v8 = l5 + 1 → (w_J7_signedHashCode_b8 N X n) v6 (some (104, a2, t4)) l4 v8 S))
theorem y_J7_signedHashCode_b8 {I : Iv} {N : Int32 → HS → Prop} {X : Nat → HS → Prop} (cx : Cx I RJ7 cJ7_signedHashCode 6 (some .int) 1 [] false) : ∀ (n : Nat) (l0 : Int32) (l1 : Rf) (l4 : Int32) (l5 : Int32) (S : HS), w_J7_signedHashCode_b8 N X n l0 l1 l4 l5 S → Y Eq I (oI N X) 8 [some (vI l0), some (vR l1), none, none, some (vI l4), some (vI l5)] [] S := by
  intro n
  induction n with
  | zero => intro l0 l1 l4 l5 S h; exact False.elim h
  | succ n ih =>
    intro l0 l1 l4 l5 S h
    unfold w_J7_signedHashCode_b8 at h
    refine y_iload 5 cx dJ7_signedHashCode_8 rfl ?_
    refine y_iload 4 cx dJ7_signedHashCode_10 rfl ?_
    refine y_icmp_ge 35 cx dJ7_signedHashCode_12 (by decide) (fun c1 => ?_) (fun c1 => ?_)
    · replace h := h.1 c1
      refine y_iload_n 0 cx dJ7_signedHashCode_35 rfl rfl ?_
      exact y_iret cx dJ7_signedHashCode_36 h
    · replace h := h.2 c1
      refine y_bipush (v := 31) cx dJ7_signedHashCode_15 (by decide) ?_
      refine y_iload_n 0 cx dJ7_signedHashCode_17 rfl rfl ?_
      refine y_imul cx dJ7_signedHashCode_18 ?_
      refine y_aload_n 1 cx dJ7_signedHashCode_19 rfl rfl ?_
      refine y_iload 5 cx dJ7_signedHashCode_20 rfl ?_
      obtain ⟨a2, t4, e3, h⟩ := h
      subst e3
      obtain ⟨h5, h⟩ := h
      refine y_baldT cx dJ7_signedHashCode_22 (Or.inr rfl) h5 ?_
      refine y_sipush (v := 255) cx dJ7_signedHashCode_23 (by decide) ?_
      refine y_iand cx dJ7_signedHashCode_26 ?_
      refine y_iadd cx dJ7_signedHashCode_27 ?_
      refine y_nmI (fun v6 e7 => ?_)
      replace h := h v6 e7
      refine y_istore_n 0 [some (vI v6), some (vR (some (104, a2, t4))), none, none, some (vI l4), some (vI l5)] cx dJ7_signedHashCode_28 rfl (Nat.le_of_ble_eq_true rfl) trivial rfl ?_
      refine y_iincN (v := 1) 5 (fun v8 => [some (vI v6), some (vR (some (104, a2, t4))), none, none, some (vI l4), some (vI v8)]) cx dJ7_signedHashCode_29 rfl (by decide) trivial (fun _ => rfl) (fun v8 e9 => ?_)
      replace h := h v8 e9
      refine y_goto 8 cx dJ7_signedHashCode_32 (by decide) ?_
      exact ih v6 (some (104, a2, t4)) l4 v8 S h
def w_J7_signedHashCode (l0 : Int32) (l1 : Rf) (l2 : Int32) (l3 : Int32) (S : HS) (N : Int32 → HS → Prop) (X : Nat → HS → Prop) : Prop :=
  ∀ v10, v10 = (l2 + l3) → ∃ k12, w_J7_signedHashCode_b8 N X k12 l0 l1 v10 l2 S
theorem ct_J7_signedHashCode {l : Launch} {G : GT} (l0 : Int32) (l1 : Rf) (l2 : Int32) (l3 : Int32) (S : HS) (N : Int32 → HS → Prop) (X : Nat → HS → Prop) (h : w_J7_signedHashCode l0 l1 l2 l3 S N X) : Ct Eq l yJ7_signedHashCode (ws_ yJ7_signedHashCode cJ7_signedHashCode 6 (some .int)) 1 G [vI l0, vR l1, vI l2, vI l3] S (oI N X) := by
  refine Ct.ofY (cc := cJ7_signedHashCode) (maxL := 6) (ret := (some .int)) [some (vI l0), some (vR l1), some (vI l2), some (vI l3), none, none] false (by decide +kernel) (fun h => by cases h) rfl rfl (Nat.le_of_ble_eq_true rfl) (fun I cx => ?_)
  unfold w_J7_signedHashCode at h
  refine y_iload_n 2 cx dJ7_signedHashCode_0 rfl rfl ?_
  refine y_iload_n 3 cx dJ7_signedHashCode_1 rfl rfl ?_
  refine y_iadd cx dJ7_signedHashCode_2 ?_
  refine y_nmI (fun v10 e11 => ?_)
  replace h := h v10 e11
  refine y_istore 4 [some (vI l0), some (vR l1), some (vI l2), some (vI l3), some (vI v10), none] cx dJ7_signedHashCode_3 (Nat.le_of_ble_eq_true rfl) trivial rfl ?_
  refine y_iload_n 2 cx dJ7_signedHashCode_5 rfl rfl ?_
  refine y_istore 5 [some (vI l0), some (vR l1), some (vI l2), some (vI l3), some (vI v10), some (vI l2)] cx dJ7_signedHashCode_6 (Nat.le_of_ble_eq_true rfl) trivial rfl ?_
  refine y_less [some (vI l0), some (vR l1), none, none, some (vI v10), some (vI l2)] ⟨rfl, ⟨rfl, ⟨rfl, ⟨rfl, trivial⟩⟩⟩⟩ ?_
  obtain ⟨k12, h⟩ := h
  exact y_J7_signedHashCode_b8 cx k12 l0 l1 v10 l2 S h
theorem md_J7_signedHashCode : yJ7_signedHashCode.cls ≠ "java/lang/invoke/MethodHandle" ∧ yJ7_signedHashCode.cls ≠ "java/lang/invoke/VarHandle" ∧ (parseMethodDescriptor yJ7_signedHashCode.desc).map (fun d => d.parameters.length) = some 4 := by decide +kernel
/-! jdk/internal/util/ArraysSupport.vectorizedHashCode -/
theorem dJ7_vectorizedHashCode_0 : decode cJ7_vectorizedHashCode 0 = .ok (.iload 4, 2) := by decide +kernel
theorem dJ7_vectorizedHashCode_2 : decode cJ7_vectorizedHashCode 2 = .ok (.tableswitch 127 4 10 #[42, 55, 127, 127, 88, 101, 114], 42) := by decide +kernel
theorem dJ7_vectorizedHashCode_44 : decode cJ7_vectorizedHashCode 44 = .ok (.iload_n 3, 1) := by decide +kernel
theorem dJ7_vectorizedHashCode_45 : decode cJ7_vectorizedHashCode 45 = .ok (.aload_n 0, 1) := by decide +kernel
theorem dJ7_vectorizedHashCode_46 : decode cJ7_vectorizedHashCode 46 = .ok (.checkcast 60, 3) := by decide +kernel
theorem dJ7_vectorizedHashCode_49 : decode cJ7_vectorizedHashCode 49 = .ok (.iload_n 1, 1) := by decide +kernel
theorem dJ7_vectorizedHashCode_50 : decode cJ7_vectorizedHashCode 50 = .ok (.iload_n 2, 1) := by decide +kernel
theorem dJ7_vectorizedHashCode_51 : decode cJ7_vectorizedHashCode 51 = .ok (.invokestatic 62, 3) := by decide +kernel
theorem dJ7_vectorizedHashCode_54 : decode cJ7_vectorizedHashCode 54 = .ok (.goto 103, 3) := by decide +kernel
theorem dJ7_vectorizedHashCode_57 : decode cJ7_vectorizedHashCode 57 = .ok (.aload_n 0, 1) := by decide +kernel
theorem dJ7_vectorizedHashCode_58 : decode cJ7_vectorizedHashCode 58 = .ok (.instanceof 60, 3) := by decide +kernel
theorem dJ7_vectorizedHashCode_90 : decode cJ7_vectorizedHashCode 90 = .ok (.iload_n 3, 1) := by decide +kernel
theorem dJ7_vectorizedHashCode_91 : decode cJ7_vectorizedHashCode 91 = .ok (.aload_n 0, 1) := by decide +kernel
theorem dJ7_vectorizedHashCode_92 : decode cJ7_vectorizedHashCode 92 = .ok (.checkcast 60, 3) := by decide +kernel
theorem dJ7_vectorizedHashCode_95 : decode cJ7_vectorizedHashCode 95 = .ok (.iload_n 1, 1) := by decide +kernel
theorem dJ7_vectorizedHashCode_96 : decode cJ7_vectorizedHashCode 96 = .ok (.iload_n 2, 1) := by decide +kernel
theorem dJ7_vectorizedHashCode_97 : decode cJ7_vectorizedHashCode 97 = .ok (.invokestatic 75, 3) := by decide +kernel
theorem dJ7_vectorizedHashCode_103 : decode cJ7_vectorizedHashCode 103 = .ok (.iload_n 3, 1) := by decide +kernel
theorem dJ7_vectorizedHashCode_104 : decode cJ7_vectorizedHashCode 104 = .ok (.aload_n 0, 1) := by decide +kernel
theorem dJ7_vectorizedHashCode_105 : decode cJ7_vectorizedHashCode 105 = .ok (.checkcast 77, 3) := by decide +kernel
theorem dJ7_vectorizedHashCode_116 : decode cJ7_vectorizedHashCode 116 = .ok (.iload_n 3, 1) := by decide +kernel
theorem dJ7_vectorizedHashCode_117 : decode cJ7_vectorizedHashCode 117 = .ok (.aload_n 0, 1) := by decide +kernel
theorem dJ7_vectorizedHashCode_118 : decode cJ7_vectorizedHashCode 118 = .ok (.checkcast 82, 3) := by decide +kernel
theorem dJ7_vectorizedHashCode_129 : decode cJ7_vectorizedHashCode 129 = .ok (.new 87, 3) := by decide +kernel
theorem dJ7_vectorizedHashCode_157 : decode cJ7_vectorizedHashCode 157 = .ok (.ireturn, 1) := by decide +kernel
def w_J7_vectorizedHashCode_b129 (N : Int32 → HS → Prop) (X : Nat → HS → Prop) (S : HS) : Prop :=
  False
theorem y_J7_vectorizedHashCode_b129 {I : Iv} {N : Int32 → HS → Prop} {X : Nat → HS → Prop} (cx : Cx I RJ7 cJ7_vectorizedHashCode 5 (some .int) 2 [] false) (S : HS) (h : w_J7_vectorizedHashCode_b129 N X S) : Y Eq I (oI N X) 129 [none, none, none, none, none] [] S := by
  unfold w_J7_vectorizedHashCode_b129 at h
  exact False.elim h
def w_J7_vectorizedHashCode (l0 : Rf) (l1 : Int32) (l2 : Int32) (l3 : Int32) (l4 : Int32) (S : HS) (N : Int32 → HS → Prop) (X : Nat → HS → Prop) : Prop :=
  ((l4 = 4 → ∃ a1 t3, l0 = some (104, a1, t3) ∧ w_J7_signedHashCode l3 (some (104, a1, t3)) l1 l2 S (fun r5 S4 =>
     N r5 S4) X) ∧
   (¬ l4 = 4 → ((l4 = 5 → False) ∧
     (¬ l4 = 5 → ((l4 = 6 → w_J7_vectorizedHashCode_b129 N X S) ∧
       (¬ l4 = 6 → ((l4 = 7 → w_J7_vectorizedHashCode_b129 N X S) ∧
         (¬ l4 = 7 → ((l4 = 8 → ∃ a6 t8, l0 = some (104, a6, t8) ∧ False) ∧
           (¬ l4 = 8 → ((l4 = 9 → False) ∧
             (¬ l4 = 9 → ((l4 = 10 → False) ∧
               (¬ l4 = 10 → w_J7_vectorizedHashCode_b129 N X S))))))))))))))
theorem ct_J7_vectorizedHashCode {l : Launch} {G : GT} (l0 : Rf) (l1 : Int32) (l2 : Int32) (l3 : Int32) (l4 : Int32) (S : HS) (N : Int32 → HS → Prop) (X : Nat → HS → Prop) (h : w_J7_vectorizedHashCode l0 l1 l2 l3 l4 S N X) : Ct Eq l yJ7_vectorizedHashCode (ws_ yJ7_vectorizedHashCode cJ7_vectorizedHashCode 5 (some .int)) 2 G [vR l0, vI l1, vI l2, vI l3, vI l4] S (oI N X) := by
  refine Ct.ofY (cc := cJ7_vectorizedHashCode) (maxL := 5) (ret := (some .int)) [some (vR l0), some (vI l1), some (vI l2), some (vI l3), some (vI l4)] false (by decide +kernel) (fun h => by cases h) rfl rfl (Nat.le_of_ble_eq_true rfl) (fun I cx => ?_)
  unfold w_J7_vectorizedHashCode at h
  refine y_iload 4 cx dJ7_vectorizedHashCode_0 rfl ?_
  refine y_tsw [(4, 44), (5, 57), (6, 129), (7, 129), (8, 90), (9, 103), (10, 116)] 129 cx dJ7_vectorizedHashCode_2 (by decide) (by decide) (by decide) ⟨fun c9_0 => ?_, fun c9n_0 => ⟨fun c9_1 => ?_, fun c9n_1 => ⟨fun c9_2 => ?_, fun c9n_2 => ⟨fun c9_3 => ?_, fun c9n_3 => ⟨fun c9_4 => ?_, fun c9n_4 => ⟨fun c9_5 => ?_, fun c9n_5 => ⟨fun c9_6 => ?_, fun c9n_6 => ?_⟩⟩⟩⟩⟩⟩⟩
  · replace h := (h).1 c9_0
    refine y_iload_n 3 cx dJ7_vectorizedHashCode_44 rfl rfl ?_
    refine y_aload_n 0 cx dJ7_vectorizedHashCode_45 rfl rfl ?_
    obtain ⟨a1, t3, e2, h⟩ := h
    subst e2
    refine y_castB cx q938 dJ7_vectorizedHashCode_46 ?_
    refine y_iload_n 1 cx dJ7_vectorizedHashCode_49 rfl rfl ?_
    refine y_iload_n 2 cx dJ7_vectorizedHashCode_50 rfl rfl ?_
    refine y_callI (d := 1) [vI l3, vR (some (104, a1, t3)), vI l1, vI l2] [] cx rfl rfl (fun l G => ct_J7_signedHashCode l3 (some (104, a1, t3)) l1 l2 S _ _ h) (lw_meth q941) (by decide) (Or.inl q941) q91 (link_S cx (Or.inl q939) q940 q91 q941 md_J7_signedHashCode rfl dJ7_vectorizedHashCode_51) (Nat.le_of_ble_eq_true rfl) (fun r5 S4 h => ?_) (fun a x' hx => hx)
    refine y_goto 157 cx dJ7_vectorizedHashCode_54 (by decide) ?_
    exact y_iret cx dJ7_vectorizedHashCode_157 h
  · replace h := ((h).2 c9n_0).1 c9_1
    refine y_aload_n 0 cx dJ7_vectorizedHashCode_57 rfl rfl ?_
    exact False.elim h
  · replace h := (((h).2 c9n_0).2 c9n_1).1 c9_2
    refine y_less [none, none, none, none, none] trivial ?_
    exact y_J7_vectorizedHashCode_b129 cx S h
  · replace h := ((((h).2 c9n_0).2 c9n_1).2 c9n_2).1 c9_3
    refine y_less [none, none, none, none, none] trivial ?_
    exact y_J7_vectorizedHashCode_b129 cx S h
  · replace h := (((((h).2 c9n_0).2 c9n_1).2 c9n_2).2 c9n_3).1 c9_4
    refine y_iload_n 3 cx dJ7_vectorizedHashCode_90 rfl rfl ?_
    refine y_aload_n 0 cx dJ7_vectorizedHashCode_91 rfl rfl ?_
    obtain ⟨a6, t8, e7, h⟩ := h
    subst e7
    refine y_castB cx q938 dJ7_vectorizedHashCode_92 ?_
    refine y_iload_n 1 cx dJ7_vectorizedHashCode_95 rfl rfl ?_
    refine y_iload_n 2 cx dJ7_vectorizedHashCode_96 rfl rfl ?_
    exact False.elim h
  · replace h := ((((((h).2 c9n_0).2 c9n_1).2 c9n_2).2 c9n_3).2 c9n_4).1 c9_5
    refine y_iload_n 3 cx dJ7_vectorizedHashCode_103 rfl rfl ?_
    refine y_aload_n 0 cx dJ7_vectorizedHashCode_104 rfl rfl ?_
    exact False.elim h
  · replace h := (((((((h).2 c9n_0).2 c9n_1).2 c9n_2).2 c9n_3).2 c9n_4).2 c9n_5).1 c9_6
    refine y_iload_n 3 cx dJ7_vectorizedHashCode_116 rfl rfl ?_
    refine y_aload_n 0 cx dJ7_vectorizedHashCode_117 rfl rfl ?_
    exact False.elim h
  · replace h := (((((((h).2 c9n_0).2 c9n_1).2 c9n_2).2 c9n_3).2 c9n_4).2 c9n_5).2 c9n_6
    refine y_less [none, none, none, none, none] trivial ?_
    exact y_J7_vectorizedHashCode_b129 cx S h
theorem md_J7_vectorizedHashCode : yJ7_vectorizedHashCode.cls ≠ "java/lang/invoke/MethodHandle" ∧ yJ7_vectorizedHashCode.cls ≠ "java/lang/invoke/VarHandle" ∧ (parseMethodDescriptor yJ7_vectorizedHashCode.desc).map (fun d => d.parameters.length) = some 5 := by decide +kernel
/-! java/lang/StringLatin1.hashCode -/
theorem dJ10_hashCode_0 : decode cJ10_hashCode 0 = .ok (.aload_n 0, 1) := by decide +kernel
theorem dJ10_hashCode_1 : decode cJ10_hashCode 1 = .ok (.arraylength, 1) := by decide +kernel
theorem dJ10_hashCode_2 : decode cJ10_hashCode 2 = .ok (.lookupswitch 40 #[(0, 26), (1, 30)], 26) := by decide +kernel
theorem dJ10_hashCode_28 : decode cJ10_hashCode 28 = .ok (.iconst 0, 1) := by decide +kernel
theorem dJ10_hashCode_29 : decode cJ10_hashCode 29 = .ok (.goto 22, 3) := by decide +kernel
theorem dJ10_hashCode_32 : decode cJ10_hashCode 32 = .ok (.aload_n 0, 1) := by decide +kernel
theorem dJ10_hashCode_33 : decode cJ10_hashCode 33 = .ok (.iconst 0, 1) := by decide +kernel
theorem dJ10_hashCode_34 : decode cJ10_hashCode 34 = .ok (.baload, 1) := by decide +kernel
theorem dJ10_hashCode_35 : decode cJ10_hashCode 35 = .ok (.sipush 255, 3) := by decide +kernel
theorem dJ10_hashCode_38 : decode cJ10_hashCode 38 = .ok (.iand, 1) := by decide +kernel
theorem dJ10_hashCode_39 : decode cJ10_hashCode 39 = .ok (.goto 12, 3) := by decide +kernel
theorem dJ10_hashCode_42 : decode cJ10_hashCode 42 = .ok (.aload_n 0, 1) := by decide +kernel
theorem dJ10_hashCode_43 : decode cJ10_hashCode 43 = .ok (.iconst 0, 1) := by decide +kernel
theorem dJ10_hashCode_44 : decode cJ10_hashCode 44 = .ok (.aload_n 0, 1) := by decide +kernel
theorem dJ10_hashCode_45 : decode cJ10_hashCode 45 = .ok (.arraylength, 1) := by decide +kernel
theorem dJ10_hashCode_46 : decode cJ10_hashCode 46 = .ok (.iconst 0, 1) := by decide +kernel
theorem dJ10_hashCode_47 : decode cJ10_hashCode 47 = .ok (.iconst 4, 1) := by decide +kernel
theorem dJ10_hashCode_48 : decode cJ10_hashCode 48 = .ok (.invokestatic 84, 3) := by decide +kernel
theorem dJ10_hashCode_51 : decode cJ10_hashCode 51 = .ok (.ireturn, 1) := by decide +kernel
def w_J10_hashCode (l0 : Rf) (S : HS) (N : Int32 → HS → Prop) (X : Nat → HS → Prop) : Prop :=
  ∃ a1 t3, l0 = some (104, a1, t3) ∧ (((nI t3.length) = 0 → N (0 : Int32) S) ∧
   (¬ (nI t3.length) = 0 → (((nI t3.length) = 1 → vp_in (0 : Int32) t3.length ∧ N ((t3.getD (0 : Int32).toNatClampNeg 0) &&& (255 : Int32)) S) ∧
     (¬ (nI t3.length) = 1 → w_J7_vectorizedHashCode (some (104, a1, t3)) (0 : Int32) (nI t3.length) (0 : Int32) (4 : Int32) S (fun r6 S5 =>
       N r6 S5) X))))
theorem ct_J10_hashCode {l : Launch} {G : GT} (l0 : Rf) (S : HS) (N : Int32 → HS → Prop) (X : Nat → HS → Prop) (h : w_J10_hashCode l0 S N X) : Ct Eq l yJ10_hashCode (ws_ yJ10_hashCode cJ10_hashCode 1 (some .int)) 3 G [vR l0] S (oI N X) := by
  refine Ct.ofY (cc := cJ10_hashCode) (maxL := 1) (ret := (some .int)) [some (vR l0)] false (by decide +kernel) (fun h => by cases h) rfl rfl (Nat.le_of_ble_eq_true rfl) (fun I cx => ?_)
  unfold w_J10_hashCode at h
  refine y_aload_n 0 cx dJ10_hashCode_0 rfl rfl ?_
  obtain ⟨a1, t3, e2, h⟩ := h
  subst e2
  refine y_alenT cx dJ10_hashCode_1 (Or.inr rfl) ?_
  refine y_lsw [(0, 28), (1, 32)] 42 cx dJ10_hashCode_2 (by decide) (by decide) (by decide) ⟨fun c7_0 => ?_, fun c7n_0 => ⟨fun c7_1 => ?_, fun c7n_1 => ?_⟩⟩
  · replace h := (h).1 c7_0
    refine y_iconst (v := 0) cx dJ10_hashCode_28 (by decide) ?_
    refine y_goto 51 cx dJ10_hashCode_29 (by decide) ?_
    exact y_iret cx dJ10_hashCode_51 h
  · replace h := ((h).2 c7n_0).1 c7_1
    refine y_aload_n 0 cx dJ10_hashCode_32 rfl rfl ?_
    refine y_iconst (v := 0) cx dJ10_hashCode_33 (by decide) ?_
    obtain ⟨h4, h⟩ := h
    refine y_baldT cx dJ10_hashCode_34 (Or.inr rfl) h4 ?_
    refine y_sipush (v := 255) cx dJ10_hashCode_35 (by decide) ?_
    refine y_iand cx dJ10_hashCode_38 ?_
    refine y_goto 51 cx dJ10_hashCode_39 (by decide) ?_
    exact y_iret cx dJ10_hashCode_51 h
  · replace h := ((h).2 c7n_0).2 c7n_1
    refine y_aload_n 0 cx dJ10_hashCode_42 rfl rfl ?_
    refine y_iconst (v := 0) cx dJ10_hashCode_43 (by decide) ?_
    refine y_aload_n 0 cx dJ10_hashCode_44 rfl rfl ?_
    refine y_alenT cx dJ10_hashCode_45 (Or.inr rfl) ?_
    refine y_iconst (v := 0) cx dJ10_hashCode_46 (by decide) ?_
    refine y_iconst (v := 4) cx dJ10_hashCode_47 (by decide) ?_
    refine y_callI (d := 2) [vR (some (104, a1, t3)), vI (0 : Int32), vI (nI t3.length), vI (0 : Int32), vI (4 : Int32)] [] cx rfl rfl (fun l G => ct_J7_vectorizedHashCode (some (104, a1, t3)) (0 : Int32) (nI t3.length) (0 : Int32) (4 : Int32) S _ _ h) (lw_meth q937) (by decide) (Or.inl q937) q91 (link_S cx (Or.inl q935) q936 q91 q937 md_J7_vectorizedHashCode rfl dJ10_hashCode_48) (Nat.le_of_ble_eq_true rfl) (fun r6 S5 h => ?_) (fun a x' hx => hx)
    exact y_iret cx dJ10_hashCode_51 h
theorem md_J10_hashCode : yJ10_hashCode.cls ≠ "java/lang/invoke/MethodHandle" ∧ yJ10_hashCode.cls ≠ "java/lang/invoke/VarHandle" ∧ (parseMethodDescriptor yJ10_hashCode.desc).map (fun d => d.parameters.length) = some 1 := by decide +kernel
/-! java/lang/String.hashCode -/
theorem dJ2_hashCode_0 : decode cJ2_hashCode 0 = .ok (.aload_n 0, 1) := by decide +kernel
theorem dJ2_hashCode_1 : decode cJ2_hashCode 1 = .ok (.getfield 19, 3) := by decide +kernel
theorem dJ2_hashCode_4 : decode cJ2_hashCode 4 = .ok (.istore_n 1, 1) := by decide +kernel
theorem dJ2_hashCode_5 : decode cJ2_hashCode 5 = .ok (.iload_n 1, 1) := by decide +kernel
theorem dJ2_hashCode_6 : decode cJ2_hashCode 6 = .ok (.ifCond .ne 52, 3) := by decide +kernel
theorem dJ2_hashCode_9 : decode cJ2_hashCode 9 = .ok (.aload_n 0, 1) := by decide +kernel
theorem dJ2_hashCode_10 : decode cJ2_hashCode 10 = .ok (.getfield 23, 3) := by decide +kernel
theorem dJ2_hashCode_13 : decode cJ2_hashCode 13 = .ok (.ifCond .ne 45, 3) := by decide +kernel
theorem dJ2_hashCode_16 : decode cJ2_hashCode 16 = .ok (.aload_n 0, 1) := by decide +kernel
theorem dJ2_hashCode_17 : decode cJ2_hashCode 17 = .ok (.invokevirtual 492, 3) := by decide +kernel
theorem dJ2_hashCode_20 : decode cJ2_hashCode 20 = .ok (.ifCond .eq 13, 3) := by decide +kernel
theorem dJ2_hashCode_23 : decode cJ2_hashCode 23 = .ok (.aload_n 0, 1) := by decide +kernel
theorem dJ2_hashCode_24 : decode cJ2_hashCode 24 = .ok (.getfield 9, 3) := by decide +kernel
theorem dJ2_hashCode_27 : decode cJ2_hashCode 27 = .ok (.invokestatic 628, 3) := by decide +kernel
theorem dJ2_hashCode_30 : decode cJ2_hashCode 30 = .ok (.goto 10, 3) := by decide +kernel
theorem dJ2_hashCode_33 : decode cJ2_hashCode 33 = .ok (.aload_n 0, 1) := by decide +kernel
theorem dJ2_hashCode_34 : decode cJ2_hashCode 34 = .ok (.getfield 9, 3) := by decide +kernel
theorem dJ2_hashCode_37 : decode cJ2_hashCode 37 = .ok (.invokestatic 632, 3) := by decide +kernel
theorem dJ2_hashCode_40 : decode cJ2_hashCode 40 = .ok (.istore_n 1, 1) := by decide +kernel
theorem dJ2_hashCode_41 : decode cJ2_hashCode 41 = .ok (.iload_n 1, 1) := by decide +kernel
theorem dJ2_hashCode_42 : decode cJ2_hashCode 42 = .ok (.ifCond .ne 11, 3) := by decide +kernel
theorem dJ2_hashCode_45 : decode cJ2_hashCode 45 = .ok (.aload_n 0, 1) := by decide +kernel
theorem dJ2_hashCode_46 : decode cJ2_hashCode 46 = .ok (.iconst 1, 1) := by decide +kernel
theorem dJ2_hashCode_47 : decode cJ2_hashCode 47 = .ok (.putfield 23, 3) := by decide +kernel
theorem dJ2_hashCode_50 : decode cJ2_hashCode 50 = .ok (.goto 8, 3) := by decide +kernel
theorem dJ2_hashCode_53 : decode cJ2_hashCode 53 = .ok (.aload_n 0, 1) := by decide +kernel
theorem dJ2_hashCode_54 : decode cJ2_hashCode 54 = .ok (.iload_n 1, 1) := by decide +kernel
theorem dJ2_hashCode_55 : decode cJ2_hashCode 55 = .ok (.putfield 19, 3) := by decide +kernel
theorem dJ2_hashCode_58 : decode cJ2_hashCode 58 = .ok (.iload_n 1, 1) := by decide +kernel
theorem dJ2_hashCode_59 : decode cJ2_hashCode 59 = .ok (.ireturn, 1) := by decide +kernel
def w_J2_hashCode (a : Nat) (t : List Int32) (S : HS) (N : Int32 → HS → Prop) (X : Nat → HS → Prop) : Prop :=
  ∀ (x1 : Int32), (x1 ≠ 0 → x1 = hsh t) → ((¬ x1 = 0 → N x1 S) ∧
   (x1 = 0 → ∀ (x4 : Int32), (x4 ≠ 0 → hsh t = 0) → ((¬ x4 = 0 → N x1 S) ∧
     (x4 = 0 → w_J2_isLatin1 a t S (fun r8 S7 =>
       ((r8 = 0 → ∀ (w10 : Nat), tok t → False) ∧
        (¬ r8 = 0 → ∀ (w12 : Nat), tok t → w_J10_hashCode (some (104, w12, t)) S7 (fun r15 S14 =>
          ((¬ r15 = 0 → r15 = hsh t ∧ N r15 S14) ∧
           (r15 = 0 → hsh t = 0 ∧ N r15 S14))) X))) X))))
theorem ct_J2_hashCode {l : Launch} {G : GT} (a : Nat) (t : List Int32) (S : HS) (N : Int32 → HS → Prop) (X : Nat → HS → Prop) (h : w_J2_hashCode a t S N X) : Ct Eq l yJ2_hashCode (ws_ yJ2_hashCode cJ2_hashCode 2 (some .int)) 4 G [vR (some (14, a, t))] S (oI N X) := by
  refine Ct.ofY (cc := cJ2_hashCode) (maxL := 2) (ret := (some .int)) [some (vR (some (14, a, t))), none] false (by decide +kernel) (fun h => by cases h) rfl rfl (Nat.le_of_ble_eq_true rfl) (fun I cx => ?_)
  unfold w_J2_hashCode at h
  refine y_aload_n 0 cx dJ2_hashCode_0 rfl rfl ?_
  refine y_strHash cx q595 dJ2_hashCode_1 (fun x1 h2 => ?_)
  replace h := h x1 h2
  refine y_istore_n 1 [some (vR (some (14, a, t))), some (vI x1)] cx dJ2_hashCode_4 rfl (Nat.le_of_ble_eq_true rfl) trivial rfl ?_
  refine y_iload_n 1 cx dJ2_hashCode_5 rfl rfl ?_
  refine y_if_ne 58 cx dJ2_hashCode_6 (by decide) (fun c3 => ?_) (fun c3 => ?_)
  · replace h := h.1 c3
    refine y_iload_n 1 cx dJ2_hashCode_58 rfl rfl ?_
    exact y_iret cx dJ2_hashCode_59 h
  · replace h := h.2 c3
    refine y_aload_n 0 cx dJ2_hashCode_9 rfl rfl ?_
    refine y_strHz cx q596 dJ2_hashCode_10 (fun x4 h5 => ?_)
    replace h := h x4 h5
    refine y_if_ne 58 cx dJ2_hashCode_13 (by decide) (fun c6 => ?_) (fun c6 => ?_)
    · replace h := h.1 c6
      refine y_iload_n 1 cx dJ2_hashCode_58 rfl rfl ?_
      exact y_iret cx dJ2_hashCode_59 h
    · replace h := h.2 c6
      refine y_aload_n 0 cx dJ2_hashCode_16 rfl rfl ?_
      refine y_callI (d := 3) [vR (some (14, a, t))] [] cx rfl rfl (fun l G => ct_J2_isLatin1 a t S _ _ h) (lw_meth q712) (by decide) (Or.inl q712) q80 (link_V cx (Or.inr (Or.inl ⟨Or.inl rfl, rfl⟩)) (Or.inl q709) q710 q711 q712 md_J2_isLatin1 rfl dJ2_hashCode_17) (Nat.le_of_ble_eq_true rfl) (fun r8 S7 h => ?_) (fun a x' hx => hx)
      refine y_if_eq 33 cx dJ2_hashCode_20 (by decide) (fun c9 => ?_) (fun c9 => ?_)
      · replace h := h.1 c9
        refine y_aload_n 0 cx dJ2_hashCode_33 rfl rfl ?_
        refine y_strVal14 cx q593 dJ2_hashCode_34 (fun w10 h11 => ?_)
        replace h := h w10 h11
        exact False.elim h
      · replace h := h.2 c9
        refine y_aload_n 0 cx dJ2_hashCode_23 rfl rfl ?_
        refine y_strVal14 cx q593 dJ2_hashCode_24 (fun w12 h13 => ?_)
        replace h := h w12 h13
        refine y_callI (d := 3) [vR (some (104, w12, t))] [] cx rfl rfl (fun l G => ct_J10_hashCode (some (104, w12, t)) S7 _ _ h) (lw_meth q934) (by decide) (Or.inl q934) q95 (link_S cx (Or.inl q932) q933 q95 q934 md_J10_hashCode rfl dJ2_hashCode_27) (Nat.le_of_ble_eq_true rfl) (fun r15 S14 h => ?_) (fun a x' hx => hx)
        refine y_goto 40 cx dJ2_hashCode_30 (by decide) ?_
        refine y_istore_n 1 [some (vR (some (14, a, t))), some (vI r15)] cx dJ2_hashCode_40 rfl (Nat.le_of_ble_eq_true rfl) trivial rfl ?_
        refine y_iload_n 1 cx dJ2_hashCode_41 rfl rfl ?_
        refine y_if_ne 53 cx dJ2_hashCode_42 (by decide) (fun c16 => ?_) (fun c16 => ?_)
        · replace h := h.1 c16
          refine y_aload_n 0 cx dJ2_hashCode_53 rfl rfl ?_
          refine y_iload_n 1 cx dJ2_hashCode_54 rfl rfl ?_
          obtain ⟨h17, h⟩ := h
          refine y_putHash cx q595 dJ2_hashCode_55 h17 ?_
          refine y_iload_n 1 cx dJ2_hashCode_58 rfl rfl ?_
          exact y_iret cx dJ2_hashCode_59 h
        · replace h := h.2 c16
          refine y_aload_n 0 cx dJ2_hashCode_45 rfl rfl ?_
          refine y_iconst (v := 1) cx dJ2_hashCode_46 (by decide) ?_
          obtain ⟨h18, h⟩ := h
          refine y_putHz cx q596 dJ2_hashCode_47 rfl h18 ?_
          refine y_goto 58 cx dJ2_hashCode_50 (by decide) ?_
          refine y_iload_n 1 cx dJ2_hashCode_58 rfl rfl ?_
          exact y_iret cx dJ2_hashCode_59 h
theorem md_J2_hashCode : yJ2_hashCode.cls ≠ "java/lang/invoke/MethodHandle" ∧ yJ2_hashCode.cls ≠ "java/lang/invoke/VarHandle" ∧ (parseMethodDescriptor yJ2_hashCode.desc).map (fun d => d.parameters.length) = some 0 := by decide +kernel
/-! java/lang/AbstractStringBuilder.<init> -/
theorem dJ0_init_0 : decode cJ0_init 0 = .ok (.aload_n 0, 1) := by decide +kernel
theorem dJ0_init_1 : decode cJ0_init 1 = .ok (.invokespecial 3, 3) := by decide +kernel
theorem dJ0_init_4 : decode cJ0_init 4 = .ok (.getstatic 18, 3) := by decide +kernel
theorem dJ0_init_7 : decode cJ0_init 7 = .ok (.ifCond .eq 18, 3) := by decide +kernel
theorem dJ0_init_10 : decode cJ0_init 10 = .ok (.aload_n 0, 1) := by decide +kernel
theorem dJ0_init_11 : decode cJ0_init 11 = .ok (.iload_n 1, 1) := by decide +kernel
theorem dJ0_init_12 : decode cJ0_init 12 = .ok (.newarray .byte, 2) := by decide +kernel
theorem dJ0_init_14 : decode cJ0_init 14 = .ok (.putfield 15, 3) := by decide +kernel
theorem dJ0_init_17 : decode cJ0_init 17 = .ok (.aload_n 0, 1) := by decide +kernel
theorem dJ0_init_18 : decode cJ0_init 18 = .ok (.iconst 0, 1) := by decide +kernel
theorem dJ0_init_19 : decode cJ0_init 19 = .ok (.putfield 22, 3) := by decide +kernel
theorem dJ0_init_22 : decode cJ0_init 22 = .ok (.goto 16, 3) := by decide +kernel
theorem dJ0_init_25 : decode cJ0_init 25 = .ok (.aload_n 0, 1) := by decide +kernel
theorem dJ0_init_26 : decode cJ0_init 26 = .ok (.iload_n 1, 1) := by decide +kernel
theorem dJ0_init_27 : decode cJ0_init 27 = .ok (.invokestatic 26, 3) := by decide +kernel
theorem dJ0_init_38 : decode cJ0_init 38 = .ok (.return_, 1) := by decide +kernel
def w_J0_init (a : Nat) (l1 : Int32) (S : HS) (N : HS → Prop) (X : Nat → HS → Prop) : Prop :=
  (((1 : Int32) = 0 → False) ∧
   (¬ (1 : Int32) = 0 → ¬ l1 < 0 ∧ l1.toNatClampNeg ≤ 65536 ∧ 1 ≤ hB S ∧ l1.toNatClampNeg ≤ hU S ∧ ∀ a6 S7, a6 = hZ S → S7 = sN S 101 l1.toNatClampNeg → ∀ S10, S10 = sR S7 76 a (some (101, a6, [])) → ∀ S12, S12 = sI S10 77 a (0 : Int32) → N S12))
theorem ct_J0_init {l : Launch} {G : GT} (a : Nat) (l1 : Int32) (S : HS) (N : HS → Prop) (X : Nat → HS → Prop) (h : w_J0_init a l1 S N X) : Ct Eq l yJ0_init (ws_ yJ0_init cJ0_init 2 none) 2 G [vR (some (15, a, [])), vI l1] S (oV N X) := by
  refine Ct.ofY (cc := cJ0_init) (maxL := 2) (ret := none) [some (vR (some (15, a, []))), some (vI l1)] true (by decide +kernel) (fun _ => rfl) rfl rfl (Nat.le_of_ble_eq_true rfl) (fun I cx => ?_)
  unfold w_J0_init at h
  refine y_aload_n 0 cx dJ0_init_0 rfl rfl ?_
  refine y_objInit (d := 1) cx q125 q113 q114 dJ0_init_1 rfl (by rw [catA_sum]; exact Nat.le_of_ble_eq_true rfl) ?_
  refine y_compact cx q126 dJ0_init_4 ?_
  refine y_if_eq 25 cx dJ0_init_7 (by decide) (fun c1 => ?_) (fun c1 => ?_)
  · replace h := h.1 c1
    refine y_aload_n 0 cx dJ0_init_25 rfl rfl ?_
    refine y_iload_n 1 cx dJ0_init_26 rfl rfl ?_
    exact False.elim h
  · replace h := h.2 c1
    refine y_aload_n 0 cx dJ0_init_10 rfl rfl ?_
    refine y_iload_n 1 cx dJ0_init_11 rfl rfl ?_
    obtain ⟨h2, h⟩ := h
    obtain ⟨h3, h⟩ := h
    obtain ⟨h4, h⟩ := h
    obtain ⟨h5, h⟩ := h
    refine y_newbN cx q150 dJ0_init_12 h2 h3 h4 h5 (fun a6 S7 e8 e9 => ?_)
    replace h := h a6 S7 e8 e9
    refine y_putR cx fe_76 (Or.inl q135) (Or.inl rfl) (Or.inl rfl) dJ0_init_14 (by decide) pd_76 (Or.inr ⟨_, rfl⟩) ?_
    refine y_nmS (fun S10 e11 => ?_)
    replace h := h S10 e11
    refine y_aload_n 0 cx dJ0_init_17 rfl rfl ?_
    refine y_iconst (v := 0) cx dJ0_init_18 (by decide) ?_
    refine y_putI cx fe_77 (Or.inl q136) (Or.inl rfl) (Or.inl rfl) dJ0_init_19 (by decide) pdB ⟨rfl, rfl⟩ ?_
    refine y_nmS (fun S12 e13 => ?_)
    replace h := h S12 e13
    refine y_goto 38 cx dJ0_init_22 (by decide) ?_
    exact y_vret cx dJ0_init_38 h
theorem md_J0_init : yJ0_init.cls ≠ "java/lang/invoke/MethodHandle" ∧ yJ0_init.cls ≠ "java/lang/invoke/VarHandle" ∧ (parseMethodDescriptor yJ0_init.desc).map (fun d => d.parameters.length) = some 1 := by decide +kernel
/-! java/lang/StringBuilder.<init> -/
theorem dJ1_init_0 : decode cJ1_init 0 = .ok (.aload_n 0, 1) := by decide +kernel
theorem dJ1_init_1 : decode cJ1_init 1 = .ok (.iload_n 1, 1) := by decide +kernel
theorem dJ1_init_2 : decode cJ1_init 2 = .ok (.invokespecial 1, 3) := by decide +kernel
theorem dJ1_init_5 : decode cJ1_init 5 = .ok (.return_, 1) := by decide +kernel
def w_J1_init (a : Nat) (l1 : Int32) (S : HS) (N : HS → Prop) (X : Nat → HS → Prop) : Prop :=
  w_J0_init a l1 S (fun S1 =>
   N S1) X
theorem ct_J1_init {l : Launch} {G : GT} (a : Nat) (l1 : Int32) (S : HS) (N : HS → Prop) (X : Nat → HS → Prop) (h : w_J1_init a l1 S N X) : Ct Eq l yJ1_init (ws_ yJ1_init cJ1_init 2 none) 3 G [vR (some (15, a, [])), vI l1] S (oV N X) := by
  refine Ct.ofY (cc := cJ1_init) (maxL := 2) (ret := none) [some (vR (some (15, a, []))), some (vI l1)] true (by decide +kernel) (fun _ => rfl) rfl rfl (Nat.le_of_ble_eq_true rfl) (fun I cx => ?_)
  unfold w_J1_init at h
  refine y_aload_n 0 cx dJ1_init_0 rfl rfl ?_
  refine y_iload_n 1 cx dJ1_init_1 rfl rfl ?_
  refine y_callV (d := 2) [vR (some (15, a, [])), vI l1] [] cx rfl rfl (fun l G => ct_J0_init a l1 S _ _ h) (lw_meth q124) (by decide) (Or.inl q124) q78 (link_I cx rfl (Or.inl q122) q123 q124 md_J0_init rfl dJ1_init_2) (Nat.le_of_ble_eq_true rfl) (fun S1 h => ?_) (fun a x' hx => hx)
  exact y_vret cx dJ1_init_5 h
theorem md_J1_init : yJ1_init.cls ≠ "java/lang/invoke/MethodHandle" ∧ yJ1_init.cls ≠ "java/lang/invoke/VarHandle" ∧ (parseMethodDescriptor yJ1_init.desc).map (fun d => d.parameters.length) = some 1 := by decide +kernel
/-! java/lang/AbstractStringBuilder.isLatin1 -/
theorem dJ0_isLatin1_0 : decode cJ0_isLatin1 0 = .ok (.getstatic 18, 3) := by decide +kernel
theorem dJ0_isLatin1_3 : decode cJ0_isLatin1 3 = .ok (.ifCond .eq 14, 3) := by decide +kernel
theorem dJ0_isLatin1_6 : decode cJ0_isLatin1 6 = .ok (.aload_n 0, 1) := by decide +kernel
theorem dJ0_isLatin1_7 : decode cJ0_isLatin1 7 = .ok (.getfield 22, 3) := by decide +kernel
theorem dJ0_isLatin1_10 : decode cJ0_isLatin1 10 = .ok (.ifCond .ne 7, 3) := by decide +kernel
theorem dJ0_isLatin1_13 : decode cJ0_isLatin1 13 = .ok (.iconst 1, 1) := by decide +kernel
theorem dJ0_isLatin1_14 : decode cJ0_isLatin1 14 = .ok (.goto 4, 3) := by decide +kernel
theorem dJ0_isLatin1_17 : decode cJ0_isLatin1 17 = .ok (.iconst 0, 1) := by decide +kernel
theorem dJ0_isLatin1_18 : decode cJ0_isLatin1 18 = .ok (.ireturn, 1) := by decide +kernel
def w_J0_isLatin1 (a : Nat) (S : HS) (N : Int32 → HS → Prop) (X : Nat → HS → Prop) : Prop :=
  (((1 : Int32) = 0 → N (0 : Int32) S) ∧
   (¬ (1 : Int32) = 0 → ((¬ (hI S 77 a) = 0 → N (0 : Int32) S) ∧
     ((hI S 77 a) = 0 → N (1 : Int32) S))))
theorem ct_J0_isLatin1 {l : Launch} {G : GT} (a : Nat) (S : HS) (N : Int32 → HS → Prop) (X : Nat → HS → Prop) (h : w_J0_isLatin1 a S N X) : Ct Eq l yJ0_isLatin1 (ws_ yJ0_isLatin1 cJ0_isLatin1 1 (some .boolean)) 1 G [vR (some (15, a, []))] S (oI N X) := by
  refine Ct.ofY (cc := cJ0_isLatin1) (maxL := 1) (ret := (some .boolean)) [some (vR (some (15, a, [])))] false (by decide +kernel) (fun h => by cases h) rfl rfl (Nat.le_of_ble_eq_true rfl) (fun I cx => ?_)
  unfold w_J0_isLatin1 at h
  refine y_compact cx q126 dJ0_isLatin1_0 ?_
  refine y_if_eq 17 cx dJ0_isLatin1_3 (by decide) (fun c1 => ?_) (fun c1 => ?_)
  · replace h := h.1 c1
    refine y_iconst (v := 0) cx dJ0_isLatin1_17 (by decide) ?_
    exact y_zret cx rfl dJ0_isLatin1_18 h
  · replace h := h.2 c1
    refine y_aload_n 0 cx dJ0_isLatin1_6 rfl rfl ?_
    refine y_getI cx fe_77 (Or.inl q136) (Or.inl rfl) dJ0_isLatin1_7 (by decide) ?_
    refine y_if_ne 17 cx dJ0_isLatin1_10 (by decide) (fun c2 => ?_) (fun c2 => ?_)
    · replace h := h.1 c2
      refine y_iconst (v := 0) cx dJ0_isLatin1_17 (by decide) ?_
      exact y_zret cx rfl dJ0_isLatin1_18 h
    · replace h := h.2 c2
      refine y_iconst (v := 1) cx dJ0_isLatin1_13 (by decide) ?_
      refine y_goto 18 cx dJ0_isLatin1_14 (by decide) ?_
      exact y_zret cx rfl dJ0_isLatin1_18 h
theorem md_J0_isLatin1 : yJ0_isLatin1.cls ≠ "java/lang/invoke/MethodHandle" ∧ yJ0_isLatin1.cls ≠ "java/lang/invoke/VarHandle" ∧ (parseMethodDescriptor yJ0_isLatin1.desc).map (fun d => d.parameters.length) = some 0 := by decide +kernel
/-! java/lang/AbstractStringBuilder.ensureCapacityInternal -/
theorem dJ0_ensureCapacityInternal_0 : decode cJ0_ensureCapacityInternal 0 = .ok (.aload_n 0, 1) := by decide +kernel
theorem dJ0_ensureCapacityInternal_1 : decode cJ0_ensureCapacityInternal 1 = .ok (.getfield 15, 3) := by decide +kernel
theorem dJ0_ensureCapacityInternal_4 : decode cJ0_ensureCapacityInternal 4 = .ok (.arraylength, 1) := by decide +kernel
theorem dJ0_ensureCapacityInternal_5 : decode cJ0_ensureCapacityInternal 5 = .ok (.aload_n 0, 1) := by decide +kernel
theorem dJ0_ensureCapacityInternal_6 : decode cJ0_ensureCapacityInternal 6 = .ok (.getfield 22, 3) := by decide +kernel
theorem dJ0_ensureCapacityInternal_9 : decode cJ0_ensureCapacityInternal 9 = .ok (.ishr, 1) := by decide +kernel
theorem dJ0_ensureCapacityInternal_10 : decode cJ0_ensureCapacityInternal 10 = .ok (.istore_n 2, 1) := by decide +kernel
theorem dJ0_ensureCapacityInternal_11 : decode cJ0_ensureCapacityInternal 11 = .ok (.iload_n 1, 1) := by decide +kernel
theorem dJ0_ensureCapacityInternal_12 : decode cJ0_ensureCapacityInternal 12 = .ok (.iload_n 2, 1) := by decide +kernel
theorem dJ0_ensureCapacityInternal_13 : decode cJ0_ensureCapacityInternal 13 = .ok (.isub, 1) := by decide +kernel
theorem dJ0_ensureCapacityInternal_14 : decode cJ0_ensureCapacityInternal 14 = .ok (.ifCond .le 24, 3) := by decide +kernel
theorem dJ0_ensureCapacityInternal_17 : decode cJ0_ensureCapacityInternal 17 = .ok (.aload_n 0, 1) := by decide +kernel
theorem dJ0_ensureCapacityInternal_18 : decode cJ0_ensureCapacityInternal 18 = .ok (.aload_n 0, 1) := by decide +kernel
theorem dJ0_ensureCapacityInternal_19 : decode cJ0_ensureCapacityInternal 19 = .ok (.getfield 15, 3) := by decide +kernel
theorem dJ0_ensureCapacityInternal_22 : decode cJ0_ensureCapacityInternal 22 = .ok (.aload_n 0, 1) := by decide +kernel
theorem dJ0_ensureCapacityInternal_23 : decode cJ0_ensureCapacityInternal 23 = .ok (.iload_n 1, 1) := by decide +kernel
theorem dJ0_ensureCapacityInternal_24 : decode cJ0_ensureCapacityInternal 24 = .ok (.invokevirtual 104, 3) := by decide +kernel
theorem dJ0_ensureCapacityInternal_38 : decode cJ0_ensureCapacityInternal 38 = .ok (.return_, 1) := by decide +kernel
def w_J0_ensureCapacityInternal (a : Nat) (l1 : Int32) (S : HS) (N : HS → Prop) (X : Nat → HS → Prop) : Prop :=
  ∃ a1, (hR S 76 a) = some (101, a1, []) ∧ ∀ v3, v3 = ((nI (hN S a1)) >>> ((hI S 77 a) &&& 31)) → (((l1 - v3) ≤ 0 → N S) ∧
   (¬ (l1 - v3) ≤ 0 → False))
theorem ct_J0_ensureCapacityInternal {l : Launch} {G : GT} (a : Nat) (l1 : Int32) (S : HS) (N : HS → Prop) (X : Nat → HS → Prop) (h : w_J0_ensureCapacityInternal a l1 S N X) : Ct Eq l yJ0_ensureCapacityInternal (ws_ yJ0_ensureCapacityInternal cJ0_ensureCapacityInternal 3 none) 1 G [vR (some (15, a, [])), vI l1] S (oV N X) := by
  refine Ct.ofY (cc := cJ0_ensureCapacityInternal) (maxL := 3) (ret := none) [some (vR (some (15, a, []))), some (vI l1), none] false (by decide +kernel) (fun h => by cases h) rfl rfl (Nat.le_of_ble_eq_true rfl) (fun I cx => ?_)
  unfold w_J0_ensureCapacityInternal at h
  refine y_aload_n 0 cx dJ0_ensureCapacityInternal_0 rfl rfl ?_
  refine y_getR cx fe_76 (Or.inl q135) (Or.inl rfl) dJ0_ensureCapacityInternal_1 (by decide) ?_
  obtain ⟨a1, e2, h⟩ := h
  refine y_eqR0 e2 ?_
  refine y_alen cx dJ0_ensureCapacityInternal_4 (by decide) ?_
  refine y_aload_n 0 cx dJ0_ensureCapacityInternal_5 rfl rfl ?_
  refine y_getI cx fe_77 (Or.inl q136) (Or.inl rfl) dJ0_ensureCapacityInternal_6 (by decide) ?_
  refine y_ishr cx dJ0_ensureCapacityInternal_9 ?_
  refine y_nmI (fun v3 e4 => ?_)
  replace h := h v3 e4
  refine y_istore_n 2 [some (vR (some (15, a, []))), some (vI l1), some (vI v3)] cx dJ0_ensureCapacityInternal_10 rfl (Nat.le_of_ble_eq_true rfl) trivial rfl ?_
  refine y_iload_n 1 cx dJ0_ensureCapacityInternal_11 rfl rfl ?_
  refine y_iload_n 2 cx dJ0_ensureCapacityInternal_12 rfl rfl ?_
  refine y_isub cx dJ0_ensureCapacityInternal_13 ?_
  refine y_if_le 38 cx dJ0_ensureCapacityInternal_14 (by decide) (fun c5 => ?_) (fun c5 => ?_)
  · replace h := h.1 c5
    exact y_vret cx dJ0_ensureCapacityInternal_38 h
  · replace h := h.2 c5
    refine y_aload_n 0 cx dJ0_ensureCapacityInternal_17 rfl rfl ?_
    refine y_aload_n 0 cx dJ0_ensureCapacityInternal_18 rfl rfl ?_
    refine y_getR cx fe_76 (Or.inl q135) (Or.inl rfl) dJ0_ensureCapacityInternal_19 (by decide) ?_
    refine y_aload_n 0 cx dJ0_ensureCapacityInternal_22 rfl rfl ?_
    refine y_iload_n 1 cx dJ0_ensureCapacityInternal_23 rfl rfl ?_
    exact False.elim h
theorem md_J0_ensureCapacityInternal : yJ0_ensureCapacityInternal.cls ≠ "java/lang/invoke/MethodHandle" ∧ yJ0_ensureCapacityInternal.cls ≠ "java/lang/invoke/VarHandle" ∧ (parseMethodDescriptor yJ0_ensureCapacityInternal.desc).map (fun d => d.parameters.length) = some 1 := by decide +kernel
/-! java/lang/AbstractStringBuilder.setLength -/
theorem dJ0_setLength_0 : decode cJ0_setLength 0 = .ok (.iload_n 1, 1) := by decide +kernel
theorem dJ0_setLength_1 : decode cJ0_setLength 1 = .ok (.ifCond .ge 12, 3) := by decide +kernel
theorem dJ0_setLength_4 : decode cJ0_setLength 4 = .ok (.new 129, 3) := by decide +kernel
theorem dJ0_setLength_13 : decode cJ0_setLength 13 = .ok (.aload_n 0, 1) := by decide +kernel
theorem dJ0_setLength_14 : decode cJ0_setLength 14 = .ok (.iload_n 1, 1) := by decide +kernel
theorem dJ0_setLength_15 : decode cJ0_setLength 15 = .ok (.invokevirtual 100, 3) := by decide +kernel
theorem dJ0_setLength_18 : decode cJ0_setLength 18 = .ok (.aload_n 0, 1) := by decide +kernel
theorem dJ0_setLength_19 : decode cJ0_setLength 19 = .ok (.getfield 79, 3) := by decide +kernel
theorem dJ0_setLength_22 : decode cJ0_setLength 22 = .ok (.iload_n 1, 1) := by decide +kernel
theorem dJ0_setLength_23 : decode cJ0_setLength 23 = .ok (.if_icmp .ge 40, 3) := by decide +kernel
theorem dJ0_setLength_26 : decode cJ0_setLength 26 = .ok (.aload_n 0, 1) := by decide +kernel
theorem dJ0_setLength_27 : decode cJ0_setLength 27 = .ok (.invokevirtual 83, 3) := by decide +kernel
theorem dJ0_setLength_30 : decode cJ0_setLength 30 = .ok (.ifCond .eq 18, 3) := by decide +kernel
theorem dJ0_setLength_33 : decode cJ0_setLength 33 = .ok (.aload_n 0, 1) := by decide +kernel
theorem dJ0_setLength_34 : decode cJ0_setLength 34 = .ok (.getfield 15, 3) := by decide +kernel
theorem dJ0_setLength_37 : decode cJ0_setLength 37 = .ok (.aload_n 0, 1) := by decide +kernel
theorem dJ0_setLength_38 : decode cJ0_setLength 38 = .ok (.getfield 79, 3) := by decide +kernel
theorem dJ0_setLength_41 : decode cJ0_setLength 41 = .ok (.iload_n 1, 1) := by decide +kernel
theorem dJ0_setLength_42 : decode cJ0_setLength 42 = .ok (.invokestatic 133, 3) := by decide +kernel
theorem dJ0_setLength_48 : decode cJ0_setLength 48 = .ok (.aload_n 0, 1) := by decide +kernel
theorem dJ0_setLength_49 : decode cJ0_setLength 49 = .ok (.getfield 15, 3) := by decide +kernel
theorem dJ0_setLength_52 : decode cJ0_setLength 52 = .ok (.aload_n 0, 1) := by decide +kernel
theorem dJ0_setLength_53 : decode cJ0_setLength 53 = .ok (.getfield 79, 3) := by decide +kernel
theorem dJ0_setLength_56 : decode cJ0_setLength 56 = .ok (.iload_n 1, 1) := by decide +kernel
theorem dJ0_setLength_57 : decode cJ0_setLength 57 = .ok (.invokestatic 137, 3) := by decide +kernel
theorem dJ0_setLength_63 : decode cJ0_setLength 63 = .ok (.aload_n 0, 1) := by decide +kernel
theorem dJ0_setLength_64 : decode cJ0_setLength 64 = .ok (.getfield 79, 3) := by decide +kernel
theorem dJ0_setLength_67 : decode cJ0_setLength 67 = .ok (.iload_n 1, 1) := by decide +kernel
theorem dJ0_setLength_68 : decode cJ0_setLength 68 = .ok (.if_icmp .le 8, 3) := by decide +kernel
theorem dJ0_setLength_71 : decode cJ0_setLength 71 = .ok (.aload_n 0, 1) := by decide +kernel
theorem dJ0_setLength_72 : decode cJ0_setLength 72 = .ok (.iconst 1, 1) := by decide +kernel
theorem dJ0_setLength_73 : decode cJ0_setLength 73 = .ok (.putfield 73, 3) := by decide +kernel
theorem dJ0_setLength_76 : decode cJ0_setLength 76 = .ok (.aload_n 0, 1) := by decide +kernel
theorem dJ0_setLength_77 : decode cJ0_setLength 77 = .ok (.iload_n 1, 1) := by decide +kernel
theorem dJ0_setLength_78 : decode cJ0_setLength 78 = .ok (.putfield 79, 3) := by decide +kernel
theorem dJ0_setLength_81 : decode cJ0_setLength 81 = .ok (.return_, 1) := by decide +kernel
def w_J0_setLength_b76 (a : Nat) (N : HS → Prop) (X : Nat → HS → Prop) (l1 : Int32) (S : HS) : Prop :=
  ∀ S1, S1 = sI S 79 a l1 → N S1
theorem y_J0_setLength_b76 {I : Iv} {a : Nat} {N : HS → Prop} {X : Nat → HS → Prop} (cx : Cx I RJ0 cJ0_setLength 2 none 2 [] false) (l1 : Int32) (S : HS) (h : w_J0_setLength_b76 a N X l1 S) : Y Eq I (oV N X) 76 [some (vR (some (15, a, []))), some (vI l1)] [] S := by
  unfold w_J0_setLength_b76 at h
  refine y_aload_n 0 cx dJ0_setLength_76 rfl rfl ?_
  refine y_iload_n 1 cx dJ0_setLength_77 rfl rfl ?_
  refine y_putI cx fe_79 (Or.inl q139) (Or.inl rfl) (Or.inl rfl) dJ0_setLength_78 (by decide) pdI ⟨rfl, rfl⟩ ?_
  refine y_nmS (fun S1 e2 => ?_)
  replace h := h S1 e2
  exact y_vret cx dJ0_setLength_81 h
def w_J0_setLength (a : Nat) (l1 : Int32) (S : HS) (N : HS → Prop) (X : Nat → HS → Prop) : Prop :=
  ((0 ≤ l1 → w_J0_ensureCapacityInternal a l1 S (fun S4 =>
     ((l1 ≤ (hI S4 79 a) → (((hI S4 79 a) ≤ l1 → w_J0_setLength_b76 a N X l1 S4) ∧
        (¬ (hI S4 79 a) ≤ l1 → ∀ S7, S7 = sI S4 78 a (1 : Int32) → w_J0_setLength_b76 a N X l1 S7))) ∧
      (¬ l1 ≤ (hI S4 79 a) → w_J0_isLatin1 a S4 (fun r10 S9 =>
        ((r10 = 0 → False) ∧
         (¬ r10 = 0 → False))) X))) X) ∧
   (¬ 0 ≤ l1 → False))
theorem ct_J0_setLength {l : Launch} {G : GT} (a : Nat) (l1 : Int32) (S : HS) (N : HS → Prop) (X : Nat → HS → Prop) (h : w_J0_setLength a l1 S N X) : Ct Eq l yJ0_setLength (ws_ yJ0_setLength cJ0_setLength 2 none) 2 G [vR (some (15, a, [])), vI l1] S (oV N X) := by
  refine Ct.ofY (cc := cJ0_setLength) (maxL := 2) (ret := none) [some (vR (some (15, a, []))), some (vI l1)] false (by decide +kernel) (fun h => by cases h) rfl rfl (Nat.le_of_ble_eq_true rfl) (fun I cx => ?_)
  unfold w_J0_setLength at h
  refine y_iload_n 1 cx dJ0_setLength_0 rfl rfl ?_
  refine y_if_ge 13 cx dJ0_setLength_1 (by decide) (fun c3 => ?_) (fun c3 => ?_)
  · replace h := h.1 c3
    refine y_aload_n 0 cx dJ0_setLength_13 rfl rfl ?_
    refine y_iload_n 1 cx dJ0_setLength_14 rfl rfl ?_
    refine y_callV (d := 1) [vR (some (15, a, [])), vI l1] [] cx rfl rfl (fun l G => ct_J0_ensureCapacityInternal a l1 S _ _ h) (lw_meth q436) (by decide) (Or.inl q436) q78 (link_P (C := "java/lang/StringBuilder") cx (Or.inl ⟨rfl, rfl⟩) q433 q1427 q435 q434 q436 md_J0_ensureCapacityInternal rfl dJ0_setLength_15) (Nat.le_of_ble_eq_true rfl) (fun S4 h => ?_) (fun a x' hx => hx)
    refine y_aload_n 0 cx dJ0_setLength_18 rfl rfl ?_
    refine y_getI cx fe_79 (Or.inl q139) (Or.inl rfl) dJ0_setLength_19 (by decide) ?_
    refine y_iload_n 1 cx dJ0_setLength_22 rfl rfl ?_
    refine y_icmp_ge 63 cx dJ0_setLength_23 (by decide) (fun c5 => ?_) (fun c5 => ?_)
    · replace h := h.1 c5
      refine y_aload_n 0 cx dJ0_setLength_63 rfl rfl ?_
      refine y_getI cx fe_79 (Or.inl q139) (Or.inl rfl) dJ0_setLength_64 (by decide) ?_
      refine y_iload_n 1 cx dJ0_setLength_67 rfl rfl ?_
      refine y_icmp_le 76 cx dJ0_setLength_68 (by decide) (fun c6 => ?_) (fun c6 => ?_)
      · replace h := h.1 c6
        exact y_J0_setLength_b76 cx l1 S4 h
      · replace h := h.2 c6
        refine y_aload_n 0 cx dJ0_setLength_71 rfl rfl ?_
        refine y_iconst (v := 1) cx dJ0_setLength_72 (by decide) ?_
        refine y_putI cx fe_78 (Or.inl q137) (Or.inl rfl) (Or.inl rfl) dJ0_setLength_73 (by decide) pdZ (nz_bool (Or.inr rfl)) ?_
        refine y_nmS (fun S7 e8 => ?_)
        replace h := h S7 e8
        exact y_J0_setLength_b76 cx l1 S7 h
    · replace h := h.2 c5
      refine y_aload_n 0 cx dJ0_setLength_26 rfl rfl ?_
      refine y_callI (d := 1) [vR (some (15, a, []))] [] cx rfl rfl (fun l G => ct_J0_isLatin1 a S4 _ _ h) (lw_meth q472) (by decide) (Or.inl q472) q78 (link_VU (x := ⟨"java/lang/AbstractStringBuilder", "isLatin1", "()Z"⟩) (owner := "java/lang/AbstractStringBuilder") (C := "java/lang/StringBuilder") cx (Or.inl ⟨rfl, rfl⟩) q468 q470 (Or.inr ⟨_, _, _, q469, q472⟩) q469 q471 (by decide +kernel) rfl dJ0_setLength_27) (Nat.le_of_ble_eq_true rfl) (fun r10 S9 h => ?_) (fun a x' hx => hx)
      refine y_if_eq 48 cx dJ0_setLength_30 (by decide) (fun c11 => ?_) (fun c11 => ?_)
      · replace h := h.1 c11
        refine y_aload_n 0 cx dJ0_setLength_48 rfl rfl ?_
        refine y_getR cx fe_76 (Or.inl q135) (Or.inl rfl) dJ0_setLength_49 (by decide) ?_
        refine y_aload_n 0 cx dJ0_setLength_52 rfl rfl ?_
        refine y_getI cx fe_79 (Or.inl q139) (Or.inl rfl) dJ0_setLength_53 (by decide) ?_
        refine y_iload_n 1 cx dJ0_setLength_56 rfl rfl ?_
        exact False.elim h
      · replace h := h.2 c11
        refine y_aload_n 0 cx dJ0_setLength_33 rfl rfl ?_
        refine y_getR cx fe_76 (Or.inl q135) (Or.inl rfl) dJ0_setLength_34 (by decide) ?_
        refine y_aload_n 0 cx dJ0_setLength_37 rfl rfl ?_
        refine y_getI cx fe_79 (Or.inl q139) (Or.inl rfl) dJ0_setLength_38 (by decide) ?_
        refine y_iload_n 1 cx dJ0_setLength_41 rfl rfl ?_
        exact False.elim h
  · replace h := h.2 c3
    exact False.elim h
theorem md_J0_setLength : yJ0_setLength.cls ≠ "java/lang/invoke/MethodHandle" ∧ yJ0_setLength.cls ≠ "java/lang/invoke/VarHandle" ∧ (parseMethodDescriptor yJ0_setLength.desc).map (fun d => d.parameters.length) = some 1 := by decide +kernel
/-! java/lang/StringBuilder.setLength -/
theorem dJ1_setLength_0 : decode cJ1_setLength 0 = .ok (.aload_n 0, 1) := by decide +kernel
theorem dJ1_setLength_1 : decode cJ1_setLength 1 = .ok (.iload_n 1, 1) := by decide +kernel
theorem dJ1_setLength_2 : decode cJ1_setLength 2 = .ok (.invokespecial 333, 3) := by decide +kernel
theorem dJ1_setLength_5 : decode cJ1_setLength 5 = .ok (.return_, 1) := by decide +kernel
def w_J1_setLength (a : Nat) (l1 : Int32) (S : HS) (N : HS → Prop) (X : Nat → HS → Prop) : Prop :=
  w_J0_setLength a l1 S (fun S1 =>
   N S1) X
theorem ct_J1_setLength {l : Launch} {G : GT} (a : Nat) (l1 : Int32) (S : HS) (N : HS → Prop) (X : Nat → HS → Prop) (h : w_J1_setLength a l1 S N X) : Ct Eq l yJ1_setLength (ws_ yJ1_setLength cJ1_setLength 2 none) 3 G [vR (some (15, a, [])), vI l1] S (oV N X) := by
  refine Ct.ofY (cc := cJ1_setLength) (maxL := 2) (ret := none) [some (vR (some (15, a, []))), some (vI l1)] false (by decide +kernel) (fun h => by cases h) rfl rfl (Nat.le_of_ble_eq_true rfl) (fun I cx => ?_)
  unfold w_J1_setLength at h
  refine y_aload_n 0 cx dJ1_setLength_0 rfl rfl ?_
  refine y_iload_n 1 cx dJ1_setLength_1 rfl rfl ?_
  refine y_callV (d := 2) [vR (some (15, a, [])), vI l1] [] cx rfl rfl (fun l G => ct_J0_setLength a l1 S _ _ h) (lw_meth q432) (by decide) (Or.inl q432) q78 (link_SU (sup := "java/lang/AbstractStringBuilder") (C := "java/lang/StringBuilder") cx (Or.inl ⟨rfl, rfl⟩) q430 q1426 q148 (Or.inl rfl) q431 q432 (by decide +kernel) md_J0_setLength rfl dJ1_setLength_2) (Nat.le_of_ble_eq_true rfl) (fun S1 h => ?_) (fun a x' hx => hx)
  exact y_vret cx dJ1_setLength_5 h
theorem md_J1_setLength : yJ1_setLength.cls ≠ "java/lang/invoke/MethodHandle" ∧ yJ1_setLength.cls ≠ "java/lang/invoke/VarHandle" ∧ (parseMethodDescriptor yJ1_setLength.desc).map (fun d => d.parameters.length) = some 1 := by decide +kernel
/-! java/lang/StringLatin1.canEncode -/
theorem dJ10_canEncode_0 : decode cJ10_canEncode 0 = .ok (.iload_n 0, 1) := by decide +kernel
theorem dJ10_canEncode_1 : decode cJ10_canEncode 1 = .ok (.sipush 255, 3) := by decide +kernel
theorem dJ10_canEncode_4 : decode cJ10_canEncode 4 = .ok (.if_icmp .gt 7, 3) := by decide +kernel
theorem dJ10_canEncode_7 : decode cJ10_canEncode 7 = .ok (.iconst 1, 1) := by decide +kernel
theorem dJ10_canEncode_8 : decode cJ10_canEncode 8 = .ok (.goto 4, 3) := by decide +kernel
theorem dJ10_canEncode_11 : decode cJ10_canEncode 11 = .ok (.iconst 0, 1) := by decide +kernel
theorem dJ10_canEncode_12 : decode cJ10_canEncode 12 = .ok (.ireturn, 1) := by decide +kernel
def w_J10_canEncode {σ : Type} (l0 : Int32) (x : σ) (N : Int32 → σ → Prop) : Prop :=
  (((255 : Int32) < l0 → N (0 : Int32) x) ∧
   (¬ (255 : Int32) < l0 → N (1 : Int32) x))
theorem ct_J10_canEncode {l : Launch} {G : GT} {σ : Type} {ρ : σ → HS → Prop} (l0 : Int32) (x : σ) (N : Int32 → σ → Prop) (h : w_J10_canEncode l0 x N) : Ct ρ l yJ10_canEncode (ws_ yJ10_canEncode cJ10_canEncode 1 (some .boolean)) 1 G [vI l0] x (oI N (fun _ _ => False)) := by
  refine Ct.ofY (cc := cJ10_canEncode) (maxL := 1) (ret := (some .boolean)) [some (vI l0)] false (by decide +kernel) (fun h => by cases h) rfl rfl (Nat.le_of_ble_eq_true rfl) (fun I cx => ?_)
  unfold w_J10_canEncode at h
  refine y_iload_n 0 cx dJ10_canEncode_0 rfl rfl ?_
  refine y_sipush (v := 255) cx dJ10_canEncode_1 (by decide) ?_
  refine y_icmp_gt 11 cx dJ10_canEncode_4 (by decide) (fun c1 => ?_) (fun c1 => ?_)
  · replace h := h.1 c1
    refine y_iconst (v := 0) cx dJ10_canEncode_11 (by decide) ?_
    exact y_zret cx rfl dJ10_canEncode_12 h
  · replace h := h.2 c1
    refine y_iconst (v := 1) cx dJ10_canEncode_7 (by decide) ?_
    refine y_goto 12 cx dJ10_canEncode_8 (by decide) ?_
    exact y_zret cx rfl dJ10_canEncode_12 h
theorem md_J10_canEncode : yJ10_canEncode.cls ≠ "java/lang/invoke/MethodHandle" ∧ yJ10_canEncode.cls ≠ "java/lang/invoke/VarHandle" ∧ (parseMethodDescriptor yJ10_canEncode.desc).map (fun d => d.parameters.length) = some 1 := by decide +kernel
/-! java/lang/AbstractStringBuilder.append -/
theorem dJ0_append_0 : decode cJ0_append 0 = .ok (.aload_n 0, 1) := by decide +kernel
theorem dJ0_append_1 : decode cJ0_append 1 = .ok (.aload_n 0, 1) := by decide +kernel
theorem dJ0_append_2 : decode cJ0_append 2 = .ok (.getfield 79, 3) := by decide +kernel
theorem dJ0_append_5 : decode cJ0_append 5 = .ok (.iconst 1, 1) := by decide +kernel
theorem dJ0_append_6 : decode cJ0_append 6 = .ok (.iadd, 1) := by decide +kernel
theorem dJ0_append_7 : decode cJ0_append 7 = .ok (.invokevirtual 100, 3) := by decide +kernel
theorem dJ0_append_10 : decode cJ0_append 10 = .ok (.aload_n 0, 1) := by decide +kernel
theorem dJ0_append_11 : decode cJ0_append 11 = .ok (.invokevirtual 83, 3) := by decide +kernel
theorem dJ0_append_14 : decode cJ0_append 14 = .ok (.ifCond .eq 31, 3) := by decide +kernel
theorem dJ0_append_17 : decode cJ0_append 17 = .ok (.iload_n 1, 1) := by decide +kernel
theorem dJ0_append_18 : decode cJ0_append 18 = .ok (.invokestatic 191, 3) := by decide +kernel
theorem dJ0_append_21 : decode cJ0_append 21 = .ok (.ifCond .eq 24, 3) := by decide +kernel
theorem dJ0_append_24 : decode cJ0_append 24 = .ok (.aload_n 0, 1) := by decide +kernel
theorem dJ0_append_25 : decode cJ0_append 25 = .ok (.getfield 15, 3) := by decide +kernel
theorem dJ0_append_28 : decode cJ0_append 28 = .ok (.aload_n 0, 1) := by decide +kernel
theorem dJ0_append_29 : decode cJ0_append 29 = .ok (.dup, 1) := by decide +kernel
theorem dJ0_append_30 : decode cJ0_append 30 = .ok (.getfield 79, 3) := by decide +kernel
theorem dJ0_append_33 : decode cJ0_append 33 = .ok (.dup_x1, 1) := by decide +kernel
theorem dJ0_append_34 : decode cJ0_append 34 = .ok (.iconst 1, 1) := by decide +kernel
theorem dJ0_append_35 : decode cJ0_append 35 = .ok (.iadd, 1) := by decide +kernel
theorem dJ0_append_36 : decode cJ0_append 36 = .ok (.putfield 79, 3) := by decide +kernel
theorem dJ0_append_39 : decode cJ0_append 39 = .ok (.iload_n 1, 1) := by decide +kernel
theorem dJ0_append_40 : decode cJ0_append 40 = .ok (.i2b, 1) := by decide +kernel
theorem dJ0_append_41 : decode cJ0_append 41 = .ok (.bastore, 1) := by decide +kernel
theorem dJ0_append_42 : decode cJ0_append 42 = .ok (.goto 33, 3) := by decide +kernel
theorem dJ0_append_45 : decode cJ0_append 45 = .ok (.aload_n 0, 1) := by decide +kernel
theorem dJ0_append_46 : decode cJ0_append 46 = .ok (.invokevirtual 83, 3) := by decide +kernel
theorem dJ0_append_49 : decode cJ0_append 49 = .ok (.ifCond .eq 7, 3) := by decide +kernel
theorem dJ0_append_52 : decode cJ0_append 52 = .ok (.aload_n 0, 1) := by decide +kernel
theorem dJ0_append_53 : decode cJ0_append 53 = .ok (.invokevirtual 195, 3) := by decide +kernel
theorem dJ0_append_56 : decode cJ0_append 56 = .ok (.aload_n 0, 1) := by decide +kernel
theorem dJ0_append_57 : decode cJ0_append 57 = .ok (.getfield 15, 3) := by decide +kernel
theorem dJ0_append_60 : decode cJ0_append 60 = .ok (.aload_n 0, 1) := by decide +kernel
theorem dJ0_append_61 : decode cJ0_append 61 = .ok (.dup, 1) := by decide +kernel
theorem dJ0_append_62 : decode cJ0_append 62 = .ok (.getfield 79, 3) := by decide +kernel
theorem dJ0_append_65 : decode cJ0_append 65 = .ok (.dup_x1, 1) := by decide +kernel
theorem dJ0_append_66 : decode cJ0_append 66 = .ok (.iconst 1, 1) := by decide +kernel
theorem dJ0_append_67 : decode cJ0_append 67 = .ok (.iadd, 1) := by decide +kernel
theorem dJ0_append_68 : decode cJ0_append 68 = .ok (.putfield 79, 3) := by decide +kernel
theorem dJ0_append_71 : decode cJ0_append 71 = .ok (.iload_n 1, 1) := by decide +kernel
theorem dJ0_append_72 : decode cJ0_append 72 = .ok (.invokestatic 197, 3) := by decide +kernel
theorem dJ0_append_75 : decode cJ0_append 75 = .ok (.aload_n 0, 1) := by decide +kernel
theorem dJ0_append_76 : decode cJ0_append 76 = .ok (.areturn, 1) := by decide +kernel
def w_J0_append_b45 (a : Nat) (N : Rf → HS → Prop) (X : Nat → HS → Prop) (l1 : Int32) (S : HS) : Prop :=
  w_J0_isLatin1 a S (fun r2 S1 =>
   ((r2 = 0 → ∀ S4, S4 = sI S1 79 a ((hI S1 79 a) + (1 : Int32)) → False) ∧
    (¬ r2 = 0 → False))) X
theorem y_J0_append_b45 {I : Iv} {a : Nat} {N : Rf → HS → Prop} {X : Nat → HS → Prop} (cx : Cx I RJ0 cJ0_append 2 (some (.object "java/lang/AbstractStringBuilder")) 2 [] false) (l1 : Int32) (S : HS) (h : w_J0_append_b45 a N X l1 S) : Y Eq I (oR N X) 45 [some (vR (some (15, a, []))), some (vI l1)] [] S := by
  unfold w_J0_append_b45 at h
  refine y_aload_n 0 cx dJ0_append_45 rfl rfl ?_
  refine y_callI (d := 1) [vR (some (15, a, []))] [] cx rfl rfl (fun l G => ct_J0_isLatin1 a S _ _ h) (lw_meth q472) (by decide) (Or.inl q472) q78 (link_VU (x := ⟨"java/lang/AbstractStringBuilder", "isLatin1", "()Z"⟩) (owner := "java/lang/AbstractStringBuilder") (C := "java/lang/StringBuilder") cx (Or.inl ⟨rfl, rfl⟩) q468 q470 (Or.inr ⟨_, _, _, q469, q472⟩) q469 q471 (by decide +kernel) rfl dJ0_append_46) (Nat.le_of_ble_eq_true rfl) (fun r2 S1 h => ?_) (fun a x' hx => hx)
  refine y_if_eq 56 cx dJ0_append_49 (by decide) (fun c3 => ?_) (fun c3 => ?_)
  · replace h := h.1 c3
    refine y_aload_n 0 cx dJ0_append_56 rfl rfl ?_
    refine y_getR cx fe_76 (Or.inl q135) (Or.inl rfl) dJ0_append_57 (by decide) ?_
    refine y_aload_n 0 cx dJ0_append_60 rfl rfl ?_
    refine y_dupr cx dJ0_append_61 ?_
    refine y_getI cx fe_79 (Or.inl q139) (Or.inl rfl) dJ0_append_62 (by decide) ?_
    refine y_dup_x1ir cx dJ0_append_65 ?_
    refine y_iconst (v := 1) cx dJ0_append_66 (by decide) ?_
    refine y_iadd cx dJ0_append_67 ?_
    refine y_putI cx fe_79 (Or.inl q139) (Or.inl rfl) (Or.inl rfl) dJ0_append_68 (by decide) pdI ⟨rfl, rfl⟩ ?_
    refine y_nmS (fun S4 e5 => ?_)
    replace h := h S4 e5
    refine y_iload_n 1 cx dJ0_append_71 rfl rfl ?_
    exact False.elim h
  · replace h := h.2 c3
    refine y_aload_n 0 cx dJ0_append_52 rfl rfl ?_
    exact False.elim h
def w_J0_append (a : Nat) (l1 : Int32) (S : HS) (N : Rf → HS → Prop) (X : Nat → HS → Prop) : Prop :=
  w_J0_ensureCapacityInternal a ((hI S 79 a) + (1 : Int32)) S (fun S6 =>
   w_J0_isLatin1 a S6 (fun r8 S7 =>
    ((r8 = 0 → w_J0_append_b45 a N X l1 S7) ∧
     (¬ r8 = 0 → w_J10_canEncode l1 S7 (fun r11 S10 =>
       ((r11 = 0 → w_J0_append_b45 a N X l1 S10) ∧
        (¬ r11 = 0 → ∀ S13, S13 = sI S10 79 a ((hI S10 79 a) + (1 : Int32)) → ∃ a15, (hR S10 76 a) = some (101, a15, []) ∧ vp_in (hI S10 79 a) (hN S13 a15) ∧ (l1.toInt8.toInt32).toInt8.toInt32 = (l1.toInt8.toInt32) ∧ ∀ S19, S19 = sY S13 a15 (hI S10 79 a).toNatClampNeg (l1.toInt8.toInt32) → N (some (15, a, [])) S19)))))) X) X
theorem ct_J0_append {l : Launch} {G : GT} (a : Nat) (l1 : Int32) (S : HS) (N : Rf → HS → Prop) (X : Nat → HS → Prop) (h : w_J0_append a l1 S N X) : Ct Eq l yJ0_append (ws_ yJ0_append cJ0_append 2 (some (.object "java/lang/AbstractStringBuilder"))) 2 G [vR (some (15, a, [])), vI l1] S (oR N X) := by
  refine Ct.ofY (cc := cJ0_append) (maxL := 2) (ret := (some (.object "java/lang/AbstractStringBuilder"))) [some (vR (some (15, a, []))), some (vI l1)] false (by decide +kernel) (fun h => by cases h) rfl rfl (Nat.le_of_ble_eq_true rfl) (fun I cx => ?_)
  unfold w_J0_append at h
  refine y_aload_n 0 cx dJ0_append_0 rfl rfl ?_
  refine y_aload_n 0 cx dJ0_append_1 rfl rfl ?_
  refine y_getI cx fe_79 (Or.inl q139) (Or.inl rfl) dJ0_append_2 (by decide) ?_
  refine y_iconst (v := 1) cx dJ0_append_5 (by decide) ?_
  refine y_iadd cx dJ0_append_6 ?_
  refine y_callV (d := 1) [vR (some (15, a, [])), vI ((hI S 79 a) + (1 : Int32))] [] cx rfl rfl (fun l G => ct_J0_ensureCapacityInternal a ((hI S 79 a) + (1 : Int32)) S _ _ h) (lw_meth q436) (by decide) (Or.inl q436) q78 (link_P (C := "java/lang/StringBuilder") cx (Or.inl ⟨rfl, rfl⟩) q433 q1427 q435 q434 q436 md_J0_ensureCapacityInternal rfl dJ0_append_7) (Nat.le_of_ble_eq_true rfl) (fun S6 h => ?_) (fun a x' hx => hx)
  refine y_aload_n 0 cx dJ0_append_10 rfl rfl ?_
  refine y_callI (d := 1) [vR (some (15, a, []))] [] cx rfl rfl (fun l G => ct_J0_isLatin1 a S6 _ _ h) (lw_meth q472) (by decide) (Or.inl q472) q78 (link_VU (x := ⟨"java/lang/AbstractStringBuilder", "isLatin1", "()Z"⟩) (owner := "java/lang/AbstractStringBuilder") (C := "java/lang/StringBuilder") cx (Or.inl ⟨rfl, rfl⟩) q468 q470 (Or.inr ⟨_, _, _, q469, q472⟩) q469 q471 (by decide +kernel) rfl dJ0_append_11) (Nat.le_of_ble_eq_true rfl) (fun r8 S7 h => ?_) (fun a x' hx => hx)
  refine y_if_eq 45 cx dJ0_append_14 (by decide) (fun c9 => ?_) (fun c9 => ?_)
  · replace h := h.1 c9
    exact y_J0_append_b45 cx l1 S7 h
  · replace h := h.2 c9
    refine y_iload_n 1 cx dJ0_append_17 rfl rfl ?_
    refine y_callI (d := 1) [vI l1] [] cx rfl rfl (fun l G => ct_J10_canEncode l1 S7 _ h) (lw_meth q495) (by decide) (Or.inl q495) q95 (link_S cx (Or.inl q493) q494 q95 q495 md_J10_canEncode rfl dJ0_append_18) (Nat.le_of_ble_eq_true rfl) (fun r11 S10 h => ?_) (fun a x' hx => hx.elim)
    refine y_if_eq 45 cx dJ0_append_21 (by decide) (fun c12 => ?_) (fun c12 => ?_)
    · replace h := h.1 c12
      exact y_J0_append_b45 cx l1 S10 h
    · replace h := h.2 c12
      refine y_aload_n 0 cx dJ0_append_24 rfl rfl ?_
      refine y_getR cx fe_76 (Or.inl q135) (Or.inl rfl) dJ0_append_25 (by decide) ?_
      refine y_aload_n 0 cx dJ0_append_28 rfl rfl ?_
      refine y_dupr cx dJ0_append_29 ?_
      refine y_getI cx fe_79 (Or.inl q139) (Or.inl rfl) dJ0_append_30 (by decide) ?_
      refine y_dup_x1ir cx dJ0_append_33 ?_
      refine y_iconst (v := 1) cx dJ0_append_34 (by decide) ?_
      refine y_iadd cx dJ0_append_35 ?_
      refine y_putI cx fe_79 (Or.inl q139) (Or.inl rfl) (Or.inl rfl) dJ0_append_36 (by decide) pdI ⟨rfl, rfl⟩ ?_
      refine y_nmS (fun S13 e14 => ?_)
      replace h := h S13 e14
      refine y_iload_n 1 cx dJ0_append_39 rfl rfl ?_
      refine y_i2b cx dJ0_append_40 ?_
      obtain ⟨a15, e16, h⟩ := h
      refine y_eqR2 e16 ?_
      obtain ⟨h17, h⟩ := h
      obtain ⟨h18, h⟩ := h
      refine y_bast cx dJ0_append_41 h17 h18 ?_
      refine y_nmS (fun S19 e20 => ?_)
      replace h := h S19 e20
      refine y_goto 75 cx dJ0_append_42 (by decide) ?_
      refine y_aload_n 0 cx dJ0_append_75 rfl rfl ?_
      exact y_aret cx (Or.inl ⟨_, rfl⟩) dJ0_append_76 h
theorem md_J0_append : yJ0_append.cls ≠ "java/lang/invoke/MethodHandle" ∧ yJ0_append.cls ≠ "java/lang/invoke/VarHandle" ∧ (parseMethodDescriptor yJ0_append.desc).map (fun d => d.parameters.length) = some 1 := by decide +kernel
/-! java/lang/StringBuilder.append -/
theorem dJ1_append_0 : decode cJ1_append 0 = .ok (.aload_n 0, 1) := by decide +kernel
theorem dJ1_append_1 : decode cJ1_append 1 = .ok (.iload_n 1, 1) := by decide +kernel
theorem dJ1_append_2 : decode cJ1_append 2 = .ok (.invokespecial 50, 3) := by decide +kernel
theorem dJ1_append_5 : decode cJ1_append 5 = .ok (.pop, 1) := by decide +kernel
theorem dJ1_append_6 : decode cJ1_append 6 = .ok (.aload_n 0, 1) := by decide +kernel
theorem dJ1_append_7 : decode cJ1_append 7 = .ok (.areturn, 1) := by decide +kernel
def w_J1_append (a : Nat) (l1 : Int32) (S : HS) (N : Rf → HS → Prop) (X : Nat → HS → Prop) : Prop :=
  w_J0_append a l1 S (fun r2 S1 =>
   N (some (15, a, [])) S1) X
theorem ct_J1_append {l : Launch} {G : GT} (a : Nat) (l1 : Int32) (S : HS) (N : Rf → HS → Prop) (X : Nat → HS → Prop) (h : w_J1_append a l1 S N X) : Ct Eq l yJ1_append (ws_ yJ1_append cJ1_append 2 (some (.object "java/lang/StringBuilder"))) 3 G [vR (some (15, a, [])), vI l1] S (oR N X) := by
  refine Ct.ofY (cc := cJ1_append) (maxL := 2) (ret := (some (.object "java/lang/StringBuilder"))) [some (vR (some (15, a, []))), some (vI l1)] false (by decide +kernel) (fun h => by cases h) rfl rfl (Nat.le_of_ble_eq_true rfl) (fun I cx => ?_)
  unfold w_J1_append at h
  refine y_aload_n 0 cx dJ1_append_0 rfl rfl ?_
  refine y_iload_n 1 cx dJ1_append_1 rfl rfl ?_
  refine y_callR (d := 2) [vR (some (15, a, [])), vI l1] [] cx rfl rfl (fun l G => ct_J0_append a l1 S _ _ h) (lw_meth q492) (by decide) (Or.inl q492) q78 (link_SU (sup := "java/lang/AbstractStringBuilder") (C := "java/lang/StringBuilder") cx (Or.inl ⟨rfl, rfl⟩) q490 q1429 q148 (Or.inl rfl) q491 q492 (by decide +kernel) md_J0_append rfl dJ1_append_2) (Nat.le_of_ble_eq_true rfl) (fun r2 S1 h => ?_) (fun a x' hx => hx)
  refine y_popr cx dJ1_append_5 ?_
  refine y_aload_n 0 cx dJ1_append_6 rfl rfl ?_
  exact y_aret cx (Or.inl ⟨_, rfl⟩) dJ1_append_7 h
theorem md_J1_append : yJ1_append.cls ≠ "java/lang/invoke/MethodHandle" ∧ yJ1_append.cls ≠ "java/lang/invoke/VarHandle" ∧ (parseMethodDescriptor yJ1_append.desc).map (fun d => d.parameters.length) = some 1 := by decide +kernel
/-! java/lang/AbstractStringBuilder.getValue -/
theorem dJ0_getValue_0 : decode cJ0_getValue 0 = .ok (.aload_n 0, 1) := by decide +kernel
theorem dJ0_getValue_1 : decode cJ0_getValue 1 = .ok (.getfield 15, 3) := by decide +kernel
theorem dJ0_getValue_4 : decode cJ0_getValue 4 = .ok (.areturn, 1) := by decide +kernel
def w_J0_getValue (a : Nat) (S : HS) (N : Rf → HS → Prop) (X : Nat → HS → Prop) : Prop :=
  N (hR S 76 a) S
theorem ct_J0_getValue {l : Launch} {G : GT} (a : Nat) (S : HS) (N : Rf → HS → Prop) (X : Nat → HS → Prop) (h : w_J0_getValue a S N X) : Ct Eq l yJ0_getValue (ws_ yJ0_getValue cJ0_getValue 1 (some (.array .byte))) 1 G [vR (some (15, a, []))] S (oR N X) := by
  refine Ct.ofY (cc := cJ0_getValue) (maxL := 1) (ret := (some (.array .byte))) [some (vR (some (15, a, [])))] false (by decide +kernel) (fun h => by cases h) rfl rfl (Nat.le_of_ble_eq_true rfl) (fun I cx => ?_)
  unfold w_J0_getValue at h
  refine y_aload_n 0 cx dJ0_getValue_0 rfl rfl ?_
  refine y_getR cx fe_76 (Or.inl q135) (Or.inl rfl) dJ0_getValue_1 (by decide) ?_
  exact y_aret cx (Or.inr ⟨_, rfl⟩) dJ0_getValue_4 h
theorem md_J0_getValue : yJ0_getValue.cls ≠ "java/lang/invoke/MethodHandle" ∧ yJ0_getValue.cls ≠ "java/lang/invoke/VarHandle" ∧ (parseMethodDescriptor yJ0_getValue.desc).map (fun d => d.parameters.length) = some 0 := by decide +kernel
/-! java/lang/AbstractStringBuilder.length -/
theorem dJ0_length_0 : decode cJ0_length 0 = .ok (.aload_n 0, 1) := by decide +kernel
theorem dJ0_length_1 : decode cJ0_length 1 = .ok (.getfield 79, 3) := by decide +kernel
theorem dJ0_length_4 : decode cJ0_length 4 = .ok (.ireturn, 1) := by decide +kernel
def w_J0_length (a : Nat) (S : HS) (N : Int32 → HS → Prop) (X : Nat → HS → Prop) : Prop :=
  N (hI S 79 a) S
theorem ct_J0_length {l : Launch} {G : GT} (a : Nat) (S : HS) (N : Int32 → HS → Prop) (X : Nat → HS → Prop) (h : w_J0_length a S N X) : Ct Eq l yJ0_length (ws_ yJ0_length cJ0_length 1 (some .int)) 1 G [vR (some (15, a, []))] S (oI N X) := by
  refine Ct.ofY (cc := cJ0_length) (maxL := 1) (ret := (some .int)) [some (vR (some (15, a, [])))] false (by decide +kernel) (fun h => by cases h) rfl rfl (Nat.le_of_ble_eq_true rfl) (fun I cx => ?_)
  unfold w_J0_length at h
  refine y_aload_n 0 cx dJ0_length_0 rfl rfl ?_
  refine y_getI cx fe_79 (Or.inl q139) (Or.inl rfl) dJ0_length_1 (by decide) ?_
  exact y_iret cx dJ0_length_4 h
theorem md_J0_length : yJ0_length.cls ≠ "java/lang/invoke/MethodHandle" ∧ yJ0_length.cls ≠ "java/lang/invoke/VarHandle" ∧ (parseMethodDescriptor yJ0_length.desc).map (fun d => d.parameters.length) = some 0 := by decide +kernel
/-! java/lang/StringBuilder.length -/
theorem dJ1_length_0 : decode cJ1_length 0 = .ok (.aload_n 0, 1) := by decide +kernel
theorem dJ1_length_1 : decode cJ1_length 1 = .ok (.invokespecial 343, 3) := by decide +kernel
theorem dJ1_length_4 : decode cJ1_length 4 = .ok (.ireturn, 1) := by decide +kernel
def w_J1_length (a : Nat) (S : HS) (N : Int32 → HS → Prop) (X : Nat → HS → Prop) : Prop :=
  w_J0_length a S (fun r2 S1 =>
   N r2 S1) X
theorem ct_J1_length {l : Launch} {G : GT} (a : Nat) (S : HS) (N : Int32 → HS → Prop) (X : Nat → HS → Prop) (h : w_J1_length a S N X) : Ct Eq l yJ1_length (ws_ yJ1_length cJ1_length 1 (some .int)) 2 G [vR (some (15, a, []))] S (oI N X) := by
  refine Ct.ofY (cc := cJ1_length) (maxL := 1) (ret := (some .int)) [some (vR (some (15, a, [])))] false (by decide +kernel) (fun h => by cases h) rfl rfl (Nat.le_of_ble_eq_true rfl) (fun I cx => ?_)
  unfold w_J1_length at h
  refine y_aload_n 0 cx dJ1_length_0 rfl rfl ?_
  refine y_callI (d := 1) [vR (some (15, a, []))] [] cx rfl rfl (fun l G => ct_J0_length a S _ _ h) (lw_meth q568) (by decide) (Or.inl q568) q78 (link_SU (sup := "java/lang/AbstractStringBuilder") (C := "java/lang/StringBuilder") cx (Or.inl ⟨rfl, rfl⟩) q567 q563 q148 (Or.inl rfl) q562 q568 (by decide +kernel) md_J0_length rfl dJ1_length_1) (Nat.le_of_ble_eq_true rfl) (fun r2 S1 h => ?_) (fun a x' hx => hx)
  exact y_iret cx dJ1_length_4 h
theorem md_J1_length : yJ1_length.cls ≠ "java/lang/invoke/MethodHandle" ∧ yJ1_length.cls ≠ "java/lang/invoke/VarHandle" ∧ (parseMethodDescriptor yJ1_length.desc).map (fun d => d.parameters.length) = some 0 := by decide +kernel
/-! java/util/Arrays.checkLength -/
theorem dJ9_checkLength_0 : decode cJ9_checkLength 0 = .ok (.iload_n 1, 1) := by decide +kernel
theorem dJ9_checkLength_1 : decode cJ9_checkLength 1 = .ok (.iload_n 0, 1) := by decide +kernel
theorem dJ9_checkLength_2 : decode cJ9_checkLength 2 = .ok (.if_icmp .ge 35, 3) := by decide +kernel
theorem dJ9_checkLength_5 : decode cJ9_checkLength 5 = .ok (.new 43, 3) := by decide +kernel
theorem dJ9_checkLength_37 : decode cJ9_checkLength 37 = .ok (.return_, 1) := by decide +kernel
def w_J9_checkLength (l0 : Int32) (l1 : Int32) (S : HS) (N : HS → Prop) (X : Nat → HS → Prop) : Prop :=
  ((l0 ≤ l1 → N S) ∧
   (¬ l0 ≤ l1 → False))
theorem ct_J9_checkLength {l : Launch} {G : GT} (l0 : Int32) (l1 : Int32) (S : HS) (N : HS → Prop) (X : Nat → HS → Prop) (h : w_J9_checkLength l0 l1 S N X) : Ct Eq l yJ9_checkLength (ws_ yJ9_checkLength cJ9_checkLength 2 none) 1 G [vI l0, vI l1] S (oV N X) := by
  refine Ct.ofY (cc := cJ9_checkLength) (maxL := 2) (ret := none) [some (vI l0), some (vI l1)] false (by decide +kernel) (fun h => by cases h) rfl rfl (Nat.le_of_ble_eq_true rfl) (fun I cx => ?_)
  unfold w_J9_checkLength at h
  refine y_iload_n 1 cx dJ9_checkLength_0 rfl rfl ?_
  refine y_iload_n 0 cx dJ9_checkLength_1 rfl rfl ?_
  refine y_icmp_ge 37 cx dJ9_checkLength_2 (by decide) (fun c1 => ?_) (fun c1 => ?_)
  · replace h := h.1 c1
    exact y_vret cx dJ9_checkLength_37 h
  · replace h := h.2 c1
    exact False.elim h
theorem md_J9_checkLength : yJ9_checkLength.cls ≠ "java/lang/invoke/MethodHandle" ∧ yJ9_checkLength.cls ≠ "java/lang/invoke/VarHandle" ∧ (parseMethodDescriptor yJ9_checkLength.desc).map (fun d => d.parameters.length) = some 2 := by decide +kernel
/-! java/util/Arrays.copyOfRangeByte -/
theorem dJ9_copyOfRangeByte_0 : decode cJ9_copyOfRangeByte 0 = .ok (.iload_n 1, 1) := by decide +kernel
theorem dJ9_copyOfRangeByte_1 : decode cJ9_copyOfRangeByte 1 = .ok (.iload_n 2, 1) := by decide +kernel
theorem dJ9_copyOfRangeByte_2 : decode cJ9_copyOfRangeByte 2 = .ok (.invokestatic 343, 3) := by decide +kernel
theorem dJ9_copyOfRangeByte_5 : decode cJ9_copyOfRangeByte 5 = .ok (.iload_n 2, 1) := by decide +kernel
theorem dJ9_copyOfRangeByte_6 : decode cJ9_copyOfRangeByte 6 = .ok (.iload_n 1, 1) := by decide +kernel
theorem dJ9_copyOfRangeByte_7 : decode cJ9_copyOfRangeByte 7 = .ok (.isub, 1) := by decide +kernel
theorem dJ9_copyOfRangeByte_8 : decode cJ9_copyOfRangeByte 8 = .ok (.istore_n 3, 1) := by decide +kernel
theorem dJ9_copyOfRangeByte_9 : decode cJ9_copyOfRangeByte 9 = .ok (.iload_n 3, 1) := by decide +kernel
theorem dJ9_copyOfRangeByte_10 : decode cJ9_copyOfRangeByte 10 = .ok (.newarray .byte, 2) := by decide +kernel
theorem dJ9_copyOfRangeByte_12 : decode cJ9_copyOfRangeByte 12 = .ok (.astore 4, 2) := by decide +kernel
theorem dJ9_copyOfRangeByte_14 : decode cJ9_copyOfRangeByte 14 = .ok (.aload_n 0, 1) := by decide +kernel
theorem dJ9_copyOfRangeByte_15 : decode cJ9_copyOfRangeByte 15 = .ok (.iload_n 1, 1) := by decide +kernel
theorem dJ9_copyOfRangeByte_16 : decode cJ9_copyOfRangeByte 16 = .ok (.aload 4, 2) := by decide +kernel
theorem dJ9_copyOfRangeByte_18 : decode cJ9_copyOfRangeByte 18 = .ok (.iconst 0, 1) := by decide +kernel
theorem dJ9_copyOfRangeByte_19 : decode cJ9_copyOfRangeByte 19 = .ok (.aload_n 0, 1) := by decide +kernel
theorem dJ9_copyOfRangeByte_20 : decode cJ9_copyOfRangeByte 20 = .ok (.arraylength, 1) := by decide +kernel
theorem dJ9_copyOfRangeByte_21 : decode cJ9_copyOfRangeByte 21 = .ok (.iload_n 1, 1) := by decide +kernel
theorem dJ9_copyOfRangeByte_22 : decode cJ9_copyOfRangeByte 22 = .ok (.isub, 1) := by decide +kernel
theorem dJ9_copyOfRangeByte_23 : decode cJ9_copyOfRangeByte 23 = .ok (.iload_n 3, 1) := by decide +kernel
theorem dJ9_copyOfRangeByte_24 : decode cJ9_copyOfRangeByte 24 = .ok (.invokestatic 304, 3) := by decide +kernel
theorem dJ9_copyOfRangeByte_27 : decode cJ9_copyOfRangeByte 27 = .ok (.invokestatic 150, 3) := by decide +kernel
theorem dJ9_copyOfRangeByte_30 : decode cJ9_copyOfRangeByte 30 = .ok (.aload 4, 2) := by decide +kernel
theorem dJ9_copyOfRangeByte_32 : decode cJ9_copyOfRangeByte 32 = .ok (.areturn, 1) := by decide +kernel
def w_J9_copyOfRangeByte (l0 : Rf) (l1 : Int32) (l2 : Int32) (S : HS) (N : Rf → HS → Prop) (X : Nat → HS → Prop) : Prop :=
  w_J9_checkLength l1 l2 S (fun S1 =>
   ∀ v2, v2 = (l2 - l1) → ¬ v2 < 0 ∧ v2.toNatClampNeg ≤ 65536 ∧ 1 ≤ hB S1 ∧ v2.toNatClampNeg ≤ hU S1 ∧ ∀ a8 S9, a8 = hZ S1 → S9 = sN S1 101 v2.toNatClampNeg → ∃ a12, l0 = some (101, a12, []) ∧ ¬ l1 < 0 ∧ ¬ (0 : Int32) < 0 ∧ ¬ (if v2 < ((nI (hN S9 a12)) - l1) then v2 else ((nI (hN S9 a12)) - l1)) < 0 ∧ l1.toNatClampNeg + (if v2 < ((nI (hN S9 a12)) - l1) then v2 else ((nI (hN S9 a12)) - l1)).toNatClampNeg ≤ hN S9 a12 ∧ (0 : Int32).toNatClampNeg + (if v2 < ((nI (hN S9 a12)) - l1) then v2 else ((nI (hN S9 a12)) - l1)).toNatClampNeg ≤ hN S9 a8 ∧ (∀ i, i < (if v2 < ((nI (hN S9 a12)) - l1) then v2 else ((nI (hN S9 a12)) - l1)).toNatClampNeg → fits .byte (.int (hY S9 a12 (l1.toNatClampNeg + i))) = true) ∧ ∀ S20, S20 = sK S9 a12 l1.toNatClampNeg a8 (0 : Int32).toNatClampNeg (if v2 < ((nI (hN S9 a12)) - l1) then v2 else ((nI (hN S9 a12)) - l1)).toNatClampNeg → N (some (101, a8, [])) S20) X
theorem ct_J9_copyOfRangeByte {l : Launch} {G : GT} (l0 : Rf) (l1 : Int32) (l2 : Int32) (S : HS) (N : Rf → HS → Prop) (X : Nat → HS → Prop) (h : w_J9_copyOfRangeByte l0 l1 l2 S N X) : Ct Eq l yJ9_copyOfRangeByte (ws_ yJ9_copyOfRangeByte cJ9_copyOfRangeByte 5 (some (.array .byte))) 2 G [vR l0, vI l1, vI l2] S (oR N X) := by
  refine Ct.ofY (cc := cJ9_copyOfRangeByte) (maxL := 5) (ret := (some (.array .byte))) [some (vR l0), some (vI l1), some (vI l2), none, none] false (by decide +kernel) (fun h => by cases h) rfl rfl (Nat.le_of_ble_eq_true rfl) (fun I cx => ?_)
  unfold w_J9_copyOfRangeByte at h
  refine y_iload_n 1 cx dJ9_copyOfRangeByte_0 rfl rfl ?_
  refine y_iload_n 2 cx dJ9_copyOfRangeByte_1 rfl rfl ?_
  refine y_callV (d := 1) [vI l1, vI l2] [] cx rfl rfl (fun l G => ct_J9_checkLength l1 l2 S _ _ h) (lw_meth q578) (by decide) (Or.inl q578) q93 (link_S cx (Or.inl q576) q577 q93 q578 md_J9_checkLength rfl dJ9_copyOfRangeByte_2) (Nat.le_of_ble_eq_true rfl) (fun S1 h => ?_) (fun a x' hx => hx)
  refine y_iload_n 2 cx dJ9_copyOfRangeByte_5 rfl rfl ?_
  refine y_iload_n 1 cx dJ9_copyOfRangeByte_6 rfl rfl ?_
  refine y_isub cx dJ9_copyOfRangeByte_7 ?_
  refine y_nmI (fun v2 e3 => ?_)
  replace h := h v2 e3
  refine y_istore_n 3 [some (vR l0), some (vI l1), some (vI l2), some (vI v2), none] cx dJ9_copyOfRangeByte_8 rfl (Nat.le_of_ble_eq_true rfl) trivial rfl ?_
  refine y_iload_n 3 cx dJ9_copyOfRangeByte_9 rfl rfl ?_
  obtain ⟨h4, h⟩ := h
  obtain ⟨h5, h⟩ := h
  obtain ⟨h6, h⟩ := h
  obtain ⟨h7, h⟩ := h
  refine y_newbN cx q150 dJ9_copyOfRangeByte_10 h4 h5 h6 h7 (fun a8 S9 e10 e11 => ?_)
  replace h := h a8 S9 e10 e11
  refine y_astore 4 [some (vR l0), some (vI l1), some (vI l2), some (vI v2), some (vR (some (101, a8, [])))] cx dJ9_copyOfRangeByte_12 (Nat.le_of_ble_eq_true rfl) trivial rfl ?_
  refine y_aload_n 0 cx dJ9_copyOfRangeByte_14 rfl rfl ?_
  refine y_iload_n 1 cx dJ9_copyOfRangeByte_15 rfl rfl ?_
  refine y_aload 4 cx dJ9_copyOfRangeByte_16 rfl ?_
  refine y_iconst (v := 0) cx dJ9_copyOfRangeByte_18 (by decide) ?_
  refine y_aload_n 0 cx dJ9_copyOfRangeByte_19 rfl rfl ?_
  obtain ⟨a12, e13, h⟩ := h
  subst e13
  refine y_alen cx dJ9_copyOfRangeByte_20 (by decide) ?_
  refine y_iload_n 1 cx dJ9_copyOfRangeByte_21 rfl rfl ?_
  refine y_isub cx dJ9_copyOfRangeByte_22 ?_
  refine y_iload_n 3 cx dJ9_copyOfRangeByte_23 rfl rfl ?_
  refine y_min (d := 1) cx q462 q463 q92 q464 dJ9_copyOfRangeByte_24 rfl (Nat.le_of_ble_eq_true rfl) ?_
  obtain ⟨h14, h⟩ := h
  obtain ⟨h15, h⟩ := h
  obtain ⟨h16, h⟩ := h
  obtain ⟨h17, h⟩ := h
  obtain ⟨h18, h⟩ := h
  obtain ⟨h19, h⟩ := h
  refine y_copyB (d := 1) cx q465 q467 q466 q94 dJ9_copyOfRangeByte_27 rfl (Nat.le_of_ble_eq_true rfl) h14 h15 h16 h17 h18 h19 ?_
  refine y_nmS (fun S20 e21 => ?_)
  replace h := h S20 e21
  refine y_aload 4 cx dJ9_copyOfRangeByte_30 rfl ?_
  exact y_aret cx (Or.inr ⟨_, rfl⟩) dJ9_copyOfRangeByte_32 h
theorem md_J9_copyOfRangeByte : yJ9_copyOfRangeByte.cls ≠ "java/lang/invoke/MethodHandle" ∧ yJ9_copyOfRangeByte.cls ≠ "java/lang/invoke/VarHandle" ∧ (parseMethodDescriptor yJ9_copyOfRangeByte.desc).map (fun d => d.parameters.length) = some 3 := by decide +kernel
/-! java/util/Arrays.copyOfRange -/
theorem dJ9_copyOfRange_0 : decode cJ9_copyOfRange 0 = .ok (.iload_n 1, 1) := by decide +kernel
theorem dJ9_copyOfRange_1 : decode cJ9_copyOfRange 1 = .ok (.ifCond .ne 9, 3) := by decide +kernel
theorem dJ9_copyOfRange_4 : decode cJ9_copyOfRange 4 = .ok (.iload_n 2, 1) := by decide +kernel
theorem dJ9_copyOfRange_5 : decode cJ9_copyOfRange 5 = .ok (.aload_n 0, 1) := by decide +kernel
theorem dJ9_copyOfRange_6 : decode cJ9_copyOfRange 6 = .ok (.arraylength, 1) := by decide +kernel
theorem dJ9_copyOfRange_7 : decode cJ9_copyOfRange 7 = .ok (.if_icmp .eq 10, 3) := by decide +kernel
theorem dJ9_copyOfRange_10 : decode cJ9_copyOfRange 10 = .ok (.aload_n 0, 1) := by decide +kernel
theorem dJ9_copyOfRange_11 : decode cJ9_copyOfRange 11 = .ok (.iload_n 1, 1) := by decide +kernel
theorem dJ9_copyOfRange_12 : decode cJ9_copyOfRange 12 = .ok (.iload_n 2, 1) := by decide +kernel
theorem dJ9_copyOfRange_13 : decode cJ9_copyOfRange 13 = .ok (.invokestatic 339, 3) := by decide +kernel
theorem dJ9_copyOfRange_16 : decode cJ9_copyOfRange 16 = .ok (.areturn, 1) := by decide +kernel
theorem dJ9_copyOfRange_17 : decode cJ9_copyOfRange 17 = .ok (.aload_n 0, 1) := by decide +kernel
theorem dJ9_copyOfRange_18 : decode cJ9_copyOfRange 18 = .ok (.invokevirtual 310, 3) := by decide +kernel
def w_J9_copyOfRange_b10 (N : Rf → HS → Prop) (X : Nat → HS → Prop) (l0 : Rf) (l1 : Int32) (l2 : Int32) (S : HS) : Prop :=
  w_J9_copyOfRangeByte l0 l1 l2 S (fun r2 S1 =>
   N r2 S1) X
theorem y_J9_copyOfRange_b10 {I : Iv} {N : Rf → HS → Prop} {X : Nat → HS → Prop} (cx : Cx I RJ9 cJ9_copyOfRange 3 (some (.array .byte)) 3 [] false) (l0 : Rf) (l1 : Int32) (l2 : Int32) (S : HS) (h : w_J9_copyOfRange_b10 N X l0 l1 l2 S) : Y Eq I (oR N X) 10 [some (vR l0), some (vI l1), some (vI l2)] [] S := by
  unfold w_J9_copyOfRange_b10 at h
  refine y_aload_n 0 cx dJ9_copyOfRange_10 rfl rfl ?_
  refine y_iload_n 1 cx dJ9_copyOfRange_11 rfl rfl ?_
  refine y_iload_n 2 cx dJ9_copyOfRange_12 rfl rfl ?_
  refine y_callR (d := 2) [vR l0, vI l1, vI l2] [] cx rfl rfl (fun l G => ct_J9_copyOfRangeByte l0 l1 l2 S _ _ h) (lw_meth q575) (by decide) (Or.inl q575) q93 (link_S cx (Or.inl q573) q574 q93 q575 md_J9_copyOfRangeByte rfl dJ9_copyOfRange_13) (Nat.le_of_ble_eq_true rfl) (fun r2 S1 h => ?_) (fun a x' hx => hx)
  exact y_aret cx (Or.inr ⟨_, rfl⟩) dJ9_copyOfRange_16 h
def w_J9_copyOfRange (l0 : Rf) (l1 : Int32) (l2 : Int32) (S : HS) (N : Rf → HS → Prop) (X : Nat → HS → Prop) : Prop :=
  ((¬ l1 = 0 → w_J9_copyOfRange_b10 N X l0 l1 l2 S) ∧
   (l1 = 0 → ∃ a4, l0 = some (101, a4, []) ∧ ((l2 = (nI (hN S a4)) → False) ∧
     (¬ l2 = (nI (hN S a4)) → w_J9_copyOfRange_b10 N X (some (101, a4, [])) l1 l2 S))))
theorem ct_J9_copyOfRange {l : Launch} {G : GT} (l0 : Rf) (l1 : Int32) (l2 : Int32) (S : HS) (N : Rf → HS → Prop) (X : Nat → HS → Prop) (h : w_J9_copyOfRange l0 l1 l2 S N X) : Ct Eq l yJ9_copyOfRange (ws_ yJ9_copyOfRange cJ9_copyOfRange 3 (some (.array .byte))) 3 G [vR l0, vI l1, vI l2] S (oR N X) := by
  refine Ct.ofY (cc := cJ9_copyOfRange) (maxL := 3) (ret := (some (.array .byte))) [some (vR l0), some (vI l1), some (vI l2)] false (by decide +kernel) (fun h => by cases h) rfl rfl (Nat.le_of_ble_eq_true rfl) (fun I cx => ?_)
  unfold w_J9_copyOfRange at h
  refine y_iload_n 1 cx dJ9_copyOfRange_0 rfl rfl ?_
  refine y_if_ne 10 cx dJ9_copyOfRange_1 (by decide) (fun c3 => ?_) (fun c3 => ?_)
  · replace h := h.1 c3
    exact y_J9_copyOfRange_b10 cx l0 l1 l2 S h
  · replace h := h.2 c3
    refine y_iload_n 2 cx dJ9_copyOfRange_4 rfl rfl ?_
    refine y_aload_n 0 cx dJ9_copyOfRange_5 rfl rfl ?_
    obtain ⟨a4, e5, h⟩ := h
    subst e5
    refine y_alen cx dJ9_copyOfRange_6 (by decide) ?_
    refine y_icmp_eq 17 cx dJ9_copyOfRange_7 (by decide) (fun c6 => ?_) (fun c6 => ?_)
    · replace h := h.1 c6
      refine y_aload_n 0 cx dJ9_copyOfRange_17 rfl rfl ?_
      exact False.elim h
    · replace h := h.2 c6
      exact y_J9_copyOfRange_b10 cx (some (101, a4, [])) l1 l2 S h
theorem md_J9_copyOfRange : yJ9_copyOfRange.cls ≠ "java/lang/invoke/MethodHandle" ∧ yJ9_copyOfRange.cls ≠ "java/lang/invoke/VarHandle" ∧ (parseMethodDescriptor yJ9_copyOfRange.desc).map (fun d => d.parameters.length) = some 3 := by decide +kernel
/-! java/lang/String.<init> -/
theorem dJ2_init_2_0 : decode cJ2_init_2 0 = .ok (.aload_n 0, 1) := by decide +kernel
theorem dJ2_init_2_1 : decode cJ2_init_2 1 = .ok (.invokespecial 1, 3) := by decide +kernel
theorem dJ2_init_2_4 : decode cJ2_init_2 4 = .ok (.aload_n 1, 1) := by decide +kernel
theorem dJ2_init_2_5 : decode cJ2_init_2 5 = .ok (.invokevirtual 552, 3) := by decide +kernel
theorem dJ2_init_2_8 : decode cJ2_init_2 8 = .ok (.astore_n 3, 1) := by decide +kernel
theorem dJ2_init_2_9 : decode cJ2_init_2 9 = .ok (.aload_n 1, 1) := by decide +kernel
theorem dJ2_init_2_10 : decode cJ2_init_2 10 = .ok (.invokevirtual 549, 3) := by decide +kernel
theorem dJ2_init_2_13 : decode cJ2_init_2 13 = .ok (.istore 4, 2) := by decide +kernel
theorem dJ2_init_2_15 : decode cJ2_init_2 15 = .ok (.aload_n 1, 1) := by decide +kernel
theorem dJ2_init_2_16 : decode cJ2_init_2 16 = .ok (.invokevirtual 1047, 3) := by decide +kernel
theorem dJ2_init_2_19 : decode cJ2_init_2 19 = .ok (.ifCond .eq 22, 3) := by decide +kernel
theorem dJ2_init_2_22 : decode cJ2_init_2 22 = .ok (.aload_n 0, 1) := by decide +kernel
theorem dJ2_init_2_23 : decode cJ2_init_2 23 = .ok (.iconst 0, 1) := by decide +kernel
theorem dJ2_init_2_24 : decode cJ2_init_2 24 = .ok (.putfield 15, 3) := by decide +kernel
theorem dJ2_init_2_27 : decode cJ2_init_2 27 = .ok (.aload_n 0, 1) := by decide +kernel
theorem dJ2_init_2_28 : decode cJ2_init_2 28 = .ok (.aload_n 3, 1) := by decide +kernel
theorem dJ2_init_2_29 : decode cJ2_init_2 29 = .ok (.iconst 0, 1) := by decide +kernel
theorem dJ2_init_2_30 : decode cJ2_init_2 30 = .ok (.iload 4, 2) := by decide +kernel
theorem dJ2_init_2_32 : decode cJ2_init_2 32 = .ok (.invokestatic 54, 3) := by decide +kernel
theorem dJ2_init_2_35 : decode cJ2_init_2 35 = .ok (.putfield 9, 3) := by decide +kernel
theorem dJ2_init_2_38 : decode cJ2_init_2 38 = .ok (.goto 59, 3) := by decide +kernel
theorem dJ2_init_2_41 : decode cJ2_init_2 41 = .ok (.getstatic 38, 3) := by decide +kernel
theorem dJ2_init_2_44 : decode cJ2_init_2 44 = .ok (.ifCond .eq 35, 3) := by decide +kernel
theorem dJ2_init_2_47 : decode cJ2_init_2 47 = .ok (.aload_n 1, 1) := by decide +kernel
theorem dJ2_init_2_48 : decode cJ2_init_2 48 = .ok (.getfield 1048, 3) := by decide +kernel
theorem dJ2_init_2_51 : decode cJ2_init_2 51 = .ok (.ifCond .eq 28, 3) := by decide +kernel
theorem dJ2_init_2_54 : decode cJ2_init_2 54 = .ok (.aload_n 0, 1) := by decide +kernel
theorem dJ2_init_2_55 : decode cJ2_init_2 55 = .ok (.aload_n 3, 1) := by decide +kernel
theorem dJ2_init_2_56 : decode cJ2_init_2 56 = .ok (.iconst 0, 1) := by decide +kernel
theorem dJ2_init_2_57 : decode cJ2_init_2 57 = .ok (.iload 4, 2) := by decide +kernel
theorem dJ2_init_2_59 : decode cJ2_init_2 59 = .ok (.invokestatic 1051, 3) := by decide +kernel
theorem dJ2_init_2_79 : decode cJ2_init_2 79 = .ok (.aload_n 0, 1) := by decide +kernel
theorem dJ2_init_2_80 : decode cJ2_init_2 80 = .ok (.iconst 1, 1) := by decide +kernel
theorem dJ2_init_2_81 : decode cJ2_init_2 81 = .ok (.putfield 15, 3) := by decide +kernel
theorem dJ2_init_2_84 : decode cJ2_init_2 84 = .ok (.aload_n 0, 1) := by decide +kernel
theorem dJ2_init_2_85 : decode cJ2_init_2 85 = .ok (.aload_n 3, 1) := by decide +kernel
theorem dJ2_init_2_86 : decode cJ2_init_2 86 = .ok (.iconst 0, 1) := by decide +kernel
theorem dJ2_init_2_87 : decode cJ2_init_2 87 = .ok (.iload 4, 2) := by decide +kernel
theorem dJ2_init_2_89 : decode cJ2_init_2 89 = .ok (.iconst 1, 1) := by decide +kernel
theorem dJ2_init_2_90 : decode cJ2_init_2 90 = .ok (.ishl, 1) := by decide +kernel
theorem dJ2_init_2_91 : decode cJ2_init_2 91 = .ok (.invokestatic 54, 3) := by decide +kernel
theorem dJ2_init_2_94 : decode cJ2_init_2 94 = .ok (.putfield 9, 3) := by decide +kernel
theorem dJ2_init_2_97 : decode cJ2_init_2 97 = .ok (.return_, 1) := by decide +kernel
def w_J2_init_2_b79 (a : Nat) (N : HS → Prop) (X : Nat → HS → Prop) (l3 : Rf) (l4 : Int32) (S : HS) : Prop :=
  ∀ S1, S1 = sI S 73 a (1 : Int32) → w_J9_copyOfRange l3 (0 : Int32) (l4 <<< ((1 : Int32) &&& 31)) S1 (fun r4 S3 =>
   ∀ S5, S5 = sR S3 72 a r4 → N S5) X
theorem y_J2_init_2_b79 {I : Iv} {a : Nat} {N : HS → Prop} {X : Nat → HS → Prop} (cx : Cx I RJ2 cJ2_init_2 5 none 4 [] true) (l3 : Rf) (l4 : Int32) (S : HS) (h : w_J2_init_2_b79 a N X l3 l4 S) : Y Eq I (oV N X) 79 [some (vR (some (17, a, []))), none, none, some (vR l3), some (vI l4)] [] S := by
  unfold w_J2_init_2_b79 at h
  refine y_aload_n 0 cx dJ2_init_2_79 rfl rfl ?_
  refine y_iconst (v := 1) cx dJ2_init_2_80 (by decide) ?_
  refine y_putI cx fe_73 (Or.inl q594) (Or.inl rfl) (Or.inr ⟨rfl, rfl, rfl, q594⟩) dJ2_init_2_81 (by decide) pdB ⟨rfl, rfl⟩ ?_
  refine y_nmS (fun S1 e2 => ?_)
  replace h := h S1 e2
  refine y_aload_n 0 cx dJ2_init_2_84 rfl rfl ?_
  refine y_aload_n 3 cx dJ2_init_2_85 rfl rfl ?_
  refine y_iconst (v := 0) cx dJ2_init_2_86 (by decide) ?_
  refine y_iload 4 cx dJ2_init_2_87 rfl ?_
  refine y_iconst (v := 1) cx dJ2_init_2_89 (by decide) ?_
  refine y_ishl cx dJ2_init_2_90 ?_
  refine y_callR (d := 3) [vR l3, vI (0 : Int32), vI (l4 <<< ((1 : Int32) &&& 31))] [vR (some (17, a, []))] cx rfl rfl (fun l G => ct_J9_copyOfRange l3 (0 : Int32) (l4 <<< ((1 : Int32) &&& 31)) S1 _ _ h) (lw_meth q572) (by decide) (Or.inl q572) q93 (link_S cx (Or.inl q570) q571 q93 q572 md_J9_copyOfRange rfl dJ2_init_2_91) (Nat.le_of_ble_eq_true rfl) (fun r4 S3 h => ?_) (fun a x' hx => hx)
  refine y_putR cx fe_72 (Or.inl q593) (Or.inl rfl) (Or.inr ⟨rfl, rfl, rfl, q593⟩) dJ2_init_2_94 (by decide) pd_72 (Or.inr ⟨_, rfl⟩) ?_
  refine y_nmS (fun S5 e6 => ?_)
  replace h := h S5 e6
  exact y_vret cx dJ2_init_2_97 h
def w_J2_init_2 (a : Nat) (l1 : Rf) (l2 : Rf) (S : HS) (N : HS → Prop) (X : Nat → HS → Prop) : Prop :=
  ∃ a9, l1 = some (15, a9, []) ∧ w_J0_getValue a9 S (fun r8 S7 =>
   w_J1_length a9 S7 (fun r12 S11 =>
    w_J0_isLatin1 a9 S11 (fun r14 S13 =>
     ((r14 = 0 → (((1 : Int32) = 0 → w_J2_init_2_b79 a N X r8 r12 S13) ∧
        (¬ (1 : Int32) = 0 → (((hI S13 78 a9) = 0 → w_J2_init_2_b79 a N X r8 r12 S13) ∧
          (¬ (hI S13 78 a9) = 0 → False))))) ∧
      (¬ r14 = 0 → ∀ S18, S18 = sI S13 73 a (0 : Int32) → w_J9_copyOfRange r8 (0 : Int32) r12 S18 (fun r21 S20 =>
        ∀ S22, S22 = sR S20 72 a r21 → N S22) X))) X) X) X
theorem ct_J2_init_2 {l : Launch} {G : GT} (a : Nat) (l1 : Rf) (l2 : Rf) (S : HS) (N : HS → Prop) (X : Nat → HS → Prop) (h : w_J2_init_2 a l1 l2 S N X) : Ct Eq l yJ2_init_2 (ws_ yJ2_init_2 cJ2_init_2 5 none) 4 G [vR (some (17, a, [])), vR l1, vR l2] S (oV N X) := by
  refine Ct.ofY (cc := cJ2_init_2) (maxL := 5) (ret := none) [some (vR (some (17, a, []))), some (vR l1), some (vR l2), none, none] true (by decide +kernel) (fun _ => rfl) rfl rfl (Nat.le_of_ble_eq_true rfl) (fun I cx => ?_)
  unfold w_J2_init_2 at h
  refine y_aload_n 0 cx dJ2_init_2_0 rfl rfl ?_
  refine y_objInit (d := 3) cx q555 q113 q114 dJ2_init_2_1 rfl (by rw [catA_sum]; exact Nat.le_of_ble_eq_true rfl) ?_
  refine y_aload_n 1 cx dJ2_init_2_4 rfl rfl ?_
  obtain ⟨a9, e10, h⟩ := h
  subst e10
  refine y_callR (d := 3) [vR (some (15, a9, []))] [] cx rfl rfl (fun l G => ct_J0_getValue a9 S _ _ h) (lw_meth q560) (by decide) (Or.inl q560) q78 (link_VU (x := ⟨"java/lang/AbstractStringBuilder", "getValue", "()[B"⟩) (owner := "java/lang/AbstractStringBuilder") (C := "java/lang/StringBuilder") cx (Or.inl ⟨rfl, rfl⟩) q556 q558 (Or.inr ⟨_, _, _, q557, q560⟩) q557 q559 (by decide +kernel) rfl dJ2_init_2_5) (Nat.le_of_ble_eq_true rfl) (fun r8 S7 h => ?_) (fun a x' hx => hx)
  refine y_astore_n 3 [some (vR (some (17, a, []))), some (vR (some (15, a9, []))), some (vR l2), some (vR r8), none] cx dJ2_init_2_8 rfl (Nat.le_of_ble_eq_true rfl) trivial rfl ?_
  refine y_aload_n 1 cx dJ2_init_2_9 rfl rfl ?_
  refine y_callI (d := 3) [vR (some (15, a9, []))] [] cx rfl rfl (fun l G => ct_J1_length a9 S7 _ _ h) (lw_meth q566) (by decide) (Or.inl q566) q79 (link_VU (x := ⟨"java/lang/AbstractStringBuilder", "length", "()I"⟩) (owner := "java/lang/AbstractStringBuilder") (C := "java/lang/StringBuilder") cx (Or.inl ⟨rfl, rfl⟩) q561 q563 (Or.inr ⟨_, _, _, q562, q568⟩) q565 q564 (by decide +kernel) rfl dJ2_init_2_10) (Nat.le_of_ble_eq_true rfl) (fun r12 S11 h => ?_) (fun a x' hx => hx)
  refine y_istore 4 [some (vR (some (17, a, []))), some (vR (some (15, a9, []))), some (vR l2), some (vR r8), some (vI r12)] cx dJ2_init_2_13 (Nat.le_of_ble_eq_true rfl) trivial rfl ?_
  refine y_aload_n 1 cx dJ2_init_2_15 rfl rfl ?_
  refine y_callI (d := 3) [vR (some (15, a9, []))] [] cx rfl rfl (fun l G => ct_J0_isLatin1 a9 S11 _ _ h) (lw_meth q472) (by decide) (Or.inl q472) q78 (link_VU (x := ⟨"java/lang/AbstractStringBuilder", "isLatin1", "()Z"⟩) (owner := "java/lang/AbstractStringBuilder") (C := "java/lang/StringBuilder") cx (Or.inl ⟨rfl, rfl⟩) q569 q470 (Or.inr ⟨_, _, _, q469, q472⟩) q469 q471 (by decide +kernel) rfl dJ2_init_2_16) (Nat.le_of_ble_eq_true rfl) (fun r14 S13 h => ?_) (fun a x' hx => hx)
  refine y_if_eq 41 cx dJ2_init_2_19 (by decide) (fun c15 => ?_) (fun c15 => ?_)
  · replace h := h.1 c15
    refine y_compact cx q579 dJ2_init_2_41 ?_
    refine y_if_eq 79 cx dJ2_init_2_44 (by decide) (fun c16 => ?_) (fun c16 => ?_)
    · replace h := h.1 c16
      refine y_less [some (vR (some (17, a, []))), none, none, some (vR r8), some (vI r12)] ⟨rfl, ⟨rfl, ⟨rfl, trivial⟩⟩⟩ ?_
      exact y_J2_init_2_b79 cx r8 r12 S13 h
    · replace h := h.2 c16
      refine y_aload_n 1 cx dJ2_init_2_47 rfl rfl ?_
      refine y_getI cx fe_78 (Or.inl q138) (Or.inl rfl) dJ2_init_2_48 (by decide) ?_
      refine y_if_eq 79 cx dJ2_init_2_51 (by decide) (fun c17 => ?_) (fun c17 => ?_)
      · replace h := h.1 c17
        refine y_less [some (vR (some (17, a, []))), none, none, some (vR r8), some (vI r12)] ⟨rfl, ⟨rfl, ⟨rfl, trivial⟩⟩⟩ ?_
        exact y_J2_init_2_b79 cx r8 r12 S13 h
      · replace h := h.2 c17
        refine y_aload_n 0 cx dJ2_init_2_54 rfl rfl ?_
        refine y_aload_n 3 cx dJ2_init_2_55 rfl rfl ?_
        refine y_iconst (v := 0) cx dJ2_init_2_56 (by decide) ?_
        refine y_iload 4 cx dJ2_init_2_57 rfl ?_
        exact False.elim h
  · replace h := h.2 c15
    refine y_aload_n 0 cx dJ2_init_2_22 rfl rfl ?_
    refine y_iconst (v := 0) cx dJ2_init_2_23 (by decide) ?_
    refine y_putI cx fe_73 (Or.inl q594) (Or.inl rfl) (Or.inr ⟨rfl, rfl, rfl, q594⟩) dJ2_init_2_24 (by decide) pdB ⟨rfl, rfl⟩ ?_
    refine y_nmS (fun S18 e19 => ?_)
    replace h := h S18 e19
    refine y_aload_n 0 cx dJ2_init_2_27 rfl rfl ?_
    refine y_aload_n 3 cx dJ2_init_2_28 rfl rfl ?_
    refine y_iconst (v := 0) cx dJ2_init_2_29 (by decide) ?_
    refine y_iload 4 cx dJ2_init_2_30 rfl ?_
    refine y_callR (d := 3) [vR r8, vI (0 : Int32), vI r12] [vR (some (17, a, []))] cx rfl rfl (fun l G => ct_J9_copyOfRange r8 (0 : Int32) r12 S18 _ _ h) (lw_meth q572) (by decide) (Or.inl q572) q93 (link_S cx (Or.inl q570) q571 q93 q572 md_J9_copyOfRange rfl dJ2_init_2_32) (Nat.le_of_ble_eq_true rfl) (fun r21 S20 h => ?_) (fun a x' hx => hx)
    refine y_putR cx fe_72 (Or.inl q593) (Or.inl rfl) (Or.inr ⟨rfl, rfl, rfl, q593⟩) dJ2_init_2_35 (by decide) pd_72 (Or.inr ⟨_, rfl⟩) ?_
    refine y_nmS (fun S22 e23 => ?_)
    replace h := h S22 e23
    refine y_goto 97 cx dJ2_init_2_38 (by decide) ?_
    exact y_vret cx dJ2_init_2_97 h
theorem md_J2_init_2 : yJ2_init_2.cls ≠ "java/lang/invoke/MethodHandle" ∧ yJ2_init_2.cls ≠ "java/lang/invoke/VarHandle" ∧ (parseMethodDescriptor yJ2_init_2.desc).map (fun d => d.parameters.length) = some 2 := by decide +kernel
/-! java/lang/String.<init> -/
theorem dJ2_init_0 : decode cJ2_init 0 = .ok (.aload_n 0, 1) := by decide +kernel
theorem dJ2_init_1 : decode cJ2_init 1 = .ok (.aload_n 1, 1) := by decide +kernel
theorem dJ2_init_2 : decode cJ2_init 2 = .ok (.aconst_null, 1) := by decide +kernel
theorem dJ2_init_3 : decode cJ2_init 3 = .ok (.invokespecial 489, 3) := by decide +kernel
theorem dJ2_init_6 : decode cJ2_init 6 = .ok (.return_, 1) := by decide +kernel
def w_J2_init (a : Nat) (l1 : Rf) (S : HS) (N : HS → Prop) (X : Nat → HS → Prop) : Prop :=
  w_J2_init_2 a l1 none S (fun S1 =>
   N S1) X
theorem ct_J2_init {l : Launch} {G : GT} (a : Nat) (l1 : Rf) (S : HS) (N : HS → Prop) (X : Nat → HS → Prop) (h : w_J2_init a l1 S N X) : Ct Eq l yJ2_init (ws_ yJ2_init cJ2_init 2 none) 5 G [vR (some (17, a, [])), vR l1] S (oV N X) := by
  refine Ct.ofY (cc := cJ2_init) (maxL := 2) (ret := none) [some (vR (some (17, a, []))), some (vR l1)] true (by decide +kernel) (fun _ => rfl) rfl rfl (Nat.le_of_ble_eq_true rfl) (fun I cx => ?_)
  unfold w_J2_init at h
  refine y_aload_n 0 cx dJ2_init_0 rfl rfl ?_
  refine y_aload_n 1 cx dJ2_init_1 rfl rfl ?_
  refine y_null cx dJ2_init_2 ?_
  refine y_callV (d := 4) [vR (some (17, a, [])), vR l1, vR none] [] cx rfl rfl (fun l G => ct_J2_init_2 a l1 none S _ _ h) (lw_meth q554) (by decide) (Or.inl q554) q80 (link_I cx rfl (Or.inl q552) q553 q554 md_J2_init_2 rfl dJ2_init_3) (Nat.le_of_ble_eq_true rfl) (fun S1 h => ?_) (fun a x' hx => hx)
  exact y_vret cx dJ2_init_6 h
theorem md_J2_init : yJ2_init.cls ≠ "java/lang/invoke/MethodHandle" ∧ yJ2_init.cls ≠ "java/lang/invoke/VarHandle" ∧ (parseMethodDescriptor yJ2_init.desc).map (fun d => d.parameters.length) = some 1 := by decide +kernel
end
