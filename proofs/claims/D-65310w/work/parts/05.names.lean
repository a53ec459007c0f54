set_option maxRecDepth 100000
def RJ0 : String := "java/lang/AbstractStringBuilder"
abbrev cJ0_init : ByteArray := prog_18_method_2_code
def yJ0_init : MethodName := ⟨RJ0, "<init>", "(I)V"⟩
abbrev cJ0_setLength : ByteArray := prog_18_method_13_code
def yJ0_setLength : MethodName := ⟨RJ0, "setLength", "(I)V"⟩
abbrev cJ0_ensureCapacityInternal : ByteArray := prog_18_method_9_code
def yJ0_ensureCapacityInternal : MethodName := ⟨RJ0, "ensureCapacityInternal", "(I)V"⟩
abbrev cJ0_newCapacity : ByteArray := prog_18_method_10_code
def yJ0_newCapacity : MethodName := ⟨RJ0, "newCapacity", "(I)I"⟩
abbrev cJ0_isLatin1 : ByteArray := prog_18_method_68_code
def yJ0_isLatin1 : MethodName := ⟨RJ0, "isLatin1", "()Z"⟩
abbrev cJ0_append : ByteArray := prog_18_method_31_code
def yJ0_append : MethodName := ⟨RJ0, "append", "(C)Ljava/lang/AbstractStringBuilder;"⟩
abbrev cJ0_inflate : ByteArray := prog_18_method_11_code
def yJ0_inflate : MethodName := ⟨RJ0, "inflate", "()V"⟩
abbrev cJ0_getValue : ByteArray := prog_18_method_64_code
def yJ0_getValue : MethodName := ⟨RJ0, "getValue", "()[B"⟩
abbrev cJ0_length : ByteArray := prog_18_method_6_code
def yJ0_length : MethodName := ⟨RJ0, "length", "()I"⟩
theorem q78 : (Jvm.Cond.initialized "java/lang/AbstractStringBuilder") ∈ lw_all := lw_g (lw_at lw_m1 2 rfl) rfl
theorem q123 : (Jvm.Cond.instanceMethod ({ cls := "java/lang/AbstractStringBuilder", name := "<init>", desc := "(I)V" } : Jvm.MethodName)) ∈ lw_all := lw_g (lw_at lw_m1 47 rfl) rfl
theorem q124 : (Jvm.Cond.code ({ cls := "java/lang/AbstractStringBuilder", name := "<init>", desc := "(I)V" } : Jvm.MethodName) prog_18_method_2_code (2 : Nat) (Option.none : Option Jvm.ClassFile.FieldType)) ∈ lw_all := lw_g (lw_at lw_m1 48 rfl) rfl
theorem q125 : (Jvm.Cond.methodLink "java/lang/AbstractStringBuilder" (3 : Nat) ({ cls := "java/lang/Object", name := "<init>", desc := "()V" } : Jvm.MethodName)) ∈ lw_all := lw_g (lw_at lw_m1 49 rfl) rfl
theorem q126 : (Jvm.Cond.fieldLink "java/lang/AbstractStringBuilder" (18 : Nat) "java/lang/String" "COMPACT_STRINGS" "Z") ∈ lw_all := lw_g (lw_at lw_m1 50 rfl) rfl
theorem q128 : (Jvm.Cond.methodLink "java/lang/AbstractStringBuilder" (26 : Nat) ({ cls := "java/lang/StringUTF16", name := "newBytesFor", desc := "(I)[B" } : Jvm.MethodName)) ∈ lw_all := lw_g (lw_at lw_m1 52 rfl) rfl
theorem q135 : (Jvm.Cond.fieldLink "java/lang/AbstractStringBuilder" (15 : Nat) "java/lang/AbstractStringBuilder" "value" "[B") ∈ lw_all := lw_g (lw_at lw_m1 59 rfl) rfl
theorem q136 : (Jvm.Cond.fieldLink "java/lang/AbstractStringBuilder" (22 : Nat) "java/lang/AbstractStringBuilder" "coder" "B") ∈ lw_all := lw_g (lw_at lw_m1 60 rfl) rfl
theorem q137 : (Jvm.Cond.fieldLink "java/lang/AbstractStringBuilder" (73 : Nat) "java/lang/AbstractStringBuilder" "maybeLatin1" "Z") ∈ lw_all := lw_g (lw_at lw_m1 61 rfl) rfl
theorem q139 : (Jvm.Cond.fieldLink "java/lang/AbstractStringBuilder" (79 : Nat) "java/lang/AbstractStringBuilder" "count" "I") ∈ lw_all := lw_g (lw_at lw_m1 63 rfl) rfl
theorem q141 : (Jvm.Cond.soleField "java/lang/AbstractStringBuilder" "value") ∈ lw_all := lw_g (lw_at lw_m1 65 rfl) rfl
theorem q143 : (Jvm.Cond.soleField "java/lang/AbstractStringBuilder" "coder") ∈ lw_all := lw_g (lw_at lw_m1 67 rfl) rfl
theorem q145 : (Jvm.Cond.soleField "java/lang/AbstractStringBuilder" "maybeLatin1") ∈ lw_all := lw_g (lw_at lw_m1 69 rfl) rfl
theorem q147 : (Jvm.Cond.soleField "java/lang/AbstractStringBuilder" "count") ∈ lw_all := lw_g (lw_at lw_m1 71 rfl) rfl
theorem q431 : (Jvm.Cond.instanceMethod ({ cls := "java/lang/AbstractStringBuilder", name := "setLength", desc := "(I)V" } : Jvm.MethodName)) ∈ lw_all := lw_g (lw_at lw_m2 115 rfl) rfl
theorem q432 : (Jvm.Cond.code ({ cls := "java/lang/AbstractStringBuilder", name := "setLength", desc := "(I)V" } : Jvm.MethodName) prog_18_method_13_code (2 : Nat) (Option.none : Option Jvm.ClassFile.FieldType)) ∈ lw_all := lw_g (lw_at lw_m2 116 rfl) rfl
theorem q433 : (Jvm.Cond.methodLink "java/lang/AbstractStringBuilder" (100 : Nat) ({ cls := "java/lang/AbstractStringBuilder", name := "ensureCapacityInternal", desc := "(I)V" } : Jvm.MethodName)) ∈ lw_all := lw_g (lw_at lw_m2 117 rfl) rfl
theorem q434 : (Jvm.Cond.privateMethod ({ cls := "java/lang/AbstractStringBuilder", name := "ensureCapacityInternal", desc := "(I)V" } : Jvm.MethodName)) ∈ lw_tbl := lw_at lw_m2 118 rfl
theorem q435 : (Jvm.Cond.instanceMethod ({ cls := "java/lang/AbstractStringBuilder", name := "ensureCapacityInternal", desc := "(I)V" } : Jvm.MethodName)) ∈ lw_all := lw_g (lw_at lw_m2 119 rfl) rfl
theorem q436 : (Jvm.Cond.code ({ cls := "java/lang/AbstractStringBuilder", name := "ensureCapacityInternal", desc := "(I)V" } : Jvm.MethodName) prog_18_method_9_code (3 : Nat) (Option.none : Option Jvm.ClassFile.FieldType)) ∈ lw_all := lw_g (lw_at lw_m2 120 rfl) rfl
theorem q437 : (Jvm.Cond.methodLink "java/lang/AbstractStringBuilder" (104 : Nat) ({ cls := "java/lang/AbstractStringBuilder", name := "newCapacity", desc := "(I)I" } : Jvm.MethodName)) ∈ lw_all := lw_g (lw_at lw_m2 121 rfl) rfl
theorem q438 : (Jvm.Cond.privateMethod ({ cls := "java/lang/AbstractStringBuilder", name := "newCapacity", desc := "(I)I" } : Jvm.MethodName)) ∈ lw_tbl := lw_at lw_m2 122 rfl
theorem q439 : (Jvm.Cond.instanceMethod ({ cls := "java/lang/AbstractStringBuilder", name := "newCapacity", desc := "(I)I" } : Jvm.MethodName)) ∈ lw_all := lw_g (lw_at lw_m2 123 rfl) rfl
theorem q440 : (Jvm.Cond.code ({ cls := "java/lang/AbstractStringBuilder", name := "newCapacity", desc := "(I)I" } : Jvm.MethodName) prog_18_method_10_code (6 : Nat) (Option.some Jvm.ClassFile.FieldType.int)) ∈ lw_all := lw_g (lw_at lw_m2 124 rfl) rfl
theorem q441 : (Jvm.Cond.methodLink "java/lang/AbstractStringBuilder" (114 : Nat) ({ cls := "jdk/internal/util/ArraysSupport", name := "newLength", desc := "(III)I" } : Jvm.MethodName)) ∈ lw_all := lw_g (lw_at lw_m2 125 rfl) rfl
theorem q451 : (Jvm.Cond.constant "java/lang/AbstractStringBuilder" (39 : Nat) (2147483647 : Int32)) ∈ lw_all := lw_g (lw_at lw_m2 135 rfl) rfl
theorem q452 : (Jvm.Cond.methodLink "java/lang/AbstractStringBuilder" (108 : Nat) ({ cls := "java/util/Arrays", name := "copyOf", desc := "([BI)[B" } : Jvm.MethodName)) ∈ lw_all := lw_g (lw_at lw_m2 136 rfl) rfl
theorem q468 : (Jvm.Cond.methodLink "java/lang/AbstractStringBuilder" (83 : Nat) ({ cls := "java/lang/AbstractStringBuilder", name := "isLatin1", desc := "()Z" } : Jvm.MethodName)) ∈ lw_all := lw_g (lw_at lw_m2 152 rfl) rfl
theorem q469 : (Jvm.Cond.instanceMethod ({ cls := "java/lang/AbstractStringBuilder", name := "isLatin1", desc := "()Z" } : Jvm.MethodName)) ∈ lw_all := lw_g (lw_at lw_m2 153 rfl) rfl
theorem q470 : (Jvm.Cond.sameMethod "java/lang/AbstractStringBuilder" "java/lang/AbstractStringBuilder" "isLatin1" "()Z") ∈ lw_all := lw_g (lw_at lw_m2 154 rfl) rfl
theorem q472 : (Jvm.Cond.code ({ cls := "java/lang/AbstractStringBuilder", name := "isLatin1", desc := "()Z" } : Jvm.MethodName) prog_18_method_68_code (1 : Nat) (Option.some Jvm.ClassFile.FieldType.boolean)) ∈ lw_all := lw_g (lw_at lw_m2 156 rfl) rfl
theorem q473 : (Jvm.Cond.methodLink "java/lang/AbstractStringBuilder" (133 : Nat) ({ cls := "java/lang/StringLatin1", name := "fillNull", desc := "([BII)V" } : Jvm.MethodName)) ∈ lw_all := lw_g (lw_at lw_m2 157 rfl) rfl
theorem q482 : (Jvm.Cond.methodLink "java/lang/AbstractStringBuilder" (137 : Nat) ({ cls := "java/lang/StringUTF16", name := "fillNull", desc := "([BII)V" } : Jvm.MethodName)) ∈ lw_all := lw_g (lw_at lw_m2 166 rfl) rfl
theorem q491 : (Jvm.Cond.instanceMethod ({ cls := "java/lang/AbstractStringBuilder", name := "append", desc := "(C)Ljava/lang/AbstractStringBuilder;" } : Jvm.MethodName)) ∈ lw_all := lw_g (lw_at lw_m2 175 rfl) rfl
theorem q492 : (Jvm.Cond.code ({ cls := "java/lang/AbstractStringBuilder", name := "append", desc := "(C)Ljava/lang/AbstractStringBuilder;" } : Jvm.MethodName) prog_18_method_31_code (2 : Nat) (Option.some (Jvm.ClassFile.FieldType.object "java/lang/AbstractStringBuilder"))) ∈ lw_all := lw_g (lw_at lw_m2 176 rfl) rfl
theorem q493 : (Jvm.Cond.methodLink "java/lang/AbstractStringBuilder" (191 : Nat) ({ cls := "java/lang/StringLatin1", name := "canEncode", desc := "(C)Z" } : Jvm.MethodName)) ∈ lw_all := lw_g (lw_at lw_m2 177 rfl) rfl
theorem q496 : (Jvm.Cond.methodLink "java/lang/AbstractStringBuilder" (195 : Nat) ({ cls := "java/lang/AbstractStringBuilder", name := "inflate", desc := "()V" } : Jvm.MethodName)) ∈ lw_all := lw_g (lw_at lw_m2 180 rfl) rfl
theorem q497 : (Jvm.Cond.privateMethod ({ cls := "java/lang/AbstractStringBuilder", name := "inflate", desc := "()V" } : Jvm.MethodName)) ∈ lw_tbl := lw_at lw_m2 181 rfl
theorem q498 : (Jvm.Cond.instanceMethod ({ cls := "java/lang/AbstractStringBuilder", name := "inflate", desc := "()V" } : Jvm.MethodName)) ∈ lw_all := lw_g (lw_at lw_m2 182 rfl) rfl
theorem q499 : (Jvm.Cond.code ({ cls := "java/lang/AbstractStringBuilder", name := "inflate", desc := "()V" } : Jvm.MethodName) prog_18_method_11_code (2 : Nat) (Option.none : Option Jvm.ClassFile.FieldType)) ∈ lw_all := lw_g (lw_at lw_m2 183 rfl) rfl
theorem q500 : (Jvm.Cond.methodLink "java/lang/AbstractStringBuilder" (125 : Nat) ({ cls := "java/lang/StringLatin1", name := "inflate", desc := "([BI[BII)V" } : Jvm.MethodName)) ∈ lw_all := lw_g (lw_at lw_m2 184 rfl) rfl
theorem q529 : (Jvm.Cond.methodLink "java/lang/AbstractStringBuilder" (197 : Nat) ({ cls := "java/lang/StringUTF16", name := "putCharSB", desc := "([BII)V" } : Jvm.MethodName)) ∈ lw_all := lw_g (lw_at lw_m2 213 rfl) rfl
theorem q557 : (Jvm.Cond.instanceMethod ({ cls := "java/lang/AbstractStringBuilder", name := "getValue", desc := "()[B" } : Jvm.MethodName)) ∈ lw_all := lw_g (lw_at lw_m3 1 rfl) rfl
theorem q558 : (Jvm.Cond.sameMethod "java/lang/AbstractStringBuilder" "java/lang/AbstractStringBuilder" "getValue" "()[B") ∈ lw_all := lw_g (lw_at lw_m3 2 rfl) rfl
theorem q560 : (Jvm.Cond.code ({ cls := "java/lang/AbstractStringBuilder", name := "getValue", desc := "()[B" } : Jvm.MethodName) prog_18_method_64_code (1 : Nat) (Option.some (Jvm.ClassFile.FieldType.array Jvm.ClassFile.FieldType.byte))) ∈ lw_all := lw_g (lw_at lw_m3 4 rfl) rfl
theorem q562 : (Jvm.Cond.instanceMethod ({ cls := "java/lang/AbstractStringBuilder", name := "length", desc := "()I" } : Jvm.MethodName)) ∈ lw_all := lw_g (lw_at lw_m3 6 rfl) rfl
theorem q563 : (Jvm.Cond.sameMethod "java/lang/AbstractStringBuilder" "java/lang/AbstractStringBuilder" "length" "()I") ∈ lw_all := lw_g (lw_at lw_m3 7 rfl) rfl
theorem q568 : (Jvm.Cond.code ({ cls := "java/lang/AbstractStringBuilder", name := "length", desc := "()I" } : Jvm.MethodName) prog_18_method_6_code (1 : Nat) (Option.some Jvm.ClassFile.FieldType.int)) ∈ lw_all := lw_g (lw_at lw_m3 12 rfl) rfl
theorem q1426 : (Jvm.Cond.sameMethod "java/lang/AbstractStringBuilder" "java/lang/AbstractStringBuilder" "setLength" "(I)V") ∈ lw_all := lw_g (lw_at lw_m6 150 rfl) rfl
theorem q1427 : (Jvm.Cond.sameMethod "java/lang/AbstractStringBuilder" "java/lang/AbstractStringBuilder" "ensureCapacityInternal" "(I)V") ∈ lw_all := lw_g (lw_at lw_m6 151 rfl) rfl
theorem q1428 : (Jvm.Cond.sameMethod "java/lang/AbstractStringBuilder" "java/lang/AbstractStringBuilder" "newCapacity" "(I)I") ∈ lw_all := lw_g (lw_at lw_m6 152 rfl) rfl
theorem q1429 : (Jvm.Cond.sameMethod "java/lang/AbstractStringBuilder" "java/lang/AbstractStringBuilder" "append" "(C)Ljava/lang/AbstractStringBuilder;") ∈ lw_all := lw_g (lw_at lw_m6 153 rfl) rfl
theorem q1430 : (Jvm.Cond.sameMethod "java/lang/AbstractStringBuilder" "java/lang/AbstractStringBuilder" "inflate" "()V") ∈ lw_all := lw_g (lw_at lw_m6 154 rfl) rfl
def RJ1 : String := "java/lang/StringBuilder"
def TJ1 : u_T := fun k => match k with
  | 0 => ("java/lang/AbstractStringBuilder", "value", "[B", false)
  | 1 => ("java/lang/AbstractStringBuilder", "coder", "B", false)
  | 2 => ("java/lang/AbstractStringBuilder", "maybeLatin1", "Z", false)
  | _ => ("java/lang/AbstractStringBuilder", "count", "I", false)
def tyJ1 : Nat → FieldType := fun k => match k with
  | 0 => .array .byte
  | 1 => .byte
  | 2 => .boolean
  | _ => .int
abbrev wsJ10 : List Cond := u_ws RJ1 TJ1 4
theorem nmJ1 : ∀ a, a < 4 → ∀ b, b < 4 → a ≠ b → (TJ1 a).2.1 ≠ (TJ1 b).2.1 := by decide +kernel
theorem tyJ1_ok : ∀ k, k < 4 → parseFieldDescriptor (TJ1 k).2.2.1 = some (tyJ1 k) := by decide +kernel
abbrev cJ1_init : ByteArray := prog_25_method_2_code
def yJ1_init : MethodName := ⟨RJ1, "<init>", "(I)V"⟩
abbrev cJ1_setLength : ByteArray := prog_25_method_89_code
def yJ1_setLength : MethodName := ⟨RJ1, "setLength", "(I)V"⟩
abbrev cJ1_append : ByteArray := prog_25_method_14_code
def yJ1_append : MethodName := ⟨RJ1, "append", "(C)Ljava/lang/StringBuilder;"⟩
abbrev cJ1_toString : ByteArray := prog_25_method_42_code
def yJ1_toString : MethodName := ⟨RJ1, "toString", "()Ljava/lang/String;"⟩
abbrev cJ1_length : ByteArray := prog_25_method_93_code
def yJ1_length : MethodName := ⟨RJ1, "length", "()I"⟩
theorem q79 : (Jvm.Cond.initialized "java/lang/StringBuilder") ∈ lw_all := lw_g (lw_at lw_m1 3 rfl) rfl
theorem q118 : (Jvm.Cond.instantiable "java/lang/StringBuilder" (4 : Nat)) ∈ lw_all := lw_g (lw_at lw_m1 42 rfl) rfl
theorem q120 : (Jvm.Cond.instanceMethod ({ cls := "java/lang/StringBuilder", name := "<init>", desc := "(I)V" } : Jvm.MethodName)) ∈ lw_all := lw_g (lw_at lw_m1 44 rfl) rfl
theorem q121 : (Jvm.Cond.code ({ cls := "java/lang/StringBuilder", name := "<init>", desc := "(I)V" } : Jvm.MethodName) prog_25_method_2_code (2 : Nat) (Option.none : Option Jvm.ClassFile.FieldType)) ∈ lw_all := lw_g (lw_at lw_m1 45 rfl) rfl
theorem q122 : (Jvm.Cond.methodLink "java/lang/StringBuilder" (1 : Nat) ({ cls := "java/lang/AbstractStringBuilder", name := "<init>", desc := "(I)V" } : Jvm.MethodName)) ∈ lw_all := lw_g (lw_at lw_m1 46 rfl) rfl
theorem q140 : (Jvm.Cond.lays "java/lang/StringBuilder" "java/lang/AbstractStringBuilder" "value" "[B") ∈ lw_all := lw_g (lw_at lw_m1 64 rfl) rfl
theorem q142 : (Jvm.Cond.lays "java/lang/StringBuilder" "java/lang/AbstractStringBuilder" "coder" "B") ∈ lw_all := lw_g (lw_at lw_m1 66 rfl) rfl
theorem q144 : (Jvm.Cond.lays "java/lang/StringBuilder" "java/lang/AbstractStringBuilder" "maybeLatin1" "Z") ∈ lw_all := lw_g (lw_at lw_m1 68 rfl) rfl
theorem q146 : (Jvm.Cond.lays "java/lang/StringBuilder" "java/lang/AbstractStringBuilder" "count" "I") ∈ lw_all := lw_g (lw_at lw_m1 70 rfl) rfl
theorem q148 : (Jvm.Cond.superclass "java/lang/StringBuilder" "java/lang/AbstractStringBuilder") ∈ lw_all := lw_g (lw_at lw_m1 72 rfl) rfl
theorem q427 : (Jvm.Cond.instanceMethod ({ cls := "java/lang/StringBuilder", name := "setLength", desc := "(I)V" } : Jvm.MethodName)) ∈ lw_all := lw_g (lw_at lw_m2 111 rfl) rfl
theorem q428 : (Jvm.Cond.selects "java/lang/StringBuilder" ({ cls := "java/lang/StringBuilder", name := "setLength", desc := "(I)V" } : Jvm.MethodName) ({ cls := "java/lang/StringBuilder", name := "setLength", desc := "(I)V" } : Jvm.MethodName)) ∈ lw_all := lw_g (lw_at lw_m2 112 rfl) rfl
theorem q429 : (Jvm.Cond.code ({ cls := "java/lang/StringBuilder", name := "setLength", desc := "(I)V" } : Jvm.MethodName) prog_25_method_89_code (2 : Nat) (Option.none : Option Jvm.ClassFile.FieldType)) ∈ lw_all := lw_g (lw_at lw_m2 113 rfl) rfl
theorem q430 : (Jvm.Cond.methodLink "java/lang/StringBuilder" (333 : Nat) ({ cls := "java/lang/AbstractStringBuilder", name := "setLength", desc := "(I)V" } : Jvm.MethodName)) ∈ lw_all := lw_g (lw_at lw_m2 114 rfl) rfl
theorem q471 : (Jvm.Cond.selects "java/lang/StringBuilder" ({ cls := "java/lang/AbstractStringBuilder", name := "isLatin1", desc := "()Z" } : Jvm.MethodName) ({ cls := "java/lang/AbstractStringBuilder", name := "isLatin1", desc := "()Z" } : Jvm.MethodName)) ∈ lw_all := lw_g (lw_at lw_m2 155 rfl) rfl
theorem q487 : (Jvm.Cond.instanceMethod ({ cls := "java/lang/StringBuilder", name := "append", desc := "(C)Ljava/lang/StringBuilder;" } : Jvm.MethodName)) ∈ lw_all := lw_g (lw_at lw_m2 171 rfl) rfl
theorem q488 : (Jvm.Cond.selects "java/lang/StringBuilder" ({ cls := "java/lang/StringBuilder", name := "append", desc := "(C)Ljava/lang/StringBuilder;" } : Jvm.MethodName) ({ cls := "java/lang/StringBuilder", name := "append", desc := "(C)Ljava/lang/StringBuilder;" } : Jvm.MethodName)) ∈ lw_all := lw_g (lw_at lw_m2 172 rfl) rfl
theorem q489 : (Jvm.Cond.code ({ cls := "java/lang/StringBuilder", name := "append", desc := "(C)Ljava/lang/StringBuilder;" } : Jvm.MethodName) prog_25_method_14_code (2 : Nat) (Option.some (Jvm.ClassFile.FieldType.object "java/lang/StringBuilder"))) ∈ lw_all := lw_g (lw_at lw_m2 173 rfl) rfl
theorem q490 : (Jvm.Cond.methodLink "java/lang/StringBuilder" (50 : Nat) ({ cls := "java/lang/AbstractStringBuilder", name := "append", desc := "(C)Ljava/lang/AbstractStringBuilder;" } : Jvm.MethodName)) ∈ lw_all := lw_g (lw_at lw_m2 174 rfl) rfl
theorem q544 : (Jvm.Cond.instanceMethod ({ cls := "java/lang/StringBuilder", name := "toString", desc := "()Ljava/lang/String;" } : Jvm.MethodName)) ∈ lw_all := lw_g (lw_at lw_m2 228 rfl) rfl
theorem q545 : (Jvm.Cond.selects "java/lang/StringBuilder" ({ cls := "java/lang/StringBuilder", name := "toString", desc := "()Ljava/lang/String;" } : Jvm.MethodName) ({ cls := "java/lang/StringBuilder", name := "toString", desc := "()Ljava/lang/String;" } : Jvm.MethodName)) ∈ lw_all := lw_g (lw_at lw_m2 229 rfl) rfl
theorem q546 : (Jvm.Cond.code ({ cls := "java/lang/StringBuilder", name := "toString", desc := "()Ljava/lang/String;" } : Jvm.MethodName) prog_25_method_42_code (1 : Nat) (Option.some (Jvm.ClassFile.FieldType.object "java/lang/String"))) ∈ lw_all := lw_g (lw_at lw_m2 230 rfl) rfl
theorem q547 : (Jvm.Cond.classLink "java/lang/StringBuilder" (18 : Nat) "java/lang/String") ∈ lw_all := lw_g (lw_at lw_m2 231 rfl) rfl
theorem q549 : (Jvm.Cond.methodLink "java/lang/StringBuilder" (137 : Nat) ({ cls := "java/lang/String", name := "<init>", desc := "(Ljava/lang/StringBuilder;)V" } : Jvm.MethodName)) ∈ lw_all := lw_g (lw_at lw_m2 233 rfl) rfl
theorem q559 : (Jvm.Cond.selects "java/lang/StringBuilder" ({ cls := "java/lang/AbstractStringBuilder", name := "getValue", desc := "()[B" } : Jvm.MethodName) ({ cls := "java/lang/AbstractStringBuilder", name := "getValue", desc := "()[B" } : Jvm.MethodName)) ∈ lw_all := lw_g (lw_at lw_m3 3 rfl) rfl
theorem q564 : (Jvm.Cond.selects "java/lang/StringBuilder" ({ cls := "java/lang/AbstractStringBuilder", name := "length", desc := "()I" } : Jvm.MethodName) ({ cls := "java/lang/StringBuilder", name := "length", desc := "()I" } : Jvm.MethodName)) ∈ lw_all := lw_g (lw_at lw_m3 8 rfl) rfl
theorem q565 : (Jvm.Cond.instanceMethod ({ cls := "java/lang/StringBuilder", name := "length", desc := "()I" } : Jvm.MethodName)) ∈ lw_all := lw_g (lw_at lw_m3 9 rfl) rfl
theorem q566 : (Jvm.Cond.code ({ cls := "java/lang/StringBuilder", name := "length", desc := "()I" } : Jvm.MethodName) prog_25_method_93_code (1 : Nat) (Option.some Jvm.ClassFile.FieldType.int)) ∈ lw_all := lw_g (lw_at lw_m3 10 rfl) rfl
theorem q567 : (Jvm.Cond.methodLink "java/lang/StringBuilder" (343 : Nat) ({ cls := "java/lang/AbstractStringBuilder", name := "length", desc := "()I" } : Jvm.MethodName)) ∈ lw_all := lw_g (lw_at lw_m3 11 rfl) rfl
theorem in_J1 : ∀ w ∈ wsJ10, w ∈ lw_all := lw_in wsJ10 [140, 142, 144, 146] (by decide +kernel) (by decide +kernel)
def RJ10 : String := "java/lang/StringLatin1"
abbrev cJ10_fillNull : ByteArray := prog_26_method_48_code
def yJ10_fillNull : MethodName := ⟨RJ10, "fillNull", "([BII)V"⟩
abbrev cJ10_canEncode : ByteArray := prog_26_method_3_code
def yJ10_canEncode : MethodName := ⟨RJ10, "canEncode", "(C)Z"⟩
abbrev cJ10_inflate : ByteArray := prog_26_method_50_code
def yJ10_inflate : MethodName := ⟨RJ10, "inflate", "([BI[BII)V"⟩
abbrev cJ10_charAt : ByteArray := prog_26_method_2_code
def yJ10_charAt : MethodName := ⟨RJ10, "charAt", "([BI)C"⟩
abbrev cJ10_equals : ByteArray := prog_26_method_13_code
def yJ10_equals : MethodName := ⟨RJ10, "equals", "([B[B)Z"⟩
abbrev cJ10_hashCode : ByteArray := prog_26_method_21_code
def yJ10_hashCode : MethodName := ⟨RJ10, "hashCode", "([B)I"⟩
theorem q95 : (Jvm.Cond.initialized "java/lang/StringLatin1") ∈ lw_all := lw_g (lw_at lw_m1 19 rfl) rfl
theorem q474 : (Jvm.Cond.static ({ cls := "java/lang/StringLatin1", name := "fillNull", desc := "([BII)V" } : Jvm.MethodName)) ∈ lw_all := lw_g (lw_at lw_m2 158 rfl) rfl
theorem q475 : (Jvm.Cond.code ({ cls := "java/lang/StringLatin1", name := "fillNull", desc := "([BII)V" } : Jvm.MethodName) prog_26_method_48_code (3 : Nat) (Option.none : Option Jvm.ClassFile.FieldType)) ∈ lw_all := lw_g (lw_at lw_m2 159 rfl) rfl
theorem q476 : (Jvm.Cond.methodLink "java/lang/StringLatin1" (236 : Nat) ({ cls := "java/util/Arrays", name := "fill", desc := "([BIIB)V" } : Jvm.MethodName)) ∈ lw_all := lw_g (lw_at lw_m2 160 rfl) rfl
theorem q494 : (Jvm.Cond.static ({ cls := "java/lang/StringLatin1", name := "canEncode", desc := "(C)Z" } : Jvm.MethodName)) ∈ lw_all := lw_g (lw_at lw_m2 178 rfl) rfl
theorem q495 : (Jvm.Cond.code ({ cls := "java/lang/StringLatin1", name := "canEncode", desc := "(C)Z" } : Jvm.MethodName) prog_26_method_3_code (1 : Nat) (Option.some Jvm.ClassFile.FieldType.boolean)) ∈ lw_all := lw_g (lw_at lw_m2 179 rfl) rfl
theorem q501 : (Jvm.Cond.static ({ cls := "java/lang/StringLatin1", name := "inflate", desc := "([BI[BII)V" } : Jvm.MethodName)) ∈ lw_all := lw_g (lw_at lw_m2 185 rfl) rfl
theorem q502 : (Jvm.Cond.code ({ cls := "java/lang/StringLatin1", name := "inflate", desc := "([BI[BII)V" } : Jvm.MethodName) prog_26_method_50_code (5 : Nat) (Option.none : Option Jvm.ClassFile.FieldType)) ∈ lw_all := lw_g (lw_at lw_m2 186 rfl) rfl
theorem q503 : (Jvm.Cond.methodLink "java/lang/StringLatin1" (240 : Nat) ({ cls := "java/lang/StringUTF16", name := "inflate", desc := "([BI[BII)V" } : Jvm.MethodName)) ∈ lw_all := lw_g (lw_at lw_m2 187 rfl) rfl
theorem q714 : (Jvm.Cond.static ({ cls := "java/lang/StringLatin1", name := "charAt", desc := "([BI)C" } : Jvm.MethodName)) ∈ lw_all := lw_g (lw_at lw_m3 158 rfl) rfl
theorem q715 : (Jvm.Cond.code ({ cls := "java/lang/StringLatin1", name := "charAt", desc := "([BI)C" } : Jvm.MethodName) prog_26_method_2_code (2 : Nat) (Option.some Jvm.ClassFile.FieldType.char)) ∈ lw_all := lw_g (lw_at lw_m3 159 rfl) rfl
theorem q716 : (Jvm.Cond.methodLink "java/lang/StringLatin1" (9 : Nat) ({ cls := "java/lang/String", name := "checkIndex", desc := "(II)V" } : Jvm.MethodName)) ∈ lw_all := lw_g (lw_at lw_m3 160 rfl) rfl
theorem q762 : (Jvm.Cond.static ({ cls := "java/lang/StringLatin1", name := "equals", desc := "([B[B)Z" } : Jvm.MethodName)) ∈ lw_all := lw_g (lw_at lw_m3 206 rfl) rfl
theorem q763 : (Jvm.Cond.code ({ cls := "java/lang/StringLatin1", name := "equals", desc := "([B[B)Z" } : Jvm.MethodName) prog_26_method_13_code (3 : Nat) (Option.some Jvm.ClassFile.FieldType.boolean)) ∈ lw_all := lw_g (lw_at lw_m3 207 rfl) rfl
theorem q933 : (Jvm.Cond.static ({ cls := "java/lang/StringLatin1", name := "hashCode", desc := "([B)I" } : Jvm.MethodName)) ∈ lw_all := lw_g (lw_at lw_m4 137 rfl) rfl
theorem q934 : (Jvm.Cond.code ({ cls := "java/lang/StringLatin1", name := "hashCode", desc := "([B)I" } : Jvm.MethodName) prog_26_method_21_code (1 : Nat) (Option.some Jvm.ClassFile.FieldType.int)) ∈ lw_all := lw_g (lw_at lw_m4 138 rfl) rfl
theorem q935 : (Jvm.Cond.methodLink "java/lang/StringLatin1" (84 : Nat) ({ cls := "jdk/internal/util/ArraysSupport", name := "vectorizedHashCode", desc := "(Ljava/lang/Object;IIII)I" } : Jvm.MethodName)) ∈ lw_all := lw_g (lw_at lw_m4 139 rfl) rfl
def RJ11 : String := "jdk/internal/util/Preconditions"
abbrev cJ11_checkFromIndexSize : ByteArray := prog_34_method_13_code
def yJ11_checkFromIndexSize : MethodName := ⟨RJ11, "checkFromIndexSize", "(IIILjava/util/function/BiFunction;)I"⟩
abbrev cJ11_checkIndex : ByteArray := prog_34_method_11_code
def yJ11_checkIndex : MethodName := ⟨RJ11, "checkIndex", "(IILjava/util/function/BiFunction;)I"⟩
theorem q96 : (Jvm.Cond.initialized "jdk/internal/util/Preconditions") ∈ lw_all := lw_g (lw_at lw_m1 20 rfl) rfl
theorem q516 : (Jvm.Cond.laysStatic "jdk/internal/util/Preconditions" "SIOOBE_FORMATTER" "Ljava/util/function/BiFunction;") ∈ lw_tbl := lw_at lw_m2 200 rfl
theorem q518 : (Jvm.Cond.static ({ cls := "jdk/internal/util/Preconditions", name := "checkFromIndexSize", desc := "(IIILjava/util/function/BiFunction;)I" } : Jvm.MethodName)) ∈ lw_all := lw_g (lw_at lw_m2 202 rfl) rfl
theorem q519 : (Jvm.Cond.code ({ cls := "jdk/internal/util/Preconditions", name := "checkFromIndexSize", desc := "(IIILjava/util/function/BiFunction;)I" } : Jvm.MethodName) prog_34_method_13_code (4 : Nat) (Option.some Jvm.ClassFile.FieldType.int)) ∈ lw_all := lw_g (lw_at lw_m2 203 rfl) rfl
theorem q539 : (Jvm.Cond.static ({ cls := "jdk/internal/util/Preconditions", name := "checkIndex", desc := "(IILjava/util/function/BiFunction;)I" } : Jvm.MethodName)) ∈ lw_all := lw_g (lw_at lw_m2 223 rfl) rfl
theorem q540 : (Jvm.Cond.code ({ cls := "jdk/internal/util/Preconditions", name := "checkIndex", desc := "(IILjava/util/function/BiFunction;)I" } : Jvm.MethodName) prog_34_method_11_code (3 : Nat) (Option.some Jvm.ClassFile.FieldType.int)) ∈ lw_all := lw_g (lw_at lw_m2 224 rfl) rfl
def RJ12 : String := "java/lang/Integer"
abbrev cJ12_bitCount : ByteArray := prog_21_method_49_code
def yJ12_bitCount : MethodName := ⟨RJ12, "bitCount", "(I)I"⟩
theorem q103 : (Jvm.Cond.initialized "java/lang/Integer") ∈ lw_all := lw_g (lw_at lw_m1 27 rfl) rfl
theorem q824 : (Jvm.Cond.static ({ cls := "java/lang/Integer", name := "bitCount", desc := "(I)I" } : Jvm.MethodName)) ∈ lw_all := lw_g (lw_at lw_m4 28 rfl) rfl
theorem q825 : (Jvm.Cond.code ({ cls := "java/lang/Integer", name := "bitCount", desc := "(I)I" } : Jvm.MethodName) prog_21_method_49_code (1 : Nat) (Option.some Jvm.ClassFile.FieldType.int)) ∈ lw_all := lw_g (lw_at lw_m4 29 rfl) rfl
theorem q826 : (Jvm.Cond.constant "java/lang/Integer" (265 : Nat) (1431655765 : Int32)) ∈ lw_all := lw_g (lw_at lw_m4 30 rfl) rfl
theorem q827 : (Jvm.Cond.constant "java/lang/Integer" (266 : Nat) (858993459 : Int32)) ∈ lw_all := lw_g (lw_at lw_m4 31 rfl) rfl
theorem q828 : (Jvm.Cond.constant "java/lang/Integer" (267 : Nat) (252645135 : Int32)) ∈ lw_all := lw_g (lw_at lw_m4 32 rfl) rfl
def RJ13 : String := "java/lang/Object"
abbrev cJ13_init : ByteArray := object_method_1_code
def yJ13_init : MethodName := ⟨RJ13, "<init>", "()V"⟩
theorem q113 : (Jvm.Cond.instanceMethod ({ cls := "java/lang/Object", name := "<init>", desc := "()V" } : Jvm.MethodName)) ∈ lw_all := lw_g (lw_at lw_m1 37 rfl) rfl
theorem q114 : (Jvm.Cond.code ({ cls := "java/lang/Object", name := "<init>", desc := "()V" } : Jvm.MethodName) object_method_1_code (1 : Nat) (Option.none : Option Jvm.ClassFile.FieldType)) ∈ lw_all := lw_g (lw_at lw_m1 38 rfl) rfl
theorem q457 : (Jvm.Cond.native ({ cls := "java/lang/Object", name := "clone", desc := "()Ljava/lang/Object;" } : Jvm.MethodName)) ∈ lw_all := lw_g (lw_at lw_m2 141 rfl) rfl
theorem q458 : (Jvm.Cond.instanceMethod ({ cls := "java/lang/Object", name := "clone", desc := "()Ljava/lang/Object;" } : Jvm.MethodName)) ∈ lw_all := lw_g (lw_at lw_m2 142 rfl) rfl
def RJ14 : String := "java/lang/System$2"
abbrev cJ14_getUTF16Char : ByteArray := prog_29_method_45_code
def yJ14_getUTF16Char : MethodName := ⟨RJ14, "getUTF16Char", "([BI)C"⟩
theorem q951 : (Jvm.Cond.castable "java/lang/System$2" "jdk/internal/access/JavaLangAccess") ∈ lw_tbl := lw_at lw_m4 155 rfl
theorem q952 : (Jvm.Cond.selects "java/lang/System$2" ({ cls := "jdk/internal/access/JavaLangAccess", name := "getUTF16Char", desc := "([BI)C" } : Jvm.MethodName) ({ cls := "java/lang/System$2", name := "getUTF16Char", desc := "([BI)C" } : Jvm.MethodName)) ∈ lw_all := lw_g (lw_at lw_m4 156 rfl) rfl
theorem q953 : (Jvm.Cond.unhidden "java/lang/System$2" "getUTF16Char" "([BI)C") ∈ lw_tbl := lw_at lw_m4 157 rfl
theorem q954 : (Jvm.Cond.instanceMethod ({ cls := "java/lang/System$2", name := "getUTF16Char", desc := "([BI)C" } : Jvm.MethodName)) ∈ lw_all := lw_g (lw_at lw_m4 158 rfl) rfl
theorem q955 : (Jvm.Cond.publicMethod ({ cls := "java/lang/System$2", name := "getUTF16Char", desc := "([BI)C" } : Jvm.MethodName)) ∈ lw_tbl := lw_at lw_m4 159 rfl
theorem q956 : (Jvm.Cond.code ({ cls := "java/lang/System$2", name := "getUTF16Char", desc := "([BI)C" } : Jvm.MethodName) prog_29_method_45_code (3 : Nat) (Option.some Jvm.ClassFile.FieldType.char)) ∈ lw_all := lw_g (lw_at lw_m4 160 rfl) rfl
theorem q957 : (Jvm.Cond.methodLink "java/lang/System$2" (185 : Nat) ({ cls := "java/lang/StringUTF16", name := "getChar", desc := "([BI)C" } : Jvm.MethodName)) ∈ lw_all := lw_g (lw_at lw_m4 161 rfl) rfl
def RJ2 : String := "java/lang/String"
def TJ2 : u_T := fun k => match k with
  | 0 => ("java/lang/String", "value", "[B", true)
  | 1 => ("java/lang/String", "coder", "B", true)
  | 2 => ("java/lang/String", "hash", "I", false)
  | _ => ("java/lang/String", "hashIsZero", "Z", false)
def tyJ2 : Nat → FieldType := fun k => match k with
  | 0 => .array .byte
  | 1 => .byte
  | 2 => .int
  | _ => .boolean
abbrev wsJ20 : List Cond := u_ws RJ2 TJ2 4
theorem nmJ2 : ∀ a, a < 4 → ∀ b, b < 4 → a ≠ b → (TJ2 a).2.1 ≠ (TJ2 b).2.1 := by decide +kernel
theorem tyJ2_ok : ∀ k, k < 4 → parseFieldDescriptor (TJ2 k).2.2.1 = some (tyJ2 k) := by decide +kernel
abbrev cJ2_checkBoundsOffCount : ByteArray := prog_24_method_157_code
def yJ2_checkBoundsOffCount : MethodName := ⟨RJ2, "checkBoundsOffCount", "(III)I"⟩
abbrev cJ2_checkIndex : ByteArray := prog_24_method_155_code
def yJ2_checkIndex : MethodName := ⟨RJ2, "checkIndex", "(II)V"⟩
abbrev cJ2_init : ByteArray := prog_24_method_53_code
def yJ2_init : MethodName := ⟨RJ2, "<init>", "(Ljava/lang/StringBuilder;)V"⟩
abbrev cJ2_init_2 : ByteArray := prog_24_method_150_code
def yJ2_init_2 : MethodName := ⟨RJ2, "<init>", "(Ljava/lang/AbstractStringBuilder;Ljava/lang/Void;)V"⟩
abbrev cJ2_length : ByteArray := prog_24_method_54_code
def yJ2_length : MethodName := ⟨RJ2, "length", "()I"⟩
abbrev cJ2_coder : ByteArray := prog_24_method_152_code
def yJ2_coder : MethodName := ⟨RJ2, "coder", "()B"⟩
abbrev cJ2_charAt : ByteArray := prog_24_method_56_code
def yJ2_charAt : MethodName := ⟨RJ2, "charAt", "(I)C"⟩
abbrev cJ2_isLatin1 : ByteArray := prog_24_method_154_code
def yJ2_isLatin1 : MethodName := ⟨RJ2, "isLatin1", "()Z"⟩
abbrev cJ2_isEmpty : ByteArray := prog_24_method_55_code
def yJ2_isEmpty : MethodName := ⟨RJ2, "isEmpty", "()Z"⟩
abbrev cJ2_equals : ByteArray := prog_24_method_66_code
def yJ2_equals : MethodName := ⟨RJ2, "equals", "(Ljava/lang/Object;)Z"⟩
abbrev cJ2_hashCode : ByteArray := prog_24_method_78_code
def yJ2_hashCode : MethodName := ⟨RJ2, "hashCode", "()I"⟩
theorem q80 : (Jvm.Cond.initialized "java/lang/String") ∈ lw_all := lw_g (lw_at lw_m1 4 rfl) rfl
theorem q127 : (Jvm.Cond.laysStatic "java/lang/String" "COMPACT_STRINGS" "Z") ∈ lw_tbl := lw_at lw_m1 51 rfl
theorem q138 : (Jvm.Cond.fieldLink "java/lang/String" (1048 : Nat) "java/lang/AbstractStringBuilder" "maybeLatin1" "Z") ∈ lw_all := lw_g (lw_at lw_m1 62 rfl) rfl
theorem q513 : (Jvm.Cond.static ({ cls := "java/lang/String", name := "checkBoundsOffCount", desc := "(III)I" } : Jvm.MethodName)) ∈ lw_all := lw_g (lw_at lw_m2 197 rfl) rfl
theorem q514 : (Jvm.Cond.code ({ cls := "java/lang/String", name := "checkBoundsOffCount", desc := "(III)I" } : Jvm.MethodName) prog_24_method_157_code (3 : Nat) (Option.some Jvm.ClassFile.FieldType.int)) ∈ lw_all := lw_g (lw_at lw_m2 198 rfl) rfl
theorem q515 : (Jvm.Cond.fieldLink "java/lang/String" (1053 : Nat) "jdk/internal/util/Preconditions" "SIOOBE_FORMATTER" "Ljava/util/function/BiFunction;") ∈ lw_all := lw_g (lw_at lw_m2 199 rfl) rfl
theorem q517 : (Jvm.Cond.methodLink "java/lang/String" (1065 : Nat) ({ cls := "jdk/internal/util/Preconditions", name := "checkFromIndexSize", desc := "(IIILjava/util/function/BiFunction;)I" } : Jvm.MethodName)) ∈ lw_all := lw_g (lw_at lw_m2 201 rfl) rfl
theorem q536 : (Jvm.Cond.static ({ cls := "java/lang/String", name := "checkIndex", desc := "(II)V" } : Jvm.MethodName)) ∈ lw_all := lw_g (lw_at lw_m2 220 rfl) rfl
theorem q537 : (Jvm.Cond.code ({ cls := "java/lang/String", name := "checkIndex", desc := "(II)V" } : Jvm.MethodName) prog_24_method_155_code (2 : Nat) (Option.none : Option Jvm.ClassFile.FieldType)) ∈ lw_all := lw_g (lw_at lw_m2 221 rfl) rfl
theorem q538 : (Jvm.Cond.methodLink "java/lang/String" (1059 : Nat) ({ cls := "jdk/internal/util/Preconditions", name := "checkIndex", desc := "(IILjava/util/function/BiFunction;)I" } : Jvm.MethodName)) ∈ lw_all := lw_g (lw_at lw_m2 222 rfl) rfl
theorem q548 : (Jvm.Cond.instantiable "java/lang/String" (4 : Nat)) ∈ lw_all := lw_g (lw_at lw_m2 232 rfl) rfl
theorem q550 : (Jvm.Cond.instanceMethod ({ cls := "java/lang/String", name := "<init>", desc := "(Ljava/lang/StringBuilder;)V" } : Jvm.MethodName)) ∈ lw_all := lw_g (lw_at lw_m2 234 rfl) rfl
theorem q551 : (Jvm.Cond.code ({ cls := "java/lang/String", name := "<init>", desc := "(Ljava/lang/StringBuilder;)V" } : Jvm.MethodName) prog_24_method_53_code (2 : Nat) (Option.none : Option Jvm.ClassFile.FieldType)) ∈ lw_all := lw_g (lw_at lw_m2 235 rfl) rfl
theorem q552 : (Jvm.Cond.methodLink "java/lang/String" (489 : Nat) ({ cls := "java/lang/String", name := "<init>", desc := "(Ljava/lang/AbstractStringBuilder;Ljava/lang/Void;)V" } : Jvm.MethodName)) ∈ lw_all := lw_g (lw_at lw_m2 236 rfl) rfl
theorem q553 : (Jvm.Cond.instanceMethod ({ cls := "java/lang/String", name := "<init>", desc := "(Ljava/lang/AbstractStringBuilder;Ljava/lang/Void;)V" } : Jvm.MethodName)) ∈ lw_all := lw_g (lw_at lw_m2 237 rfl) rfl
theorem q554 : (Jvm.Cond.code ({ cls := "java/lang/String", name := "<init>", desc := "(Ljava/lang/AbstractStringBuilder;Ljava/lang/Void;)V" } : Jvm.MethodName) prog_24_method_150_code (5 : Nat) (Option.none : Option Jvm.ClassFile.FieldType)) ∈ lw_all := lw_g (lw_at lw_m2 238 rfl) rfl
theorem q555 : (Jvm.Cond.methodLink "java/lang/String" (1 : Nat) ({ cls := "java/lang/Object", name := "<init>", desc := "()V" } : Jvm.MethodName)) ∈ lw_all := lw_g (lw_at lw_m2 239 rfl) rfl
theorem q556 : (Jvm.Cond.methodLink "java/lang/String" (552 : Nat) ({ cls := "java/lang/AbstractStringBuilder", name := "getValue", desc := "()[B" } : Jvm.MethodName)) ∈ lw_all := lw_g (lw_at lw_m3 0 rfl) rfl
theorem q561 : (Jvm.Cond.methodLink "java/lang/String" (549 : Nat) ({ cls := "java/lang/AbstractStringBuilder", name := "length", desc := "()I" } : Jvm.MethodName)) ∈ lw_all := lw_g (lw_at lw_m3 5 rfl) rfl
theorem q569 : (Jvm.Cond.methodLink "java/lang/String" (1047 : Nat) ({ cls := "java/lang/AbstractStringBuilder", name := "isLatin1", desc := "()Z" } : Jvm.MethodName)) ∈ lw_all := lw_g (lw_at lw_m3 13 rfl) rfl
theorem q570 : (Jvm.Cond.methodLink "java/lang/String" (54 : Nat) ({ cls := "java/util/Arrays", name := "copyOfRange", desc := "([BII)[B" } : Jvm.MethodName)) ∈ lw_all := lw_g (lw_at lw_m3 14 rfl) rfl
theorem q579 : (Jvm.Cond.fieldLink "java/lang/String" (38 : Nat) "java/lang/String" "COMPACT_STRINGS" "Z") ∈ lw_all := lw_g (lw_at lw_m3 23 rfl) rfl
theorem q580 : (Jvm.Cond.methodLink "java/lang/String" (1051 : Nat) ({ cls := "java/lang/StringUTF16", name := "compress", desc := "([BII)[B" } : Jvm.MethodName)) ∈ lw_all := lw_g (lw_at lw_m3 24 rfl) rfl
theorem q590 : (Jvm.Cond.methodLink "java/lang/String" (47 : Nat) ({ cls := "java/lang/StringUTF16", name := "coderFromArrayLen", desc := "([BI)B" } : Jvm.MethodName)) ∈ lw_all := lw_g (lw_at lw_m3 34 rfl) rfl
theorem q593 : (Jvm.Cond.fieldLink "java/lang/String" (9 : Nat) "java/lang/String" "value" "[B") ∈ lw_all := lw_g (lw_at lw_m3 37 rfl) rfl
theorem q594 : (Jvm.Cond.fieldLink "java/lang/String" (15 : Nat) "java/lang/String" "coder" "B") ∈ lw_all := lw_g (lw_at lw_m3 38 rfl) rfl
theorem q595 : (Jvm.Cond.fieldLink "java/lang/String" (19 : Nat) "java/lang/String" "hash" "I") ∈ lw_all := lw_g (lw_at lw_m3 39 rfl) rfl
theorem q596 : (Jvm.Cond.fieldLink "java/lang/String" (23 : Nat) "java/lang/String" "hashIsZero" "Z") ∈ lw_all := lw_g (lw_at lw_m3 40 rfl) rfl
theorem q597 : (Jvm.Cond.laysFinal "java/lang/String" "java/lang/String" "value" "[B") ∈ lw_all := lw_g (lw_at lw_m3 41 rfl) rfl
theorem q598 : (Jvm.Cond.soleField "java/lang/String" "value") ∈ lw_all := lw_g (lw_at lw_m3 42 rfl) rfl
theorem q599 : (Jvm.Cond.laysFinal "java/lang/String" "java/lang/String" "coder" "B") ∈ lw_all := lw_g (lw_at lw_m3 43 rfl) rfl
theorem q600 : (Jvm.Cond.soleField "java/lang/String" "coder") ∈ lw_all := lw_g (lw_at lw_m3 44 rfl) rfl
theorem q601 : (Jvm.Cond.lays "java/lang/String" "java/lang/String" "hash" "I") ∈ lw_all := lw_g (lw_at lw_m3 45 rfl) rfl
theorem q602 : (Jvm.Cond.soleField "java/lang/String" "hash") ∈ lw_all := lw_g (lw_at lw_m3 46 rfl) rfl
theorem q603 : (Jvm.Cond.lays "java/lang/String" "java/lang/String" "hashIsZero" "Z") ∈ lw_all := lw_g (lw_at lw_m3 47 rfl) rfl
theorem q604 : (Jvm.Cond.soleField "java/lang/String" "hashIsZero") ∈ lw_all := lw_g (lw_at lw_m3 48 rfl) rfl
theorem q605 : (Jvm.Cond.superclass "java/lang/String" "java/lang/Object") ∈ lw_all := lw_g (lw_at lw_m3 49 rfl) rfl
theorem q695 : (Jvm.Cond.instanceMethod ({ cls := "java/lang/String", name := "length", desc := "()I" } : Jvm.MethodName)) ∈ lw_all := lw_g (lw_at lw_m3 139 rfl) rfl
theorem q696 : (Jvm.Cond.selects "java/lang/String" ({ cls := "java/lang/String", name := "length", desc := "()I" } : Jvm.MethodName) ({ cls := "java/lang/String", name := "length", desc := "()I" } : Jvm.MethodName)) ∈ lw_all := lw_g (lw_at lw_m3 140 rfl) rfl
theorem q697 : (Jvm.Cond.code ({ cls := "java/lang/String", name := "length", desc := "()I" } : Jvm.MethodName) prog_24_method_54_code (1 : Nat) (Option.some Jvm.ClassFile.FieldType.int)) ∈ lw_all := lw_g (lw_at lw_m3 141 rfl) rfl
theorem q698 : (Jvm.Cond.methodLink "java/lang/String" (335 : Nat) ({ cls := "java/lang/String", name := "coder", desc := "()B" } : Jvm.MethodName)) ∈ lw_all := lw_g (lw_at lw_m3 142 rfl) rfl
theorem q699 : (Jvm.Cond.instanceMethod ({ cls := "java/lang/String", name := "coder", desc := "()B" } : Jvm.MethodName)) ∈ lw_all := lw_g (lw_at lw_m3 143 rfl) rfl
theorem q700 : (Jvm.Cond.selects "java/lang/String" ({ cls := "java/lang/String", name := "coder", desc := "()B" } : Jvm.MethodName) ({ cls := "java/lang/String", name := "coder", desc := "()B" } : Jvm.MethodName)) ∈ lw_all := lw_g (lw_at lw_m3 144 rfl) rfl
theorem q701 : (Jvm.Cond.code ({ cls := "java/lang/String", name := "coder", desc := "()B" } : Jvm.MethodName) prog_24_method_152_code (1 : Nat) (Option.some Jvm.ClassFile.FieldType.byte)) ∈ lw_all := lw_g (lw_at lw_m3 145 rfl) rfl
theorem q706 : (Jvm.Cond.instanceMethod ({ cls := "java/lang/String", name := "charAt", desc := "(I)C" } : Jvm.MethodName)) ∈ lw_all := lw_g (lw_at lw_m3 150 rfl) rfl
theorem q707 : (Jvm.Cond.selects "java/lang/String" ({ cls := "java/lang/String", name := "charAt", desc := "(I)C" } : Jvm.MethodName) ({ cls := "java/lang/String", name := "charAt", desc := "(I)C" } : Jvm.MethodName)) ∈ lw_all := lw_g (lw_at lw_m3 151 rfl) rfl
theorem q708 : (Jvm.Cond.code ({ cls := "java/lang/String", name := "charAt", desc := "(I)C" } : Jvm.MethodName) prog_24_method_56_code (2 : Nat) (Option.some Jvm.ClassFile.FieldType.char)) ∈ lw_all := lw_g (lw_at lw_m3 152 rfl) rfl
theorem q709 : (Jvm.Cond.methodLink "java/lang/String" (492 : Nat) ({ cls := "java/lang/String", name := "isLatin1", desc := "()Z" } : Jvm.MethodName)) ∈ lw_all := lw_g (lw_at lw_m3 153 rfl) rfl
theorem q710 : (Jvm.Cond.instanceMethod ({ cls := "java/lang/String", name := "isLatin1", desc := "()Z" } : Jvm.MethodName)) ∈ lw_all := lw_g (lw_at lw_m3 154 rfl) rfl
theorem q711 : (Jvm.Cond.selects "java/lang/String" ({ cls := "java/lang/String", name := "isLatin1", desc := "()Z" } : Jvm.MethodName) ({ cls := "java/lang/String", name := "isLatin1", desc := "()Z" } : Jvm.MethodName)) ∈ lw_all := lw_g (lw_at lw_m3 155 rfl) rfl
theorem q712 : (Jvm.Cond.code ({ cls := "java/lang/String", name := "isLatin1", desc := "()Z" } : Jvm.MethodName) prog_24_method_154_code (1 : Nat) (Option.some Jvm.ClassFile.FieldType.boolean)) ∈ lw_all := lw_g (lw_at lw_m3 156 rfl) rfl
theorem q713 : (Jvm.Cond.methodLink "java/lang/String" (495 : Nat) ({ cls := "java/lang/StringLatin1", name := "charAt", desc := "([BI)C" } : Jvm.MethodName)) ∈ lw_all := lw_g (lw_at lw_m3 157 rfl) rfl
theorem q717 : (Jvm.Cond.methodLink "java/lang/String" (498 : Nat) ({ cls := "java/lang/StringUTF16", name := "charAt", desc := "([BI)C" } : Jvm.MethodName)) ∈ lw_all := lw_g (lw_at lw_m3 161 rfl) rfl
theorem q735 : (Jvm.Cond.instanceMethod ({ cls := "java/lang/String", name := "isEmpty", desc := "()Z" } : Jvm.MethodName)) ∈ lw_all := lw_g (lw_at lw_m3 179 rfl) rfl
theorem q736 : (Jvm.Cond.selects "java/lang/String" ({ cls := "java/lang/String", name := "isEmpty", desc := "()Z" } : Jvm.MethodName) ({ cls := "java/lang/String", name := "isEmpty", desc := "()Z" } : Jvm.MethodName)) ∈ lw_all := lw_g (lw_at lw_m3 180 rfl) rfl
theorem q737 : (Jvm.Cond.code ({ cls := "java/lang/String", name := "isEmpty", desc := "()Z" } : Jvm.MethodName) prog_24_method_55_code (1 : Nat) (Option.some Jvm.ClassFile.FieldType.boolean)) ∈ lw_all := lw_g (lw_at lw_m3 181 rfl) rfl
theorem q757 : (Jvm.Cond.instanceMethod ({ cls := "java/lang/String", name := "equals", desc := "(Ljava/lang/Object;)Z" } : Jvm.MethodName)) ∈ lw_all := lw_g (lw_at lw_m3 201 rfl) rfl
theorem q758 : (Jvm.Cond.selects "java/lang/String" ({ cls := "java/lang/String", name := "equals", desc := "(Ljava/lang/Object;)Z" } : Jvm.MethodName) ({ cls := "java/lang/String", name := "equals", desc := "(Ljava/lang/Object;)Z" } : Jvm.MethodName)) ∈ lw_all := lw_g (lw_at lw_m3 202 rfl) rfl
theorem q759 : (Jvm.Cond.code ({ cls := "java/lang/String", name := "equals", desc := "(Ljava/lang/Object;)Z" } : Jvm.MethodName) prog_24_method_66_code (3 : Nat) (Option.some Jvm.ClassFile.FieldType.boolean)) ∈ lw_all := lw_g (lw_at lw_m3 203 rfl) rfl
theorem q760 : (Jvm.Cond.classLink "java/lang/String" (10 : Nat) "java/lang/String") ∈ lw_all := lw_g (lw_at lw_m3 204 rfl) rfl
theorem q761 : (Jvm.Cond.methodLink "java/lang/String" (541 : Nat) ({ cls := "java/lang/StringLatin1", name := "equals", desc := "([B[B)Z" } : Jvm.MethodName)) ∈ lw_all := lw_g (lw_at lw_m3 205 rfl) rfl
theorem q929 : (Jvm.Cond.instanceMethod ({ cls := "java/lang/String", name := "hashCode", desc := "()I" } : Jvm.MethodName)) ∈ lw_all := lw_g (lw_at lw_m4 133 rfl) rfl
theorem q930 : (Jvm.Cond.selects "java/lang/String" ({ cls := "java/lang/String", name := "hashCode", desc := "()I" } : Jvm.MethodName) ({ cls := "java/lang/String", name := "hashCode", desc := "()I" } : Jvm.MethodName)) ∈ lw_all := lw_g (lw_at lw_m4 134 rfl) rfl
theorem q931 : (Jvm.Cond.code ({ cls := "java/lang/String", name := "hashCode", desc := "()I" } : Jvm.MethodName) prog_24_method_78_code (2 : Nat) (Option.some Jvm.ClassFile.FieldType.int)) ∈ lw_all := lw_g (lw_at lw_m4 135 rfl) rfl
theorem q932 : (Jvm.Cond.methodLink "java/lang/String" (628 : Nat) ({ cls := "java/lang/StringLatin1", name := "hashCode", desc := "([B)I" } : Jvm.MethodName)) ∈ lw_all := lw_g (lw_at lw_m4 136 rfl) rfl
theorem q973 : (Jvm.Cond.methodLink "java/lang/String" (632 : Nat) ({ cls := "java/lang/StringUTF16", name := "hashCode", desc := "([B)I" } : Jvm.MethodName)) ∈ lw_all := lw_g (lw_at lw_m4 177 rfl) rfl
theorem in_J2 : ∀ w ∈ wsJ20, w ∈ lw_all := lw_in wsJ20 [597, 599, 601, 603] (by decide +kernel) (by decide +kernel)
def RJ3 : String := "java/lang/StringUTF16"
abbrev cJ3_newBytesFor : ByteArray := prog_27_method_2_code
def yJ3_newBytesFor : MethodName := ⟨RJ3, "newBytesFor", "(I)[B"⟩
abbrev cJ3_newBytesLength : ByteArray := prog_27_method_3_code
def yJ3_newBytesLength : MethodName := ⟨RJ3, "newBytesLength", "(I)I"⟩
abbrev cJ3_fillNull : ByteArray := prog_27_method_70_code
def yJ3_fillNull : MethodName := ⟨RJ3, "fillNull", "([BII)V"⟩
abbrev cJ3_inflate : ByteArray := prog_27_method_86_code
def yJ3_inflate : MethodName := ⟨RJ3, "inflate", "([BI[BII)V"⟩
abbrev cJ3_checkBoundsOffCount : ByteArray := prog_27_method_94_code
def yJ3_checkBoundsOffCount : MethodName := ⟨RJ3, "checkBoundsOffCount", "(II[B)V"⟩
abbrev cJ3_length : ByteArray := prog_27_method_6_code
def yJ3_length : MethodName := ⟨RJ3, "length", "([B)I"⟩
abbrev cJ3_putChar : ByteArray := prog_27_method_4_code
def yJ3_putChar : MethodName := ⟨RJ3, "putChar", "([BII)V"⟩
abbrev cJ3_putCharSB : ByteArray := prog_27_method_71_code
def yJ3_putCharSB : MethodName := ⟨RJ3, "putCharSB", "([BII)V"⟩
abbrev cJ3_checkIndex : ByteArray := prog_27_method_91_code
def yJ3_checkIndex : MethodName := ⟨RJ3, "checkIndex", "(I[B)V"⟩
abbrev cJ3_compress : ByteArray := prog_27_method_17_code
def yJ3_compress : MethodName := ⟨RJ3, "compress", "([BII)[B"⟩
abbrev cJ3_compress_2 : ByteArray := prog_27_method_22_code
def yJ3_compress_2 : MethodName := ⟨RJ3, "compress", "([BI[BII)I"⟩
abbrev cJ3_getChar : ByteArray := prog_27_method_5_code
def yJ3_getChar : MethodName := ⟨RJ3, "getChar", "([BI)C"⟩
abbrev cJ3_coderFromArrayLen : ByteArray := prog_27_method_15_code
def yJ3_coderFromArrayLen : MethodName := ⟨RJ3, "coderFromArrayLen", "([BI)B"⟩
abbrev cJ3_charAt : ByteArray := prog_27_method_83_code
def yJ3_charAt : MethodName := ⟨RJ3, "charAt", "([BI)C"⟩
abbrev cJ3_hashCode : ByteArray := prog_27_method_39_code
def yJ3_hashCode : MethodName := ⟨RJ3, "hashCode", "([B)I"⟩
theorem q81 : (Jvm.Cond.initialized "java/lang/StringUTF16") ∈ lw_all := lw_g (lw_at lw_m1 5 rfl) rfl
theorem q129 : (Jvm.Cond.static ({ cls := "java/lang/StringUTF16", name := "newBytesFor", desc := "(I)[B" } : Jvm.MethodName)) ∈ lw_all := lw_g (lw_at lw_m1 53 rfl) rfl
theorem q130 : (Jvm.Cond.code ({ cls := "java/lang/StringUTF16", name := "newBytesFor", desc := "(I)[B" } : Jvm.MethodName) prog_27_method_2_code (1 : Nat) (Option.some (Jvm.ClassFile.FieldType.array Jvm.ClassFile.FieldType.byte))) ∈ lw_all := lw_g (lw_at lw_m1 54 rfl) rfl
theorem q131 : (Jvm.Cond.methodLink "java/lang/StringUTF16" (11 : Nat) ({ cls := "java/lang/StringUTF16", name := "newBytesLength", desc := "(I)I" } : Jvm.MethodName)) ∈ lw_all := lw_g (lw_at lw_m1 55 rfl) rfl
theorem q132 : (Jvm.Cond.static ({ cls := "java/lang/StringUTF16", name := "newBytesLength", desc := "(I)I" } : Jvm.MethodName)) ∈ lw_all := lw_g (lw_at lw_m1 56 rfl) rfl
theorem q133 : (Jvm.Cond.code ({ cls := "java/lang/StringUTF16", name := "newBytesLength", desc := "(I)I" } : Jvm.MethodName) prog_27_method_3_code (1 : Nat) (Option.some Jvm.ClassFile.FieldType.int)) ∈ lw_all := lw_g (lw_at lw_m1 57 rfl) rfl
theorem q134 : (Jvm.Cond.constant "java/lang/StringUTF16" (20 : Nat) (1073741823 : Int32)) ∈ lw_all := lw_g (lw_at lw_m1 58 rfl) rfl
theorem q483 : (Jvm.Cond.static ({ cls := "java/lang/StringUTF16", name := "fillNull", desc := "([BII)V" } : Jvm.MethodName)) ∈ lw_all := lw_g (lw_at lw_m2 167 rfl) rfl
theorem q484 : (Jvm.Cond.code ({ cls := "java/lang/StringUTF16", name := "fillNull", desc := "([BII)V" } : Jvm.MethodName) prog_27_method_70_code (3 : Nat) (Option.none : Option Jvm.ClassFile.FieldType)) ∈ lw_all := lw_g (lw_at lw_m2 168 rfl) rfl
theorem q485 : (Jvm.Cond.methodLink "java/lang/StringUTF16" (380 : Nat) ({ cls := "java/util/Arrays", name := "fill", desc := "([BIIB)V" } : Jvm.MethodName)) ∈ lw_all := lw_g (lw_at lw_m2 169 rfl) rfl
theorem q504 : (Jvm.Cond.static ({ cls := "java/lang/StringUTF16", name := "inflate", desc := "([BI[BII)V" } : Jvm.MethodName)) ∈ lw_all := lw_g (lw_at lw_m2 188 rfl) rfl
theorem q505 : (Jvm.Cond.code ({ cls := "java/lang/StringUTF16", name := "inflate", desc := "([BI[BII)V" } : Jvm.MethodName) prog_27_method_86_code (6 : Nat) (Option.none : Option Jvm.ClassFile.FieldType)) ∈ lw_all := lw_g (lw_at lw_m2 189 rfl) rfl
theorem q506 : (Jvm.Cond.methodLink "java/lang/StringUTF16" (173 : Nat) ({ cls := "java/lang/StringUTF16", name := "checkBoundsOffCount", desc := "(II[B)V" } : Jvm.MethodName)) ∈ lw_all := lw_g (lw_at lw_m2 190 rfl) rfl
theorem q507 : (Jvm.Cond.static ({ cls := "java/lang/StringUTF16", name := "checkBoundsOffCount", desc := "(II[B)V" } : Jvm.MethodName)) ∈ lw_all := lw_g (lw_at lw_m2 191 rfl) rfl
theorem q508 : (Jvm.Cond.code ({ cls := "java/lang/StringUTF16", name := "checkBoundsOffCount", desc := "(II[B)V" } : Jvm.MethodName) prog_27_method_94_code (3 : Nat) (Option.none : Option Jvm.ClassFile.FieldType)) ∈ lw_all := lw_g (lw_at lw_m2 192 rfl) rfl
theorem q509 : (Jvm.Cond.methodLink "java/lang/StringUTF16" (48 : Nat) ({ cls := "java/lang/StringUTF16", name := "length", desc := "([B)I" } : Jvm.MethodName)) ∈ lw_all := lw_g (lw_at lw_m2 193 rfl) rfl
theorem q510 : (Jvm.Cond.static ({ cls := "java/lang/StringUTF16", name := "length", desc := "([B)I" } : Jvm.MethodName)) ∈ lw_all := lw_g (lw_at lw_m2 194 rfl) rfl
theorem q511 : (Jvm.Cond.code ({ cls := "java/lang/StringUTF16", name := "length", desc := "([B)I" } : Jvm.MethodName) prog_27_method_6_code (1 : Nat) (Option.some Jvm.ClassFile.FieldType.int)) ∈ lw_all := lw_g (lw_at lw_m2 195 rfl) rfl
theorem q512 : (Jvm.Cond.methodLink "java/lang/StringUTF16" (419 : Nat) ({ cls := "java/lang/String", name := "checkBoundsOffCount", desc := "(III)I" } : Jvm.MethodName)) ∈ lw_all := lw_g (lw_at lw_m2 196 rfl) rfl
theorem q520 : (Jvm.Cond.methodLink "java/lang/StringUTF16" (111 : Nat) ({ cls := "java/lang/StringUTF16", name := "putChar", desc := "([BII)V" } : Jvm.MethodName)) ∈ lw_all := lw_g (lw_at lw_m2 204 rfl) rfl
theorem q521 : (Jvm.Cond.static ({ cls := "java/lang/StringUTF16", name := "putChar", desc := "([BII)V" } : Jvm.MethodName)) ∈ lw_all := lw_g (lw_at lw_m2 205 rfl) rfl
theorem q522 : (Jvm.Cond.code ({ cls := "java/lang/StringUTF16", name := "putChar", desc := "([BII)V" } : Jvm.MethodName) prog_27_method_4_code (3 : Nat) (Option.none : Option Jvm.ClassFile.FieldType)) ∈ lw_all := lw_g (lw_at lw_m2 206 rfl) rfl
theorem q523 : (Jvm.Cond.fieldLink "java/lang/StringUTF16" (44 : Nat) "java/lang/StringUTF16" "$assertionsDisabled" "Z") ∈ lw_all := lw_g (lw_at lw_m2 207 rfl) rfl
theorem q524 : (Jvm.Cond.laysStatic "java/lang/StringUTF16" "$assertionsDisabled" "Z") ∈ lw_tbl := lw_at lw_m2 208 rfl
theorem q525 : (Jvm.Cond.fieldLink "java/lang/StringUTF16" (59 : Nat) "java/lang/StringUTF16" "HI_BYTE_SHIFT" "I") ∈ lw_all := lw_g (lw_at lw_m2 209 rfl) rfl
theorem q526 : (Jvm.Cond.laysStatic "java/lang/StringUTF16" "HI_BYTE_SHIFT" "I") ∈ lw_tbl := lw_at lw_m2 210 rfl
theorem q527 : (Jvm.Cond.fieldLink "java/lang/StringUTF16" (63 : Nat) "java/lang/StringUTF16" "LO_BYTE_SHIFT" "I") ∈ lw_all := lw_g (lw_at lw_m2 211 rfl) rfl
theorem q528 : (Jvm.Cond.laysStatic "java/lang/StringUTF16" "LO_BYTE_SHIFT" "I") ∈ lw_tbl := lw_at lw_m2 212 rfl
theorem q530 : (Jvm.Cond.static ({ cls := "java/lang/StringUTF16", name := "putCharSB", desc := "([BII)V" } : Jvm.MethodName)) ∈ lw_all := lw_g (lw_at lw_m2 214 rfl) rfl
theorem q531 : (Jvm.Cond.code ({ cls := "java/lang/StringUTF16", name := "putCharSB", desc := "([BII)V" } : Jvm.MethodName) prog_27_method_71_code (3 : Nat) (Option.none : Option Jvm.ClassFile.FieldType)) ∈ lw_all := lw_g (lw_at lw_m2 215 rfl) rfl
theorem q532 : (Jvm.Cond.methodLink "java/lang/StringUTF16" (67 : Nat) ({ cls := "java/lang/StringUTF16", name := "checkIndex", desc := "(I[B)V" } : Jvm.MethodName)) ∈ lw_all := lw_g (lw_at lw_m2 216 rfl) rfl
theorem q533 : (Jvm.Cond.static ({ cls := "java/lang/StringUTF16", name := "checkIndex", desc := "(I[B)V" } : Jvm.MethodName)) ∈ lw_all := lw_g (lw_at lw_m2 217 rfl) rfl
theorem q534 : (Jvm.Cond.code ({ cls := "java/lang/StringUTF16", name := "checkIndex", desc := "(I[B)V" } : Jvm.MethodName) prog_27_method_91_code (2 : Nat) (Option.none : Option Jvm.ClassFile.FieldType)) ∈ lw_all := lw_g (lw_at lw_m2 218 rfl) rfl
theorem q535 : (Jvm.Cond.methodLink "java/lang/StringUTF16" (414 : Nat) ({ cls := "java/lang/String", name := "checkIndex", desc := "(II)V" } : Jvm.MethodName)) ∈ lw_all := lw_g (lw_at lw_m2 219 rfl) rfl
theorem q581 : (Jvm.Cond.static ({ cls := "java/lang/StringUTF16", name := "compress", desc := "([BII)[B" } : Jvm.MethodName)) ∈ lw_all := lw_g (lw_at lw_m3 25 rfl) rfl
theorem q582 : (Jvm.Cond.code ({ cls := "java/lang/StringUTF16", name := "compress", desc := "([BII)[B" } : Jvm.MethodName) prog_27_method_17_code (6 : Nat) (Option.some (Jvm.ClassFile.FieldType.array Jvm.ClassFile.FieldType.byte))) ∈ lw_all := lw_g (lw_at lw_m3 26 rfl) rfl
theorem q583 : (Jvm.Cond.methodLink "java/lang/StringUTF16" (123 : Nat) ({ cls := "java/lang/StringUTF16", name := "compress", desc := "([BI[BII)I" } : Jvm.MethodName)) ∈ lw_all := lw_g (lw_at lw_m3 27 rfl) rfl
theorem q584 : (Jvm.Cond.static ({ cls := "java/lang/StringUTF16", name := "compress", desc := "([BI[BII)I" } : Jvm.MethodName)) ∈ lw_all := lw_g (lw_at lw_m3 28 rfl) rfl
theorem q585 : (Jvm.Cond.code ({ cls := "java/lang/StringUTF16", name := "compress", desc := "([BI[BII)I" } : Jvm.MethodName) prog_27_method_22_code (7 : Nat) (Option.some Jvm.ClassFile.FieldType.int)) ∈ lw_all := lw_g (lw_at lw_m3 29 rfl) rfl
theorem q586 : (Jvm.Cond.methodLink "java/lang/StringUTF16" (71 : Nat) ({ cls := "java/lang/StringUTF16", name := "getChar", desc := "([BI)C" } : Jvm.MethodName)) ∈ lw_all := lw_g (lw_at lw_m3 30 rfl) rfl
theorem q587 : (Jvm.Cond.static ({ cls := "java/lang/StringUTF16", name := "getChar", desc := "([BI)C" } : Jvm.MethodName)) ∈ lw_all := lw_g (lw_at lw_m3 31 rfl) rfl
theorem q588 : (Jvm.Cond.code ({ cls := "java/lang/StringUTF16", name := "getChar", desc := "([BI)C" } : Jvm.MethodName) prog_27_method_5_code (2 : Nat) (Option.some Jvm.ClassFile.FieldType.char)) ∈ lw_all := lw_g (lw_at lw_m3 32 rfl) rfl
theorem q589 : (Jvm.Cond.methodLink "java/lang/StringUTF16" (126 : Nat) ({ cls := "java/util/Arrays", name := "copyOfRange", desc := "([BII)[B" } : Jvm.MethodName)) ∈ lw_all := lw_g (lw_at lw_m3 33 rfl) rfl
theorem q591 : (Jvm.Cond.static ({ cls := "java/lang/StringUTF16", name := "coderFromArrayLen", desc := "([BI)B" } : Jvm.MethodName)) ∈ lw_all := lw_g (lw_at lw_m3 35 rfl) rfl
theorem q592 : (Jvm.Cond.code ({ cls := "java/lang/StringUTF16", name := "coderFromArrayLen", desc := "([BI)B" } : Jvm.MethodName) prog_27_method_15_code (2 : Nat) (Option.some Jvm.ClassFile.FieldType.byte)) ∈ lw_all := lw_g (lw_at lw_m3 36 rfl) rfl
theorem q718 : (Jvm.Cond.static ({ cls := "java/lang/StringUTF16", name := "charAt", desc := "([BI)C" } : Jvm.MethodName)) ∈ lw_all := lw_g (lw_at lw_m3 162 rfl) rfl
theorem q719 : (Jvm.Cond.code ({ cls := "java/lang/StringUTF16", name := "charAt", desc := "([BI)C" } : Jvm.MethodName) prog_27_method_83_code (2 : Nat) (Option.some Jvm.ClassFile.FieldType.char)) ∈ lw_all := lw_g (lw_at lw_m3 163 rfl) rfl
theorem q974 : (Jvm.Cond.static ({ cls := "java/lang/StringUTF16", name := "hashCode", desc := "([B)I" } : Jvm.MethodName)) ∈ lw_all := lw_g (lw_at lw_m4 178 rfl) rfl
theorem q975 : (Jvm.Cond.code ({ cls := "java/lang/StringUTF16", name := "hashCode", desc := "([B)I" } : Jvm.MethodName) prog_27_method_39_code (1 : Nat) (Option.some Jvm.ClassFile.FieldType.int)) ∈ lw_all := lw_g (lw_at lw_m4 179 rfl) rfl
theorem q976 : (Jvm.Cond.methodLink "java/lang/StringUTF16" (220 : Nat) ({ cls := "jdk/internal/util/ArraysSupport", name := "vectorizedHashCode", desc := "(Ljava/lang/Object;IIII)I" } : Jvm.MethodName)) ∈ lw_all := lw_g (lw_at lw_m4 180 rfl) rfl
def RJ4 : String := "java/lang/Throwable"
def TJ4 : u_T := fun k => match k with
  | 0 => ("java/lang/Throwable", "cause", "Ljava/lang/Throwable;", false)
  | 1 => ("java/lang/Throwable", "stackTrace", "[Ljava/lang/StackTraceElement;", false)
  | 2 => ("java/lang/Throwable", "suppressedExceptions", "Ljava/util/List;", false)
  | 3 => ("java/lang/Throwable", "detailMessage", "Ljava/lang/String;", false)
  | _ => ("java/lang/Throwable", "backtrace", "Ljava/lang/Object;", false)
def tyJ4 : Nat → FieldType := fun k => match k with
  | 0 => .object "java/lang/Throwable"
  | 1 => .array (.object "java/lang/StackTraceElement")
  | 2 => .object "java/util/List"
  | 3 => .object "java/lang/String"
  | _ => .object "java/lang/Object"
abbrev wsJ40 : List Cond := u_ws RJ4 TJ4 5
theorem nmJ4 : ∀ a, a < 5 → ∀ b, b < 5 → a ≠ b → (TJ4 a).2.1 ≠ (TJ4 b).2.1 := by decide +kernel
theorem tyJ4_ok : ∀ k, k < 5 → parseFieldDescriptor (TJ4 k).2.2.1 = some (tyJ4 k) := by decide +kernel
abbrev cJ4_init : ByteArray := prog_30_method_1_code
def yJ4_init : MethodName := ⟨RJ4, "<init>", "()V"⟩
theorem q87 : (Jvm.Cond.initialized "java/lang/Throwable") ∈ lw_all := lw_g (lw_at lw_m1 11 rfl) rfl
theorem q338 : (Jvm.Cond.declares ({ cls := "java/lang/Throwable", name := "<init>", desc := "()V" } : Jvm.MethodName)) ∈ lw_tbl := lw_at lw_m2 22 rfl
theorem q339 : (Jvm.Cond.declares ({ cls := "java/lang/Throwable", name := "<init>", desc := "(Ljava/lang/String;)V" } : Jvm.MethodName)) ∈ lw_tbl := lw_at lw_m2 23 rfl
theorem q343 : (Jvm.Cond.lays "java/lang/Throwable" "java/lang/Throwable" "cause" "Ljava/lang/Throwable;") ∈ lw_all := lw_g (lw_at lw_m2 27 rfl) rfl
theorem q345 : (Jvm.Cond.lays "java/lang/Throwable" "java/lang/Throwable" "stackTrace" "[Ljava/lang/StackTraceElement;") ∈ lw_all := lw_g (lw_at lw_m2 29 rfl) rfl
theorem q347 : (Jvm.Cond.lays "java/lang/Throwable" "java/lang/Throwable" "suppressedExceptions" "Ljava/util/List;") ∈ lw_all := lw_g (lw_at lw_m2 31 rfl) rfl
theorem q349 : (Jvm.Cond.lays "java/lang/Throwable" "java/lang/Throwable" "detailMessage" "Ljava/lang/String;") ∈ lw_all := lw_g (lw_at lw_m2 33 rfl) rfl
theorem q351 : (Jvm.Cond.lays "java/lang/Throwable" "java/lang/Throwable" "backtrace" "Ljava/lang/Object;") ∈ lw_all := lw_g (lw_at lw_m2 35 rfl) rfl
theorem q352 : (Jvm.Cond.fieldLink "java/lang/Throwable" (198 : Nat) "java/lang/Throwable" "backtrace" "Ljava/lang/Object;") ∈ lw_all := lw_g (lw_at lw_m2 36 rfl) rfl
theorem q353 : (Jvm.Cond.superclass "java/lang/Throwable" "java/lang/Object") ∈ lw_all := lw_g (lw_at lw_m2 37 rfl) rfl
theorem q354 : (Jvm.Cond.instanceMethod ({ cls := "java/lang/Throwable", name := "<init>", desc := "()V" } : Jvm.MethodName)) ∈ lw_all := lw_g (lw_at lw_m2 38 rfl) rfl
theorem q355 : (Jvm.Cond.code ({ cls := "java/lang/Throwable", name := "<init>", desc := "()V" } : Jvm.MethodName) prog_30_method_1_code (1 : Nat) (Option.none : Option Jvm.ClassFile.FieldType)) ∈ lw_all := lw_g (lw_at lw_m2 39 rfl) rfl
theorem q356 : (Jvm.Cond.methodLink "java/lang/Throwable" (1 : Nat) ({ cls := "java/lang/Object", name := "<init>", desc := "()V" } : Jvm.MethodName)) ∈ lw_all := lw_g (lw_at lw_m2 40 rfl) rfl
theorem q357 : (Jvm.Cond.fieldLink "java/lang/Throwable" (13 : Nat) "java/lang/Throwable" "UNASSIGNED_STACK" "[Ljava/lang/StackTraceElement;") ∈ lw_all := lw_g (lw_at lw_m2 41 rfl) rfl
theorem q358 : (Jvm.Cond.laysStatic "java/lang/Throwable" "UNASSIGNED_STACK" "[Ljava/lang/StackTraceElement;") ∈ lw_tbl := lw_at lw_m2 42 rfl
theorem q359 : (Jvm.Cond.fieldLink "java/lang/Throwable" (20 : Nat) "java/lang/Throwable" "SUPPRESSED_SENTINEL" "Ljava/util/List;") ∈ lw_all := lw_g (lw_at lw_m2 43 rfl) rfl
theorem q360 : (Jvm.Cond.laysStatic "java/lang/Throwable" "SUPPRESSED_SENTINEL" "Ljava/util/List;") ∈ lw_tbl := lw_at lw_m2 44 rfl
theorem q361 : (Jvm.Cond.methodLink "java/lang/Throwable" (27 : Nat) ({ cls := "java/lang/Throwable", name := "fillInStackTrace", desc := "()Ljava/lang/Throwable;" } : Jvm.MethodName)) ∈ lw_all := lw_g (lw_at lw_m2 45 rfl) rfl
theorem q362 : (Jvm.Cond.instanceMethod ({ cls := "java/lang/Throwable", name := "fillInStackTrace", desc := "()Ljava/lang/Throwable;" } : Jvm.MethodName)) ∈ lw_all := lw_g (lw_at lw_m2 46 rfl) rfl
theorem q363 : (Jvm.Cond.sameMethod "java/lang/Throwable" "java/lang/Throwable" "fillInStackTrace" "()Ljava/lang/Throwable;") ∈ lw_all := lw_g (lw_at lw_m2 47 rfl) rfl
theorem q364 : (Jvm.Cond.codeSync ({ cls := "java/lang/Throwable", name := "fillInStackTrace", desc := "()Ljava/lang/Throwable;" } : Jvm.MethodName) prog_30_method_18_code (1 : Nat) (Option.some (Jvm.ClassFile.FieldType.object "java/lang/Throwable"))) ∈ lw_all := lw_g (lw_at lw_m2 48 rfl) rfl
theorem q365 : (Jvm.Cond.methodLink "java/lang/Throwable" (202 : Nat) ({ cls := "java/lang/Throwable", name := "fillInStackTrace", desc := "(I)Ljava/lang/Throwable;" } : Jvm.MethodName)) ∈ lw_all := lw_g (lw_at lw_m2 49 rfl) rfl
theorem q366 : (Jvm.Cond.privateMethod ({ cls := "java/lang/Throwable", name := "fillInStackTrace", desc := "(I)Ljava/lang/Throwable;" } : Jvm.MethodName)) ∈ lw_tbl := lw_at lw_m2 50 rfl
theorem q367 : (Jvm.Cond.instanceMethod ({ cls := "java/lang/Throwable", name := "fillInStackTrace", desc := "(I)Ljava/lang/Throwable;" } : Jvm.MethodName)) ∈ lw_all := lw_g (lw_at lw_m2 51 rfl) rfl
theorem q368 : (Jvm.Cond.instantiable "java/lang/Throwable" (6 : Nat)) ∈ lw_all := lw_g (lw_at lw_m2 52 rfl) rfl
theorem q369 : (Jvm.Cond.native ({ cls := "java/lang/Throwable", name := "fillInStackTrace", desc := "(I)Ljava/lang/Throwable;" } : Jvm.MethodName)) ∈ lw_all := lw_g (lw_at lw_m2 53 rfl) rfl
theorem q384 : (Jvm.Cond.fieldLink "java/lang/Throwable" (198 : Nat) "java/lang/Throwable" "backtrace" "Ljava/lang/Object;") ∈ lw_all := lw_g (lw_at lw_m2 68 rfl) rfl
theorem q385 : (Jvm.Cond.fieldLink "java/lang/Throwable" (7 : Nat) "java/lang/Throwable" "cause" "Ljava/lang/Throwable;") ∈ lw_all := lw_g (lw_at lw_m2 69 rfl) rfl
theorem q386 : (Jvm.Cond.fieldLink "java/lang/Throwable" (17 : Nat) "java/lang/Throwable" "stackTrace" "[Ljava/lang/StackTraceElement;") ∈ lw_all := lw_g (lw_at lw_m2 70 rfl) rfl
theorem q387 : (Jvm.Cond.fieldLink "java/lang/Throwable" (24 : Nat) "java/lang/Throwable" "suppressedExceptions" "Ljava/util/List;") ∈ lw_all := lw_g (lw_at lw_m2 71 rfl) rfl
theorem q392 : (Jvm.Cond.soleField "java/lang/Throwable" "backtrace") ∈ lw_all := lw_g (lw_at lw_m2 76 rfl) rfl
theorem q393 : (Jvm.Cond.soleField "java/lang/Throwable" "detailMessage") ∈ lw_all := lw_g (lw_at lw_m2 77 rfl) rfl
theorem q394 : (Jvm.Cond.soleField "java/lang/Throwable" "cause") ∈ lw_all := lw_g (lw_at lw_m2 78 rfl) rfl
theorem q395 : (Jvm.Cond.soleField "java/lang/Throwable" "stackTrace") ∈ lw_all := lw_g (lw_at lw_m2 79 rfl) rfl
theorem q397 : (Jvm.Cond.soleField "java/lang/Throwable" "depth") ∈ lw_all := lw_g (lw_at lw_m2 81 rfl) rfl
theorem q398 : (Jvm.Cond.soleField "java/lang/Throwable" "suppressedExceptions") ∈ lw_all := lw_g (lw_at lw_m2 82 rfl) rfl
theorem q1425 : (Jvm.Cond.sameMethod "java/lang/Throwable" "java/lang/Throwable" "fillInStackTrace" "(I)Ljava/lang/Throwable;") ∈ lw_all := lw_g (lw_at lw_m6 149 rfl) rfl
theorem in_J4 : ∀ w ∈ wsJ40, w ∈ lw_all := lw_in wsJ40 [343, 345, 347, 349, 351] (by decide +kernel) (by decide +kernel)
def RJ5 : String := "java/lang/Exception"
abbrev cJ5_init : ByteArray := prog_20_method_1_code
def yJ5_init : MethodName := ⟨RJ5, "<init>", "()V"⟩
theorem q88 : (Jvm.Cond.initialized "java/lang/Exception") ∈ lw_all := lw_g (lw_at lw_m1 12 rfl) rfl
theorem q336 : (Jvm.Cond.declares ({ cls := "java/lang/Exception", name := "<init>", desc := "()V" } : Jvm.MethodName)) ∈ lw_tbl := lw_at lw_m2 20 rfl
theorem q337 : (Jvm.Cond.declares ({ cls := "java/lang/Exception", name := "<init>", desc := "(Ljava/lang/String;)V" } : Jvm.MethodName)) ∈ lw_tbl := lw_at lw_m2 21 rfl
theorem q377 : (Jvm.Cond.instanceMethod ({ cls := "java/lang/Exception", name := "<init>", desc := "()V" } : Jvm.MethodName)) ∈ lw_all := lw_g (lw_at lw_m2 61 rfl) rfl
theorem q378 : (Jvm.Cond.code ({ cls := "java/lang/Exception", name := "<init>", desc := "()V" } : Jvm.MethodName) prog_20_method_1_code (1 : Nat) (Option.none : Option Jvm.ClassFile.FieldType)) ∈ lw_all := lw_g (lw_at lw_m2 62 rfl) rfl
theorem q379 : (Jvm.Cond.methodLink "java/lang/Exception" (1 : Nat) ({ cls := "java/lang/Throwable", name := "<init>", desc := "()V" } : Jvm.MethodName)) ∈ lw_all := lw_g (lw_at lw_m2 63 rfl) rfl
def RJ6 : String := "java/lang/RuntimeException"
abbrev cJ6_init : ByteArray := prog_23_method_1_code
def yJ6_init : MethodName := ⟨RJ6, "<init>", "()V"⟩
theorem q89 : (Jvm.Cond.initialized "java/lang/RuntimeException") ∈ lw_all := lw_g (lw_at lw_m1 13 rfl) rfl
theorem q334 : (Jvm.Cond.declares ({ cls := "java/lang/RuntimeException", name := "<init>", desc := "()V" } : Jvm.MethodName)) ∈ lw_tbl := lw_at lw_m2 18 rfl
theorem q335 : (Jvm.Cond.declares ({ cls := "java/lang/RuntimeException", name := "<init>", desc := "(Ljava/lang/String;)V" } : Jvm.MethodName)) ∈ lw_tbl := lw_at lw_m2 19 rfl
theorem q374 : (Jvm.Cond.instanceMethod ({ cls := "java/lang/RuntimeException", name := "<init>", desc := "()V" } : Jvm.MethodName)) ∈ lw_all := lw_g (lw_at lw_m2 58 rfl) rfl
theorem q375 : (Jvm.Cond.code ({ cls := "java/lang/RuntimeException", name := "<init>", desc := "()V" } : Jvm.MethodName) prog_23_method_1_code (1 : Nat) (Option.none : Option Jvm.ClassFile.FieldType)) ∈ lw_all := lw_g (lw_at lw_m2 59 rfl) rfl
theorem q376 : (Jvm.Cond.methodLink "java/lang/RuntimeException" (1 : Nat) ({ cls := "java/lang/Exception", name := "<init>", desc := "()V" } : Jvm.MethodName)) ∈ lw_all := lw_g (lw_at lw_m2 60 rfl) rfl
def RJ7 : String := "jdk/internal/util/ArraysSupport"
abbrev cJ7_newLength : ByteArray := prog_33_method_27_code
def yJ7_newLength : MethodName := ⟨RJ7, "newLength", "(III)I"⟩
abbrev cJ7_hugeLength : ByteArray := prog_33_method_28_code
def yJ7_hugeLength : MethodName := ⟨RJ7, "hugeLength", "(II)I"⟩
abbrev cJ7_vectorizedHashCode : ByteArray := prog_33_method_4_code
def yJ7_vectorizedHashCode : MethodName := ⟨RJ7, "vectorizedHashCode", "(Ljava/lang/Object;IIII)I"⟩
abbrev cJ7_signedHashCode : ByteArray := prog_33_method_5_code
def yJ7_signedHashCode : MethodName := ⟨RJ7, "signedHashCode", "(I[BII)I"⟩
abbrev cJ7_utf16hashCode : ByteArray := prog_33_method_10_code
def yJ7_utf16hashCode : MethodName := ⟨RJ7, "utf16hashCode", "(I[BII)I"⟩
abbrev cJ7_hashCode : ByteArray := prog_33_method_7_code
def yJ7_hashCode : MethodName := ⟨RJ7, "hashCode", "(I[CII)I"⟩
abbrev cJ7_hashCode_2 : ByteArray := prog_33_method_6_code
def yJ7_hashCode_2 : MethodName := ⟨RJ7, "hashCode", "(I[BII)I"⟩
abbrev cJ7_hashCode_3 : ByteArray := prog_33_method_8_code
def yJ7_hashCode_3 : MethodName := ⟨RJ7, "hashCode", "(I[SII)I"⟩
abbrev cJ7_hashCode_4 : ByteArray := prog_33_method_9_code
def yJ7_hashCode_4 : MethodName := ⟨RJ7, "hashCode", "(I[III)I"⟩
theorem q91 : (Jvm.Cond.initialized "jdk/internal/util/ArraysSupport") ∈ lw_all := lw_g (lw_at lw_m1 15 rfl) rfl
theorem q442 : (Jvm.Cond.static ({ cls := "jdk/internal/util/ArraysSupport", name := "newLength", desc := "(III)I" } : Jvm.MethodName)) ∈ lw_all := lw_g (lw_at lw_m2 126 rfl) rfl
theorem q443 : (Jvm.Cond.code ({ cls := "jdk/internal/util/ArraysSupport", name := "newLength", desc := "(III)I" } : Jvm.MethodName) prog_33_method_27_code (4 : Nat) (Option.some Jvm.ClassFile.FieldType.int)) ∈ lw_all := lw_g (lw_at lw_m2 127 rfl) rfl
theorem q444 : (Jvm.Cond.methodLink "jdk/internal/util/ArraysSupport" (194 : Nat) ({ cls := "java/lang/Math", name := "max", desc := "(II)I" } : Jvm.MethodName)) ∈ lw_all := lw_g (lw_at lw_m2 128 rfl) rfl
theorem q447 : (Jvm.Cond.constant "jdk/internal/util/ArraysSupport" (200 : Nat) (2147483639 : Int32)) ∈ lw_all := lw_g (lw_at lw_m2 131 rfl) rfl
theorem q448 : (Jvm.Cond.methodLink "jdk/internal/util/ArraysSupport" (201 : Nat) ({ cls := "jdk/internal/util/ArraysSupport", name := "hugeLength", desc := "(II)I" } : Jvm.MethodName)) ∈ lw_all := lw_g (lw_at lw_m2 132 rfl) rfl
theorem q449 : (Jvm.Cond.static ({ cls := "jdk/internal/util/ArraysSupport", name := "hugeLength", desc := "(II)I" } : Jvm.MethodName)) ∈ lw_all := lw_g (lw_at lw_m2 133 rfl) rfl
theorem q450 : (Jvm.Cond.code ({ cls := "jdk/internal/util/ArraysSupport", name := "hugeLength", desc := "(II)I" } : Jvm.MethodName) prog_33_method_28_code (3 : Nat) (Option.some Jvm.ClassFile.FieldType.int)) ∈ lw_all := lw_g (lw_at lw_m2 134 rfl) rfl
theorem q936 : (Jvm.Cond.static ({ cls := "jdk/internal/util/ArraysSupport", name := "vectorizedHashCode", desc := "(Ljava/lang/Object;IIII)I" } : Jvm.MethodName)) ∈ lw_all := lw_g (lw_at lw_m4 140 rfl) rfl
theorem q937 : (Jvm.Cond.code ({ cls := "jdk/internal/util/ArraysSupport", name := "vectorizedHashCode", desc := "(Ljava/lang/Object;IIII)I" } : Jvm.MethodName) prog_33_method_4_code (5 : Nat) (Option.some Jvm.ClassFile.FieldType.int)) ∈ lw_all := lw_g (lw_at lw_m4 141 rfl) rfl
theorem q938 : (Jvm.Cond.classLink "jdk/internal/util/ArraysSupport" (60 : Nat) "[B") ∈ lw_all := lw_g (lw_at lw_m4 142 rfl) rfl
theorem q939 : (Jvm.Cond.methodLink "jdk/internal/util/ArraysSupport" (62 : Nat) ({ cls := "jdk/internal/util/ArraysSupport", name := "signedHashCode", desc := "(I[BII)I" } : Jvm.MethodName)) ∈ lw_all := lw_g (lw_at lw_m4 143 rfl) rfl
theorem q940 : (Jvm.Cond.static ({ cls := "jdk/internal/util/ArraysSupport", name := "signedHashCode", desc := "(I[BII)I" } : Jvm.MethodName)) ∈ lw_all := lw_g (lw_at lw_m4 144 rfl) rfl
theorem q941 : (Jvm.Cond.code ({ cls := "jdk/internal/util/ArraysSupport", name := "signedHashCode", desc := "(I[BII)I" } : Jvm.MethodName) prog_33_method_5_code (6 : Nat) (Option.some Jvm.ClassFile.FieldType.int)) ∈ lw_all := lw_g (lw_at lw_m4 145 rfl) rfl
theorem q942 : (Jvm.Cond.methodLink "jdk/internal/util/ArraysSupport" (66 : Nat) ({ cls := "jdk/internal/util/ArraysSupport", name := "utf16hashCode", desc := "(I[BII)I" } : Jvm.MethodName)) ∈ lw_all := lw_g (lw_at lw_m4 146 rfl) rfl
theorem q943 : (Jvm.Cond.static ({ cls := "jdk/internal/util/ArraysSupport", name := "utf16hashCode", desc := "(I[BII)I" } : Jvm.MethodName)) ∈ lw_all := lw_g (lw_at lw_m4 147 rfl) rfl
theorem q944 : (Jvm.Cond.code ({ cls := "jdk/internal/util/ArraysSupport", name := "utf16hashCode", desc := "(I[BII)I" } : Jvm.MethodName) prog_33_method_10_code (6 : Nat) (Option.some Jvm.ClassFile.FieldType.int)) ∈ lw_all := lw_g (lw_at lw_m4 148 rfl) rfl
theorem q945 : (Jvm.Cond.fieldLink "jdk/internal/util/ArraysSupport" (106 : Nat) "jdk/internal/util/ArraysSupport" "JLA" "Ljdk/internal/access/JavaLangAccess;") ∈ lw_all := lw_g (lw_at lw_m4 149 rfl) rfl
theorem q946 : (Jvm.Cond.laysStatic "jdk/internal/util/ArraysSupport" "JLA" "Ljdk/internal/access/JavaLangAccess;") ∈ lw_tbl := lw_at lw_m4 150 rfl
theorem q947 : (Jvm.Cond.interfaceEntry "jdk/internal/util/ArraysSupport" (110 : Nat)) ∈ lw_tbl := lw_at lw_m4 151 rfl
theorem q948 : (Jvm.Cond.methodLink "jdk/internal/util/ArraysSupport" (110 : Nat) ({ cls := "jdk/internal/access/JavaLangAccess", name := "getUTF16Char", desc := "([BI)C" } : Jvm.MethodName)) ∈ lw_all := lw_g (lw_at lw_m4 152 rfl) rfl
theorem q958 : (Jvm.Cond.classLink "jdk/internal/util/ArraysSupport" (69 : Nat) "[C") ∈ lw_all := lw_g (lw_at lw_m4 162 rfl) rfl
theorem q959 : (Jvm.Cond.methodLink "jdk/internal/util/ArraysSupport" (71 : Nat) ({ cls := "jdk/internal/util/ArraysSupport", name := "hashCode", desc := "(I[CII)I" } : Jvm.MethodName)) ∈ lw_all := lw_g (lw_at lw_m4 163 rfl) rfl
theorem q960 : (Jvm.Cond.static ({ cls := "jdk/internal/util/ArraysSupport", name := "hashCode", desc := "(I[CII)I" } : Jvm.MethodName)) ∈ lw_all := lw_g (lw_at lw_m4 164 rfl) rfl
theorem q961 : (Jvm.Cond.code ({ cls := "jdk/internal/util/ArraysSupport", name := "hashCode", desc := "(I[CII)I" } : Jvm.MethodName) prog_33_method_7_code (6 : Nat) (Option.some Jvm.ClassFile.FieldType.int)) ∈ lw_all := lw_g (lw_at lw_m4 165 rfl) rfl
theorem q962 : (Jvm.Cond.methodLink "jdk/internal/util/ArraysSupport" (75 : Nat) ({ cls := "jdk/internal/util/ArraysSupport", name := "hashCode", desc := "(I[BII)I" } : Jvm.MethodName)) ∈ lw_all := lw_g (lw_at lw_m4 166 rfl) rfl
theorem q963 : (Jvm.Cond.static ({ cls := "jdk/internal/util/ArraysSupport", name := "hashCode", desc := "(I[BII)I" } : Jvm.MethodName)) ∈ lw_all := lw_g (lw_at lw_m4 167 rfl) rfl
theorem q964 : (Jvm.Cond.code ({ cls := "jdk/internal/util/ArraysSupport", name := "hashCode", desc := "(I[BII)I" } : Jvm.MethodName) prog_33_method_6_code (6 : Nat) (Option.some Jvm.ClassFile.FieldType.int)) ∈ lw_all := lw_g (lw_at lw_m4 168 rfl) rfl
theorem q965 : (Jvm.Cond.classLink "jdk/internal/util/ArraysSupport" (77 : Nat) "[S") ∈ lw_all := lw_g (lw_at lw_m4 169 rfl) rfl
theorem q966 : (Jvm.Cond.methodLink "jdk/internal/util/ArraysSupport" (79 : Nat) ({ cls := "jdk/internal/util/ArraysSupport", name := "hashCode", desc := "(I[SII)I" } : Jvm.MethodName)) ∈ lw_all := lw_g (lw_at lw_m4 170 rfl) rfl
theorem q967 : (Jvm.Cond.static ({ cls := "jdk/internal/util/ArraysSupport", name := "hashCode", desc := "(I[SII)I" } : Jvm.MethodName)) ∈ lw_all := lw_g (lw_at lw_m4 171 rfl) rfl
theorem q968 : (Jvm.Cond.code ({ cls := "jdk/internal/util/ArraysSupport", name := "hashCode", desc := "(I[SII)I" } : Jvm.MethodName) prog_33_method_8_code (6 : Nat) (Option.some Jvm.ClassFile.FieldType.int)) ∈ lw_all := lw_g (lw_at lw_m4 172 rfl) rfl
theorem q969 : (Jvm.Cond.classLink "jdk/internal/util/ArraysSupport" (82 : Nat) "[I") ∈ lw_all := lw_g (lw_at lw_m4 173 rfl) rfl
theorem q970 : (Jvm.Cond.methodLink "jdk/internal/util/ArraysSupport" (84 : Nat) ({ cls := "jdk/internal/util/ArraysSupport", name := "hashCode", desc := "(I[III)I" } : Jvm.MethodName)) ∈ lw_all := lw_g (lw_at lw_m4 174 rfl) rfl
theorem q971 : (Jvm.Cond.static ({ cls := "jdk/internal/util/ArraysSupport", name := "hashCode", desc := "(I[III)I" } : Jvm.MethodName)) ∈ lw_all := lw_g (lw_at lw_m4 175 rfl) rfl
theorem q972 : (Jvm.Cond.code ({ cls := "jdk/internal/util/ArraysSupport", name := "hashCode", desc := "(I[III)I" } : Jvm.MethodName) prog_33_method_9_code (6 : Nat) (Option.some Jvm.ClassFile.FieldType.int)) ∈ lw_all := lw_g (lw_at lw_m4 176 rfl) rfl
def RJ8 : String := "java/lang/Math"
abbrev cJ8_max : ByteArray := prog_22_method_65_code
def yJ8_max : MethodName := ⟨RJ8, "max", "(II)I"⟩
abbrev cJ8_min : ByteArray := prog_22_method_69_code
def yJ8_min : MethodName := ⟨RJ8, "min", "(II)I"⟩
theorem q92 : (Jvm.Cond.initialized "java/lang/Math") ∈ lw_all := lw_g (lw_at lw_m1 16 rfl) rfl
theorem q445 : (Jvm.Cond.static ({ cls := "java/lang/Math", name := "max", desc := "(II)I" } : Jvm.MethodName)) ∈ lw_all := lw_g (lw_at lw_m2 129 rfl) rfl
theorem q446 : (Jvm.Cond.code ({ cls := "java/lang/Math", name := "max", desc := "(II)I" } : Jvm.MethodName) prog_22_method_65_code (2 : Nat) (Option.some Jvm.ClassFile.FieldType.int)) ∈ lw_all := lw_g (lw_at lw_m2 130 rfl) rfl
theorem q463 : (Jvm.Cond.static ({ cls := "java/lang/Math", name := "min", desc := "(II)I" } : Jvm.MethodName)) ∈ lw_all := lw_g (lw_at lw_m2 147 rfl) rfl
theorem q464 : (Jvm.Cond.code ({ cls := "java/lang/Math", name := "min", desc := "(II)I" } : Jvm.MethodName) prog_22_method_69_code (2 : Nat) (Option.some Jvm.ClassFile.FieldType.int)) ∈ lw_all := lw_g (lw_at lw_m2 148 rfl) rfl
def RJ9 : String := "java/util/Arrays"
abbrev cJ9_copyOf : ByteArray := prog_31_method_121_code
def yJ9_copyOf : MethodName := ⟨RJ9, "copyOf", "([BI)[B"⟩
abbrev cJ9_fill : ByteArray := prog_31_method_110_code
def yJ9_fill : MethodName := ⟨RJ9, "fill", "([BIIB)V"⟩
abbrev cJ9_rangeCheck : ByteArray := prog_31_method_30_code
def yJ9_rangeCheck : MethodName := ⟨RJ9, "rangeCheck", "(III)V"⟩
abbrev cJ9_copyOfRange : ByteArray := prog_31_method_132_code
def yJ9_copyOfRange : MethodName := ⟨RJ9, "copyOfRange", "([BII)[B"⟩
abbrev cJ9_copyOfRangeByte : ByteArray := prog_31_method_133_code
def yJ9_copyOfRangeByte : MethodName := ⟨RJ9, "copyOfRangeByte", "([BII)[B"⟩
abbrev cJ9_checkLength : ByteArray := prog_31_method_131_code
def yJ9_checkLength : MethodName := ⟨RJ9, "checkLength", "(II)V"⟩
theorem q93 : (Jvm.Cond.initialized "java/util/Arrays") ∈ lw_all := lw_g (lw_at lw_m1 17 rfl) rfl
theorem q453 : (Jvm.Cond.static ({ cls := "java/util/Arrays", name := "copyOf", desc := "([BI)[B" } : Jvm.MethodName)) ∈ lw_all := lw_g (lw_at lw_m2 137 rfl) rfl
theorem q454 : (Jvm.Cond.code ({ cls := "java/util/Arrays", name := "copyOf", desc := "([BI)[B" } : Jvm.MethodName) prog_31_method_121_code (3 : Nat) (Option.some (Jvm.ClassFile.FieldType.array Jvm.ClassFile.FieldType.byte))) ∈ lw_all := lw_g (lw_at lw_m2 138 rfl) rfl
theorem q455 : (Jvm.Cond.methodLink "java/util/Arrays" (310 : Nat) ({ cls := "[B", name := "clone", desc := "()Ljava/lang/Object;" } : Jvm.MethodName)) ∈ lw_all := lw_g (lw_at lw_m2 139 rfl) rfl
theorem q461 : (Jvm.Cond.classLink "java/util/Arrays" (311 : Nat) "[B") ∈ lw_all := lw_g (lw_at lw_m2 145 rfl) rfl
theorem q462 : (Jvm.Cond.methodLink "java/util/Arrays" (304 : Nat) ({ cls := "java/lang/Math", name := "min", desc := "(II)I" } : Jvm.MethodName)) ∈ lw_all := lw_g (lw_at lw_m2 146 rfl) rfl
theorem q465 : (Jvm.Cond.methodLink "java/util/Arrays" (150 : Nat) ({ cls := "java/lang/System", name := "arraycopy", desc := "(Ljava/lang/Object;ILjava/lang/Object;II)V" } : Jvm.MethodName)) ∈ lw_all := lw_g (lw_at lw_m2 149 rfl) rfl
theorem q477 : (Jvm.Cond.static ({ cls := "java/util/Arrays", name := "fill", desc := "([BIIB)V" } : Jvm.MethodName)) ∈ lw_all := lw_g (lw_at lw_m2 161 rfl) rfl
theorem q478 : (Jvm.Cond.code ({ cls := "java/util/Arrays", name := "fill", desc := "([BIIB)V" } : Jvm.MethodName) prog_31_method_110_code (5 : Nat) (Option.none : Option Jvm.ClassFile.FieldType)) ∈ lw_all := lw_g (lw_at lw_m2 162 rfl) rfl
theorem q479 : (Jvm.Cond.methodLink "java/util/Arrays" (13 : Nat) ({ cls := "java/util/Arrays", name := "rangeCheck", desc := "(III)V" } : Jvm.MethodName)) ∈ lw_all := lw_g (lw_at lw_m2 163 rfl) rfl
theorem q480 : (Jvm.Cond.static ({ cls := "java/util/Arrays", name := "rangeCheck", desc := "(III)V" } : Jvm.MethodName)) ∈ lw_all := lw_g (lw_at lw_m2 164 rfl) rfl
theorem q481 : (Jvm.Cond.code ({ cls := "java/util/Arrays", name := "rangeCheck", desc := "(III)V" } : Jvm.MethodName) prog_31_method_30_code (3 : Nat) (Option.none : Option Jvm.ClassFile.FieldType)) ∈ lw_all := lw_g (lw_at lw_m2 165 rfl) rfl
theorem q571 : (Jvm.Cond.static ({ cls := "java/util/Arrays", name := "copyOfRange", desc := "([BII)[B" } : Jvm.MethodName)) ∈ lw_all := lw_g (lw_at lw_m3 15 rfl) rfl
theorem q572 : (Jvm.Cond.code ({ cls := "java/util/Arrays", name := "copyOfRange", desc := "([BII)[B" } : Jvm.MethodName) prog_31_method_132_code (3 : Nat) (Option.some (Jvm.ClassFile.FieldType.array Jvm.ClassFile.FieldType.byte))) ∈ lw_all := lw_g (lw_at lw_m3 16 rfl) rfl
theorem q573 : (Jvm.Cond.methodLink "java/util/Arrays" (339 : Nat) ({ cls := "java/util/Arrays", name := "copyOfRangeByte", desc := "([BII)[B" } : Jvm.MethodName)) ∈ lw_all := lw_g (lw_at lw_m3 17 rfl) rfl
theorem q574 : (Jvm.Cond.static ({ cls := "java/util/Arrays", name := "copyOfRangeByte", desc := "([BII)[B" } : Jvm.MethodName)) ∈ lw_all := lw_g (lw_at lw_m3 18 rfl) rfl
theorem q575 : (Jvm.Cond.code ({ cls := "java/util/Arrays", name := "copyOfRangeByte", desc := "([BII)[B" } : Jvm.MethodName) prog_31_method_133_code (5 : Nat) (Option.some (Jvm.ClassFile.FieldType.array Jvm.ClassFile.FieldType.byte))) ∈ lw_all := lw_g (lw_at lw_m3 19 rfl) rfl
theorem q576 : (Jvm.Cond.methodLink "java/util/Arrays" (343 : Nat) ({ cls := "java/util/Arrays", name := "checkLength", desc := "(II)V" } : Jvm.MethodName)) ∈ lw_all := lw_g (lw_at lw_m3 20 rfl) rfl
theorem q577 : (Jvm.Cond.static ({ cls := "java/util/Arrays", name := "checkLength", desc := "(II)V" } : Jvm.MethodName)) ∈ lw_all := lw_g (lw_at lw_m3 21 rfl) rfl
theorem q578 : (Jvm.Cond.code ({ cls := "java/util/Arrays", name := "checkLength", desc := "(II)V" } : Jvm.MethodName) prog_31_method_131_code (2 : Nat) (Option.none : Option Jvm.ClassFile.FieldType)) ∈ lw_all := lw_g (lw_at lw_m3 22 rfl) rfl
abbrev cL_law : ByteArray := code
def RX0 : String := "ClassFileReader"
def TX0 : u_T := fun k => match k with
  | 0 => ("ClassFileReader", "bytes", "[I", true)
  | 1 => ("ClassFileReader", "size", "I", false)
  | 2 => ("ClassFileReader", "at", "I", false)
  | 3 => ("ClassFileReader", "pool", "[LClassFileReader$Entry;", true)
  | 4 => ("ClassFileReader", "poolCount", "I", false)
  | 5 => ("ClassFileReader", "builder", "Ljava/lang/StringBuilder;", true)
  | 6 => ("ClassFileReader", "mirror", "LClassFileReader$Mirror;", false)
  | 7 => ("ClassFileReader", "fresh", "LClassFileReader$Mirror;", false)
  | _ => ("ClassFileReader", "place", "I", false)
def tyX0 : Nat → FieldType := fun k => match k with
  | 0 => .array .int
  | 1 => .int
  | 2 => .int
  | 3 => .array (.object "ClassFileReader$Entry")
  | 4 => .int
  | 5 => .object "java/lang/StringBuilder"
  | 6 => .object "ClassFileReader$Mirror"
  | 7 => .object "ClassFileReader$Mirror"
  | _ => .int
abbrev wsX00 : List Cond := u_ws RX0 TX0 9
theorem nmX0 : ∀ a, a < 9 → ∀ b, b < 9 → a ≠ b → (TX0 a).2.1 ≠ (TX0 b).2.1 := by decide +kernel
theorem tyX0_ok : ∀ k, k < 9 → parseFieldDescriptor (TX0 k).2.2.1 = some (tyX0 k) := by decide +kernel
abbrev cX0_init : ByteArray := prog_1_method_1_code
def yX0_init : MethodName := ⟨RX0, "<init>", "()V"⟩
abbrev cX0_put : ByteArray := prog_1_method_2_code
def yX0_put : MethodName := ⟨RX0, "put", "(JI)I"⟩
abbrev cX0_patch : ByteArray := prog_1_method_3_code
def yX0_patch : MethodName := ⟨RX0, "patch", "(II)I"⟩
abbrev cX0_drop : ByteArray := prog_1_method_4_code
def yX0_drop : MethodName := ⟨RX0, "drop", "()I"⟩
abbrev cX0_read : ByteArray := prog_1_method_41_code
def yX0_read : MethodName := ⟨RX0, "read", "()I"⟩
abbrev cX0_file : ByteArray := prog_1_method_40_code
def yX0_file : MethodName := ⟨RX0, "file", "()V"⟩
abbrev cX0_u4 : ByteArray := prog_1_method_15_code
def yX0_u4 : MethodName := ⟨RX0, "u4", "()J"⟩
abbrev cX0_left : ByteArray := prog_1_method_13_code
def yX0_left : MethodName := ⟨RX0, "left", "(J)V"⟩
abbrev cX0_u2 : ByteArray := prog_1_method_14_code
def yX0_u2 : MethodName := ⟨RX0, "u2", "()I"⟩
abbrev cX0_u1 : ByteArray := prog_1_method_12_code
def yX0_u1 : MethodName := ⟨RX0, "u1", "()I"⟩
abbrev cX0_must : ByteArray := prog_1_method_25_code
def yX0_must : MethodName := ⟨RX0, "must", "(ZII)V"⟩
abbrev cX0_readPool : ByteArray := prog_1_method_24_code
def yX0_readPool : MethodName := ⟨RX0, "readPool", "()V"⟩
abbrev cX0_readEntry : ByteArray := prog_1_method_23_code
def yX0_readEntry : MethodName := ⟨RX0, "readEntry", "(I)LClassFileReader$Entry;"⟩
abbrev cX0_textEntry : ByteArray := prog_1_method_22_code
def yX0_textEntry : MethodName := ⟨RX0, "textEntry", "(I)LClassFileReader$Entry;"⟩
abbrev cX0_textAt : ByteArray := prog_1_method_17_code
def yX0_textAt : MethodName := ⟨RX0, "textAt", "(II)Ljava/lang/String;"⟩
abbrev cX0_entry : ByteArray := prog_1_method_16_code
def yX0_entry : MethodName := ⟨RX0, "entry", "(I)LClassFileReader$Entry;"⟩
abbrev cX0_className : ByteArray := prog_1_method_6_code
def yX0_className : MethodName := ⟨RX0, "className", "(Ljava/lang/String;II)Z"⟩
abbrev cX0_plain : ByteArray := prog_1_method_5_code
def yX0_plain : MethodName := ⟨RX0, "plain", "(C)Z"⟩
abbrev cX0_arrayName : ByteArray := prog_1_method_10_code
def yX0_arrayName : MethodName := ⟨RX0, "arrayName", "(Ljava/lang/String;)Z"⟩
abbrev cX0_fieldType : ByteArray := prog_1_method_9_code
def yX0_fieldType : MethodName := ⟨RX0, "fieldType", "(Ljava/lang/String;)Z"⟩
abbrev cX0_typeEnd : ByteArray := prog_1_method_8_code
def yX0_typeEnd : MethodName := ⟨RX0, "typeEnd", "(Ljava/lang/String;I)I"⟩
abbrev cX0_classAt : ByteArray := prog_1_method_18_code
def yX0_classAt : MethodName := ⟨RX0, "classAt", "(II)LClassFileReader$Named;"⟩
abbrev cX0_memberName : ByteArray := prog_1_method_7_code
def yX0_memberName : MethodName := ⟨RX0, "memberName", "(Ljava/lang/String;)Z"⟩
abbrev cX0_methodType : ByteArray := prog_1_method_11_code
def yX0_methodType : MethodName := ⟨RX0, "methodType", "(Ljava/lang/String;)Z"⟩
abbrev cX0_fileFlags : ByteArray := prog_1_method_34_code
def yX0_fileFlags : MethodName := ⟨RX0, "fileFlags", "(I)Z"⟩
abbrev cX0_has : ByteArray := prog_1_method_33_code
def yX0_has : MethodName := ⟨RX0, "has", "(II)Z"⟩
abbrev cX0_plainClass : ByteArray := prog_1_method_21_code
def yX0_plainClass : MethodName := ⟨RX0, "plainClass", "(Z)Ljava/lang/String;"⟩
abbrev cX0_interfaces : ByteArray := prog_1_method_39_code
def yX0_interfaces : MethodName := ⟨RX0, "interfaces", "()V"⟩
abbrev cX0_members : ByteArray := prog_1_method_38_code
def yX0_members : MethodName := ⟨RX0, "members", "(Z)V"⟩
abbrev cX0_member : ByteArray := prog_1_method_37_code
def yX0_member : MethodName := ⟨RX0, "member", "(Z)V"⟩
abbrev cX0_methodFlags : ByteArray := prog_1_method_36_code
def yX0_methodFlags : MethodName := ⟨RX0, "methodFlags", "(ILjava/lang/String;Z)Z"⟩
abbrev cX0_fieldFlags : ByteArray := prog_1_method_35_code
def yX0_fieldFlags : MethodName := ⟨RX0, "fieldFlags", "(IZ)Z"⟩
abbrev cX0_table : ByteArray := prog_1_method_26_code
def yX0_table : MethodName := ⟨RX0, "table", "(LClassFileReader$Holder;)V"⟩
abbrev cX0_textItem : ByteArray := prog_1_method_19_code
def yX0_textItem : MethodName := ⟨RX0, "textItem", "()Ljava/lang/String;"⟩
abbrev cX0_content : ByteArray := prog_1_method_27_code
def yX0_content : MethodName := ⟨RX0, "content", "(LClassFileReader$Holder;IIJ)V"⟩
abbrev cX0_constantItem : ByteArray := prog_1_method_28_code
def yX0_constantItem : MethodName := ⟨RX0, "constantItem", "(LClassFileReader$Field;)V"⟩
abbrev cX0_classes : ByteArray := prog_1_method_30_code
def yX0_classes : MethodName := ⟨RX0, "classes", "(LClassFileReader$Links;IJ)V"⟩
abbrev cX0_elements : ByteArray := prog_1_method_29_code
def yX0_elements : MethodName := ⟨RX0, "elements", "(IJI)I"⟩
abbrev cX0_classItem : ByteArray := prog_1_method_20_code
def yX0_classItem : MethodName := ⟨RX0, "classItem", "()Ljava/lang/String;"⟩
abbrev cX0_innerClasses : ByteArray := prog_1_method_31_code
def yX0_innerClasses : MethodName := ⟨RX0, "innerClasses", "(LClassFileReader$Mirror;IJ)V"⟩
abbrev cX0_record : ByteArray := prog_1_method_32_code
def yX0_record : MethodName := ⟨RX0, "record", "(LClassFileReader$Mirror;IJ)V"⟩
abbrev cX0_place : ByteArray := prog_1_method_42_code
def yX0_place : MethodName := ⟨RX0, "place", "()I"⟩
abbrev cX0_number : ByteArray := prog_1_method_43_code
def yX0_number : MethodName := ⟨RX0, "number", "(I)I"⟩
abbrev cX0_flags : ByteArray := prog_1_method_44_code
def yX0_flags : MethodName := ⟨RX0, "flags", "(II)I"⟩
abbrev cX0_text : ByteArray := prog_1_method_48_code
def yX0_text : MethodName := ⟨RX0, "text", "(III)I"⟩
abbrev cX0_find : ByteArray := prog_1_method_46_code
def yX0_find : MethodName := ⟨RX0, "find", "(II)Ljava/lang/String;"⟩
abbrev cX0_of : ByteArray := prog_1_method_45_code
def yX0_of : MethodName := ⟨RX0, "of", "(LClassFileReader$Member;I)Ljava/lang/String;"⟩
abbrev cX0_character : ByteArray := prog_1_method_47_code
def yX0_character : MethodName := ⟨RX0, "character", "(Ljava/lang/String;I)I"⟩
abbrev cX0_exceptions : ByteArray := prog_1_method_50_code
def yX0_exceptions : MethodName := ⟨RX0, "exceptions", "(I)I"⟩
abbrev cX0_method : ByteArray := prog_1_method_49_code
def yX0_method : MethodName := ⟨RX0, "method", "(I)LClassFileReader$Method;"⟩
abbrev cX0_exception : ByteArray := prog_1_method_51_code
def yX0_exception : MethodName := ⟨RX0, "exception", "(III)I"⟩
abbrev cX0_constant : ByteArray := prog_1_method_52_code
def yX0_constant : MethodName := ⟨RX0, "constant", "(I)J"⟩
abbrev cX0_deprecated : ByteArray := prog_1_method_53_code
def yX0_deprecated : MethodName := ⟨RX0, "deprecated", "(II)I"⟩
theorem q77 : (Jvm.Cond.initialized "ClassFileReader") ∈ lw_all := lw_g (lw_at lw_m1 1 rfl) rfl
theorem q108 : (Jvm.Cond.instantiable "ClassFileReader" (9 : Nat)) ∈ lw_all := lw_g (lw_at lw_m1 32 rfl) rfl
theorem q110 : (Jvm.Cond.instanceMethod ({ cls := "ClassFileReader", name := "<init>", desc := "()V" } : Jvm.MethodName)) ∈ lw_all := lw_g (lw_at lw_m1 34 rfl) rfl
theorem q111 : (Jvm.Cond.code ({ cls := "ClassFileReader", name := "<init>", desc := "()V" } : Jvm.MethodName) prog_1_method_1_code (1 : Nat) (Option.none : Option Jvm.ClassFile.FieldType)) ∈ lw_all := lw_g (lw_at lw_m1 35 rfl) rfl
theorem q112 : (Jvm.Cond.methodLink "ClassFileReader" (1 : Nat) ({ cls := "java/lang/Object", name := "<init>", desc := "()V" } : Jvm.MethodName)) ∈ lw_all := lw_g (lw_at lw_m1 36 rfl) rfl
theorem q115 : (Jvm.Cond.classLink "ClassFileReader" (13 : Nat) "ClassFileReader$Entry") ∈ lw_all := lw_g (lw_at lw_m1 39 rfl) rfl
theorem q117 : (Jvm.Cond.classLink "ClassFileReader" (19 : Nat) "java/lang/StringBuilder") ∈ lw_all := lw_g (lw_at lw_m1 41 rfl) rfl
theorem q119 : (Jvm.Cond.methodLink "ClassFileReader" (21 : Nat) ({ cls := "java/lang/StringBuilder", name := "<init>", desc := "(I)V" } : Jvm.MethodName)) ∈ lw_all := lw_g (lw_at lw_m1 43 rfl) rfl
theorem q151 : (Jvm.Cond.fieldLink "ClassFileReader" (7 : Nat) "ClassFileReader" "bytes" "[I") ∈ lw_all := lw_g (lw_at lw_m1 75 rfl) rfl
theorem q152 : (Jvm.Cond.fieldLink "ClassFileReader" (32 : Nat) "ClassFileReader" "size" "I") ∈ lw_all := lw_g (lw_at lw_m1 76 rfl) rfl
theorem q153 : (Jvm.Cond.fieldLink "ClassFileReader" (65 : Nat) "ClassFileReader" "at" "I") ∈ lw_all := lw_g (lw_at lw_m1 77 rfl) rfl
theorem q154 : (Jvm.Cond.fieldLink "ClassFileReader" (15 : Nat) "ClassFileReader" "pool" "[LClassFileReader$Entry;") ∈ lw_all := lw_g (lw_at lw_m1 78 rfl) rfl
theorem q155 : (Jvm.Cond.fieldLink "ClassFileReader" (87 : Nat) "ClassFileReader" "poolCount" "I") ∈ lw_all := lw_g (lw_at lw_m1 79 rfl) rfl
theorem q156 : (Jvm.Cond.fieldLink "ClassFileReader" (24 : Nat) "ClassFileReader" "builder" "Ljava/lang/StringBuilder;") ∈ lw_all := lw_g (lw_at lw_m1 80 rfl) rfl
theorem q157 : (Jvm.Cond.fieldLink "ClassFileReader" (396 : Nat) "ClassFileReader" "mirror" "LClassFileReader$Mirror;") ∈ lw_all := lw_g (lw_at lw_m1 81 rfl) rfl
theorem q158 : (Jvm.Cond.fieldLink "ClassFileReader" (322 : Nat) "ClassFileReader" "fresh" "LClassFileReader$Mirror;") ∈ lw_all := lw_g (lw_at lw_m1 82 rfl) rfl
theorem q159 : (Jvm.Cond.fieldLink "ClassFileReader" (28 : Nat) "ClassFileReader" "place" "I") ∈ lw_all := lw_g (lw_at lw_m1 83 rfl) rfl
theorem q160 : (Jvm.Cond.laysFinal "ClassFileReader" "ClassFileReader" "bytes" "[I") ∈ lw_all := lw_g (lw_at lw_m1 84 rfl) rfl
theorem q161 : (Jvm.Cond.soleField "ClassFileReader" "bytes") ∈ lw_all := lw_g (lw_at lw_m1 85 rfl) rfl
theorem q162 : (Jvm.Cond.lays "ClassFileReader" "ClassFileReader" "size" "I") ∈ lw_all := lw_g (lw_at lw_m1 86 rfl) rfl
theorem q163 : (Jvm.Cond.soleField "ClassFileReader" "size") ∈ lw_all := lw_g (lw_at lw_m1 87 rfl) rfl
theorem q164 : (Jvm.Cond.lays "ClassFileReader" "ClassFileReader" "at" "I") ∈ lw_all := lw_g (lw_at lw_m1 88 rfl) rfl
theorem q165 : (Jvm.Cond.soleField "ClassFileReader" "at") ∈ lw_all := lw_g (lw_at lw_m1 89 rfl) rfl
theorem q166 : (Jvm.Cond.laysFinal "ClassFileReader" "ClassFileReader" "pool" "[LClassFileReader$Entry;") ∈ lw_all := lw_g (lw_at lw_m1 90 rfl) rfl
theorem q167 : (Jvm.Cond.soleField "ClassFileReader" "pool") ∈ lw_all := lw_g (lw_at lw_m1 91 rfl) rfl
theorem q168 : (Jvm.Cond.lays "ClassFileReader" "ClassFileReader" "poolCount" "I") ∈ lw_all := lw_g (lw_at lw_m1 92 rfl) rfl
theorem q169 : (Jvm.Cond.soleField "ClassFileReader" "poolCount") ∈ lw_all := lw_g (lw_at lw_m1 93 rfl) rfl
theorem q170 : (Jvm.Cond.laysFinal "ClassFileReader" "ClassFileReader" "builder" "Ljava/lang/StringBuilder;") ∈ lw_all := lw_g (lw_at lw_m1 94 rfl) rfl
theorem q171 : (Jvm.Cond.soleField "ClassFileReader" "builder") ∈ lw_all := lw_g (lw_at lw_m1 95 rfl) rfl
theorem q172 : (Jvm.Cond.lays "ClassFileReader" "ClassFileReader" "mirror" "LClassFileReader$Mirror;") ∈ lw_all := lw_g (lw_at lw_m1 96 rfl) rfl
theorem q173 : (Jvm.Cond.soleField "ClassFileReader" "mirror") ∈ lw_all := lw_g (lw_at lw_m1 97 rfl) rfl
theorem q174 : (Jvm.Cond.lays "ClassFileReader" "ClassFileReader" "fresh" "LClassFileReader$Mirror;") ∈ lw_all := lw_g (lw_at lw_m1 98 rfl) rfl
theorem q175 : (Jvm.Cond.soleField "ClassFileReader" "fresh") ∈ lw_all := lw_g (lw_at lw_m1 99 rfl) rfl
theorem q176 : (Jvm.Cond.lays "ClassFileReader" "ClassFileReader" "place" "I") ∈ lw_all := lw_g (lw_at lw_m1 100 rfl) rfl
theorem q177 : (Jvm.Cond.soleField "ClassFileReader" "place") ∈ lw_all := lw_g (lw_at lw_m1 101 rfl) rfl
theorem q178 : (Jvm.Cond.superclass "ClassFileReader" "java/lang/Object") ∈ lw_all := lw_g (lw_at lw_m1 102 rfl) rfl
theorem q180 : (Jvm.Cond.instanceMethod ({ cls := "ClassFileReader", name := "put", desc := "(JI)I" } : Jvm.MethodName)) ∈ lw_all := lw_g (lw_at lw_m1 104 rfl) rfl
theorem q181 : (Jvm.Cond.selects "ClassFileReader" ({ cls := "ClassFileReader", name := "put", desc := "(JI)I" } : Jvm.MethodName) ({ cls := "ClassFileReader", name := "put", desc := "(JI)I" } : Jvm.MethodName)) ∈ lw_all := lw_g (lw_at lw_m1 105 rfl) rfl
theorem q182 : (Jvm.Cond.code ({ cls := "ClassFileReader", name := "put", desc := "(JI)I" } : Jvm.MethodName) prog_1_method_2_code (5 : Nat) (Option.some Jvm.ClassFile.FieldType.int)) ∈ lw_all := lw_g (lw_at lw_m1 106 rfl) rfl
theorem q184 : (Jvm.Cond.instanceMethod ({ cls := "ClassFileReader", name := "patch", desc := "(II)I" } : Jvm.MethodName)) ∈ lw_all := lw_g (lw_at lw_m1 108 rfl) rfl
theorem q185 : (Jvm.Cond.selects "ClassFileReader" ({ cls := "ClassFileReader", name := "patch", desc := "(II)I" } : Jvm.MethodName) ({ cls := "ClassFileReader", name := "patch", desc := "(II)I" } : Jvm.MethodName)) ∈ lw_all := lw_g (lw_at lw_m1 109 rfl) rfl
theorem q186 : (Jvm.Cond.code ({ cls := "ClassFileReader", name := "patch", desc := "(II)I" } : Jvm.MethodName) prog_1_method_3_code (4 : Nat) (Option.some Jvm.ClassFile.FieldType.int)) ∈ lw_all := lw_g (lw_at lw_m1 110 rfl) rfl
theorem q188 : (Jvm.Cond.instanceMethod ({ cls := "ClassFileReader", name := "drop", desc := "()I" } : Jvm.MethodName)) ∈ lw_all := lw_g (lw_at lw_m1 112 rfl) rfl
theorem q189 : (Jvm.Cond.selects "ClassFileReader" ({ cls := "ClassFileReader", name := "drop", desc := "()I" } : Jvm.MethodName) ({ cls := "ClassFileReader", name := "drop", desc := "()I" } : Jvm.MethodName)) ∈ lw_all := lw_g (lw_at lw_m1 113 rfl) rfl
theorem q190 : (Jvm.Cond.code ({ cls := "ClassFileReader", name := "drop", desc := "()I" } : Jvm.MethodName) prog_1_method_4_code (2 : Nat) (Option.some Jvm.ClassFile.FieldType.int)) ∈ lw_all := lw_g (lw_at lw_m1 114 rfl) rfl
theorem q192 : (Jvm.Cond.instanceMethod ({ cls := "ClassFileReader", name := "read", desc := "()I" } : Jvm.MethodName)) ∈ lw_all := lw_g (lw_at lw_m1 116 rfl) rfl
theorem q193 : (Jvm.Cond.selects "ClassFileReader" ({ cls := "ClassFileReader", name := "read", desc := "()I" } : Jvm.MethodName) ({ cls := "ClassFileReader", name := "read", desc := "()I" } : Jvm.MethodName)) ∈ lw_all := lw_g (lw_at lw_m1 117 rfl) rfl
theorem q194 : (Jvm.Cond.codeWith ({ cls := "ClassFileReader", name := "read", desc := "()I" } : Jvm.MethodName) prog_1_method_41_code (4 : Nat) (Option.some Jvm.ClassFile.FieldType.int) [((21 : Nat), (35 : Nat), (47 : Nat), (68 : Nat)), ((21 : Nat), (35 : Nat), (73 : Nat), (0 : Nat)), ((47 : Nat), (61 : Nat), (73 : Nat), (0 : Nat))]) ∈ lw_all := lw_g (lw_at lw_m1 118 rfl) rfl
theorem q195 : (Jvm.Cond.classLink "ClassFileReader" (68 : Nat) "ClassFileReader$Malformed") ∈ lw_all := lw_g (lw_at lw_m1 119 rfl) rfl
theorem q196 : (Jvm.Cond.classLink "ClassFileReader" (202 : Nat) "ClassFileReader$Mirror") ∈ lw_all := lw_g (lw_at lw_m1 120 rfl) rfl
theorem q198 : (Jvm.Cond.methodLinkNest "ClassFileReader" (392 : Nat) ({ cls := "ClassFileReader$Mirror", name := "<init>", desc := "()V" } : Jvm.MethodName) "ClassFileReader") ∈ lw_tbl := lw_at lw_m1 122 rfl
theorem q212 : (Jvm.Cond.fieldLinkNest "ClassFileReader" (360 : Nat) "ClassFileReader$Links" "first" "LClassFileReader$Link;" "ClassFileReader") ∈ lw_tbl := lw_at lw_m1 136 rfl
theorem q215 : (Jvm.Cond.fieldLinkNest "ClassFileReader" (403 : Nat) "ClassFileReader$Links" "count" "I" "ClassFileReader") ∈ lw_tbl := lw_at lw_m1 139 rfl
theorem q232 : (Jvm.Cond.fieldLinkNest "ClassFileReader" (406 : Nat) "ClassFileReader$Members" "count" "I" "ClassFileReader") ∈ lw_tbl := lw_at lw_m1 156 rfl
theorem q240 : (Jvm.Cond.fieldLinkNest "ClassFileReader" (372 : Nat) "ClassFileReader$Mirror" "major" "I" "ClassFileReader") ∈ lw_tbl := lw_at lw_m1 164 rfl
theorem q241 : (Jvm.Cond.fieldLinkNest "ClassFileReader" (326 : Nat) "ClassFileReader$Mirror" "flags" "I" "ClassFileReader") ∈ lw_tbl := lw_at lw_m1 165 rfl
theorem q242 : (Jvm.Cond.fieldLinkNest "ClassFileReader" (378 : Nat) "ClassFileReader$Mirror" "pool" "I" "ClassFileReader") ∈ lw_tbl := lw_at lw_m1 166 rfl
theorem q243 : (Jvm.Cond.fieldLinkNest "ClassFileReader" (383 : Nat) "ClassFileReader$Mirror" "name" "Ljava/lang/String;" "ClassFileReader") ∈ lw_tbl := lw_at lw_m1 167 rfl
theorem q244 : (Jvm.Cond.fieldLinkNest "ClassFileReader" (384 : Nat) "ClassFileReader$Mirror" "parent" "Ljava/lang/String;" "ClassFileReader") ∈ lw_tbl := lw_at lw_m1 168 rfl
theorem q245 : (Jvm.Cond.fieldLinkNest "ClassFileReader" (217 : Nat) "ClassFileReader$Mirror" "host" "Ljava/lang/String;" "ClassFileReader") ∈ lw_tbl := lw_at lw_m1 169 rfl
theorem q246 : (Jvm.Cond.fieldLinkNest "ClassFileReader" (279 : Nat) "ClassFileReader$Mirror" "record" "Z" "ClassFileReader") ∈ lw_tbl := lw_at lw_m1 170 rfl
theorem q248 : (Jvm.Cond.fieldLinkNest "ClassFileReader" (357 : Nat) "ClassFileReader$Mirror" "interfaces" "LClassFileReader$Links;" "ClassFileReader") ∈ lw_tbl := lw_at lw_m1 172 rfl
theorem q250 : (Jvm.Cond.fieldLinkNest "ClassFileReader" (340 : Nat) "ClassFileReader$Mirror" "fields" "LClassFileReader$Members;" "ClassFileReader") ∈ lw_tbl := lw_at lw_m1 174 rfl
theorem q252 : (Jvm.Cond.fieldLinkNest "ClassFileReader" (337 : Nat) "ClassFileReader$Mirror" "methods" "LClassFileReader$Members;" "ClassFileReader") ∈ lw_tbl := lw_at lw_m1 176 rfl
theorem q254 : (Jvm.Cond.fieldLinkNest "ClassFileReader" (293 : Nat) "ClassFileReader$Mirror" "components" "LClassFileReader$Members;" "ClassFileReader") ∈ lw_tbl := lw_at lw_m1 178 rfl
theorem q256 : (Jvm.Cond.fieldLinkNest "ClassFileReader" (267 : Nat) "ClassFileReader$Mirror" "inner" "LClassFileReader$Links;" "ClassFileReader") ∈ lw_tbl := lw_at lw_m1 180 rfl
theorem q258 : (Jvm.Cond.fieldLinkNest "ClassFileReader" (270 : Nat) "ClassFileReader$Mirror" "outer" "LClassFileReader$Links;" "ClassFileReader") ∈ lw_tbl := lw_at lw_m1 182 rfl
theorem q260 : (Jvm.Cond.fieldLinkNest "ClassFileReader" (273 : Nat) "ClassFileReader$Mirror" "simple" "LClassFileReader$Links;" "ClassFileReader") ∈ lw_tbl := lw_at lw_m1 184 rfl
theorem q262 : (Jvm.Cond.fieldLinkNest "ClassFileReader" (276 : Nat) "ClassFileReader$Mirror" "innerFlags" "[I" "ClassFileReader") ∈ lw_tbl := lw_at lw_m1 186 rfl
theorem q264 : (Jvm.Cond.fieldLinkNest "ClassFileReader" (208 : Nat) "ClassFileReader$Mirror" "mates" "LClassFileReader$Links;" "ClassFileReader") ∈ lw_tbl := lw_at lw_m1 188 rfl
theorem q266 : (Jvm.Cond.fieldLinkNest "ClassFileReader" (211 : Nat) "ClassFileReader$Mirror" "permitted" "LClassFileReader$Links;" "ClassFileReader") ∈ lw_tbl := lw_at lw_m1 190 rfl
theorem q267 : (Jvm.Cond.fieldLink "ClassFileReader" (180 : Nat) "ClassFileReader$Holder" "signature" "Ljava/lang/String;") ∈ lw_all := lw_g (lw_at lw_m1 191 rfl) rfl
theorem q268 : (Jvm.Cond.fieldLink "ClassFileReader" (412 : Nat) "ClassFileReader$Member" "signature" "Ljava/lang/String;") ∈ lw_all := lw_g (lw_at lw_m1 192 rfl) rfl
theorem q270 : (Jvm.Cond.fieldLink "ClassFileReader" (420 : Nat) "ClassFileReader$Mirror" "signature" "Ljava/lang/String;") ∈ lw_all := lw_g (lw_at lw_m1 194 rfl) rfl
theorem q272 : (Jvm.Cond.fieldLink "ClassFileReader" (183 : Nat) "ClassFileReader$Holder" "deprecated" "Z") ∈ lw_all := lw_g (lw_at lw_m1 196 rfl) rfl
theorem q273 : (Jvm.Cond.fieldLink "ClassFileReader" (407 : Nat) "ClassFileReader$Mirror" "deprecated" "Z") ∈ lw_all := lw_g (lw_at lw_m1 197 rfl) rfl
theorem q275 : (Jvm.Cond.fieldLink "ClassFileReader" (430 : Nat) "ClassFileReader$Member" "deprecated" "Z") ∈ lw_all := lw_g (lw_at lw_m1 199 rfl) rfl
theorem q319 : (Jvm.Cond.methodLink "ClassFileReader" (393 : Nat) ({ cls := "ClassFileReader", name := "file", desc := "()V" } : Jvm.MethodName)) ∈ lw_all := lw_g (lw_at lw_m2 3 rfl) rfl
theorem q320 : (Jvm.Cond.privateMethod ({ cls := "ClassFileReader", name := "file", desc := "()V" } : Jvm.MethodName)) ∈ lw_tbl := lw_at lw_m2 4 rfl
theorem q321 : (Jvm.Cond.instanceMethod ({ cls := "ClassFileReader", name := "file", desc := "()V" } : Jvm.MethodName)) ∈ lw_all := lw_g (lw_at lw_m2 5 rfl) rfl
theorem q322 : (Jvm.Cond.code ({ cls := "ClassFileReader", name := "file", desc := "()V" } : Jvm.MethodName) prog_1_method_40_code (2 : Nat) (Option.none : Option Jvm.ClassFile.FieldType)) ∈ lw_all := lw_g (lw_at lw_m2 6 rfl) rfl
theorem q323 : (Jvm.Cond.methodLink "ClassFileReader" (134 : Nat) ({ cls := "ClassFileReader", name := "u4", desc := "()J" } : Jvm.MethodName)) ∈ lw_all := lw_g (lw_at lw_m2 7 rfl) rfl
theorem q324 : (Jvm.Cond.privateMethod ({ cls := "ClassFileReader", name := "u4", desc := "()J" } : Jvm.MethodName)) ∈ lw_tbl := lw_at lw_m2 8 rfl
theorem q325 : (Jvm.Cond.instanceMethod ({ cls := "ClassFileReader", name := "u4", desc := "()J" } : Jvm.MethodName)) ∈ lw_all := lw_g (lw_at lw_m2 9 rfl) rfl
theorem q326 : (Jvm.Cond.code ({ cls := "ClassFileReader", name := "u4", desc := "()J" } : Jvm.MethodName) prog_1_method_15_code (3 : Nat) (Option.some Jvm.ClassFile.FieldType.long)) ∈ lw_all := lw_g (lw_at lw_m2 10 rfl) rfl
theorem q327 : (Jvm.Cond.constantLong "ClassFileReader" (82 : Nat) (4 : Int64)) ∈ lw_all := lw_g (lw_at lw_m2 11 rfl) rfl
theorem q328 : (Jvm.Cond.methodLink "ClassFileReader" (75 : Nat) ({ cls := "ClassFileReader", name := "left", desc := "(J)V" } : Jvm.MethodName)) ∈ lw_all := lw_g (lw_at lw_m2 12 rfl) rfl
theorem q329 : (Jvm.Cond.privateMethod ({ cls := "ClassFileReader", name := "left", desc := "(J)V" } : Jvm.MethodName)) ∈ lw_tbl := lw_at lw_m2 13 rfl
theorem q330 : (Jvm.Cond.instanceMethod ({ cls := "ClassFileReader", name := "left", desc := "(J)V" } : Jvm.MethodName)) ∈ lw_all := lw_g (lw_at lw_m2 14 rfl) rfl
theorem q331 : (Jvm.Cond.code ({ cls := "ClassFileReader", name := "left", desc := "(J)V" } : Jvm.MethodName) prog_1_method_13_code (3 : Nat) (Option.none : Option Jvm.ClassFile.FieldType)) ∈ lw_all := lw_g (lw_at lw_m2 15 rfl) rfl
theorem q370 : (Jvm.Cond.methodLink "ClassFileReader" (70 : Nat) ({ cls := "ClassFileReader$Malformed", name := "<init>", desc := "(II)V" } : Jvm.MethodName)) ∈ lw_all := lw_g (lw_at lw_m2 54 rfl) rfl
theorem q381 : (Jvm.Cond.fieldLinkNest "ClassFileReader" (400 : Nat) "ClassFileReader$Malformed" "code" "I" "ClassFileReader") ∈ lw_tbl := lw_at lw_m2 65 rfl
theorem q383 : (Jvm.Cond.fieldLinkNest "ClassFileReader" (399 : Nat) "ClassFileReader$Malformed" "place" "I" "ClassFileReader") ∈ lw_tbl := lw_at lw_m2 67 rfl
theorem q400 : (Jvm.Cond.methodLink "ClassFileReader" (84 : Nat) ({ cls := "ClassFileReader", name := "u2", desc := "()I" } : Jvm.MethodName)) ∈ lw_all := lw_g (lw_at lw_m2 84 rfl) rfl
theorem q401 : (Jvm.Cond.privateMethod ({ cls := "ClassFileReader", name := "u2", desc := "()I" } : Jvm.MethodName)) ∈ lw_tbl := lw_at lw_m2 85 rfl
theorem q402 : (Jvm.Cond.instanceMethod ({ cls := "ClassFileReader", name := "u2", desc := "()I" } : Jvm.MethodName)) ∈ lw_all := lw_g (lw_at lw_m2 86 rfl) rfl
theorem q403 : (Jvm.Cond.code ({ cls := "ClassFileReader", name := "u2", desc := "()I" } : Jvm.MethodName) prog_1_method_14_code (2 : Nat) (Option.some Jvm.ClassFile.FieldType.int)) ∈ lw_all := lw_g (lw_at lw_m2 87 rfl) rfl
theorem q404 : (Jvm.Cond.constantLong "ClassFileReader" (73 : Nat) (2 : Int64)) ∈ lw_all := lw_g (lw_at lw_m2 88 rfl) rfl
theorem q405 : (Jvm.Cond.methodLink "ClassFileReader" (79 : Nat) ({ cls := "ClassFileReader", name := "u1", desc := "()I" } : Jvm.MethodName)) ∈ lw_all := lw_g (lw_at lw_m2 89 rfl) rfl
theorem q406 : (Jvm.Cond.privateMethod ({ cls := "ClassFileReader", name := "u1", desc := "()I" } : Jvm.MethodName)) ∈ lw_tbl := lw_at lw_m2 90 rfl
theorem q407 : (Jvm.Cond.instanceMethod ({ cls := "ClassFileReader", name := "u1", desc := "()I" } : Jvm.MethodName)) ∈ lw_all := lw_g (lw_at lw_m2 91 rfl) rfl
theorem q408 : (Jvm.Cond.code ({ cls := "ClassFileReader", name := "u1", desc := "()I" } : Jvm.MethodName) prog_1_method_12_code (2 : Nat) (Option.some Jvm.ClassFile.FieldType.int)) ∈ lw_all := lw_g (lw_at lw_m2 92 rfl) rfl
theorem q409 : (Jvm.Cond.constantLong "ClassFileReader" (370 : Nat) (3405691582 : Int64)) ∈ lw_all := lw_g (lw_at lw_m2 93 rfl) rfl
theorem q410 : (Jvm.Cond.methodLink "ClassFileReader" (172 : Nat) ({ cls := "ClassFileReader", name := "must", desc := "(ZII)V" } : Jvm.MethodName)) ∈ lw_all := lw_g (lw_at lw_m2 94 rfl) rfl
theorem q411 : (Jvm.Cond.privateMethod ({ cls := "ClassFileReader", name := "must", desc := "(ZII)V" } : Jvm.MethodName)) ∈ lw_tbl := lw_at lw_m2 95 rfl
theorem q412 : (Jvm.Cond.instanceMethod ({ cls := "ClassFileReader", name := "must", desc := "(ZII)V" } : Jvm.MethodName)) ∈ lw_all := lw_g (lw_at lw_m2 96 rfl) rfl
theorem q413 : (Jvm.Cond.code ({ cls := "ClassFileReader", name := "must", desc := "(ZII)V" } : Jvm.MethodName) prog_1_method_25_code (4 : Nat) (Option.none : Option Jvm.ClassFile.FieldType)) ∈ lw_all := lw_g (lw_at lw_m2 97 rfl) rfl
theorem q414 : (Jvm.Cond.methodLink "ClassFileReader" (375 : Nat) ({ cls := "ClassFileReader", name := "readPool", desc := "()V" } : Jvm.MethodName)) ∈ lw_all := lw_g (lw_at lw_m2 98 rfl) rfl
theorem q415 : (Jvm.Cond.privateMethod ({ cls := "ClassFileReader", name := "readPool", desc := "()V" } : Jvm.MethodName)) ∈ lw_tbl := lw_at lw_m2 99 rfl
theorem q416 : (Jvm.Cond.instanceMethod ({ cls := "ClassFileReader", name := "readPool", desc := "()V" } : Jvm.MethodName)) ∈ lw_all := lw_g (lw_at lw_m2 100 rfl) rfl
theorem q417 : (Jvm.Cond.code ({ cls := "ClassFileReader", name := "readPool", desc := "()V" } : Jvm.MethodName) prog_1_method_24_code (4 : Nat) (Option.none : Option Jvm.ClassFile.FieldType)) ∈ lw_all := lw_g (lw_at lw_m2 101 rfl) rfl
theorem q418 : (Jvm.Cond.methodLink "ClassFileReader" (149 : Nat) ({ cls := "ClassFileReader", name := "readEntry", desc := "(I)LClassFileReader$Entry;" } : Jvm.MethodName)) ∈ lw_all := lw_g (lw_at lw_m2 102 rfl) rfl
theorem q419 : (Jvm.Cond.privateMethod ({ cls := "ClassFileReader", name := "readEntry", desc := "(I)LClassFileReader$Entry;" } : Jvm.MethodName)) ∈ lw_tbl := lw_at lw_m2 103 rfl
theorem q420 : (Jvm.Cond.instanceMethod ({ cls := "ClassFileReader", name := "readEntry", desc := "(I)LClassFileReader$Entry;" } : Jvm.MethodName)) ∈ lw_all := lw_g (lw_at lw_m2 104 rfl) rfl
theorem q421 : (Jvm.Cond.code ({ cls := "ClassFileReader", name := "readEntry", desc := "(I)LClassFileReader$Entry;" } : Jvm.MethodName) prog_1_method_23_code (7 : Nat) (Option.some (Jvm.ClassFile.FieldType.object "ClassFileReader$Entry"))) ∈ lw_all := lw_g (lw_at lw_m2 105 rfl) rfl
theorem q422 : (Jvm.Cond.methodLink "ClassFileReader" (129 : Nat) ({ cls := "ClassFileReader", name := "textEntry", desc := "(I)LClassFileReader$Entry;" } : Jvm.MethodName)) ∈ lw_all := lw_g (lw_at lw_m2 106 rfl) rfl
theorem q423 : (Jvm.Cond.privateMethod ({ cls := "ClassFileReader", name := "textEntry", desc := "(I)LClassFileReader$Entry;" } : Jvm.MethodName)) ∈ lw_tbl := lw_at lw_m2 107 rfl
theorem q424 : (Jvm.Cond.instanceMethod ({ cls := "ClassFileReader", name := "textEntry", desc := "(I)LClassFileReader$Entry;" } : Jvm.MethodName)) ∈ lw_all := lw_g (lw_at lw_m2 108 rfl) rfl
theorem q425 : (Jvm.Cond.code ({ cls := "ClassFileReader", name := "textEntry", desc := "(I)LClassFileReader$Entry;" } : Jvm.MethodName) prog_1_method_22_code (6 : Nat) (Option.some (Jvm.ClassFile.FieldType.object "ClassFileReader$Entry"))) ∈ lw_all := lw_g (lw_at lw_m2 109 rfl) rfl
theorem q426 : (Jvm.Cond.methodLink "ClassFileReader" (115 : Nat) ({ cls := "java/lang/StringBuilder", name := "setLength", desc := "(I)V" } : Jvm.MethodName)) ∈ lw_all := lw_g (lw_at lw_m2 110 rfl) rfl
theorem q486 : (Jvm.Cond.methodLink "ClassFileReader" (118 : Nat) ({ cls := "java/lang/StringBuilder", name := "append", desc := "(C)Ljava/lang/StringBuilder;" } : Jvm.MethodName)) ∈ lw_all := lw_g (lw_at lw_m2 170 rfl) rfl
theorem q541 : (Jvm.Cond.classLink "ClassFileReader" (94 : Nat) "ClassFileReader$Text") ∈ lw_all := lw_g (lw_at lw_m2 225 rfl) rfl
theorem q543 : (Jvm.Cond.methodLink "ClassFileReader" (122 : Nat) ({ cls := "java/lang/StringBuilder", name := "toString", desc := "()Ljava/lang/String;" } : Jvm.MethodName)) ∈ lw_all := lw_g (lw_at lw_m2 227 rfl) rfl
theorem q606 : (Jvm.Cond.methodLink "ClassFileReader" (126 : Nat) ({ cls := "ClassFileReader$Text", name := "<init>", desc := "(ILjava/lang/String;)V" } : Jvm.MethodName)) ∈ lw_all := lw_g (lw_at lw_m3 50 rfl) rfl
theorem q614 : (Jvm.Cond.fieldLinkNest "ClassFileReader" (96 : Nat) "ClassFileReader$Text" "text" "Ljava/lang/String;" "ClassFileReader") ∈ lw_tbl := lw_at lw_m3 58 rfl
theorem q625 : (Jvm.Cond.classLink "ClassFileReader" (132 : Nat) "ClassFileReader$Constant") ∈ lw_all := lw_g (lw_at lw_m3 69 rfl) rfl
theorem q627 : (Jvm.Cond.methodLink "ClassFileReader" (138 : Nat) ({ cls := "ClassFileReader$Constant", name := "<init>", desc := "(IIJ)V" } : Jvm.MethodName)) ∈ lw_all := lw_g (lw_at lw_m3 71 rfl) rfl
theorem q632 : (Jvm.Cond.fieldLinkNest "ClassFileReader" (152 : Nat) "ClassFileReader$Constant" "tag" "I" "ClassFileReader") ∈ lw_tbl := lw_at lw_m3 76 rfl
theorem q634 : (Jvm.Cond.fieldLinkNest "ClassFileReader" (247 : Nat) "ClassFileReader$Constant" "value" "J" "ClassFileReader") ∈ lw_tbl := lw_at lw_m3 78 rfl
theorem q641 : (Jvm.Cond.classLink "ClassFileReader" (100 : Nat) "ClassFileReader$Named") ∈ lw_all := lw_g (lw_at lw_m3 85 rfl) rfl
theorem q643 : (Jvm.Cond.methodLink "ClassFileReader" (141 : Nat) ({ cls := "ClassFileReader$Named", name := "<init>", desc := "(IZI)V" } : Jvm.MethodName)) ∈ lw_all := lw_g (lw_at lw_m3 87 rfl) rfl
theorem q648 : (Jvm.Cond.fieldLinkNest "ClassFileReader" (102 : Nat) "ClassFileReader$Named" "type" "Z" "ClassFileReader") ∈ lw_tbl := lw_at lw_m3 92 rfl
theorem q651 : (Jvm.Cond.fieldLinkNest "ClassFileReader" (114 : Nat) "ClassFileReader$Named" "text" "Ljava/lang/String;" "ClassFileReader") ∈ lw_tbl := lw_at lw_m3 95 rfl
theorem q660 : (Jvm.Cond.classLink "ClassFileReader" (144 : Nat) "ClassFileReader$Pair") ∈ lw_all := lw_g (lw_at lw_m3 104 rfl) rfl
theorem q662 : (Jvm.Cond.methodLink "ClassFileReader" (146 : Nat) ({ cls := "ClassFileReader$Pair", name := "<init>", desc := "(IZII)V" } : Jvm.MethodName)) ∈ lw_all := lw_g (lw_at lw_m3 106 rfl) rfl
theorem q677 : (Jvm.Cond.methodLink "ClassFileReader" (155 : Nat) ({ cls := "ClassFileReader$Entry", name := "check", desc := "(LClassFileReader;)V" } : Jvm.MethodName)) ∈ lw_all := lw_g (lw_at lw_m3 121 rfl) rfl
theorem q687 : (Jvm.Cond.privateMethod ({ cls := "ClassFileReader", name := "textAt", desc := "(II)Ljava/lang/String;" } : Jvm.MethodName)) ∈ lw_tbl := lw_at lw_m3 131 rfl
theorem q688 : (Jvm.Cond.instanceMethod ({ cls := "ClassFileReader", name := "textAt", desc := "(II)Ljava/lang/String;" } : Jvm.MethodName)) ∈ lw_all := lw_g (lw_at lw_m3 132 rfl) rfl
theorem q689 : (Jvm.Cond.code ({ cls := "ClassFileReader", name := "textAt", desc := "(II)Ljava/lang/String;" } : Jvm.MethodName) prog_1_method_17_code (4 : Nat) (Option.some (Jvm.ClassFile.FieldType.object "java/lang/String"))) ∈ lw_all := lw_g (lw_at lw_m3 133 rfl) rfl
theorem q690 : (Jvm.Cond.methodLink "ClassFileReader" (90 : Nat) ({ cls := "ClassFileReader", name := "entry", desc := "(I)LClassFileReader$Entry;" } : Jvm.MethodName)) ∈ lw_all := lw_g (lw_at lw_m3 134 rfl) rfl
theorem q691 : (Jvm.Cond.privateMethod ({ cls := "ClassFileReader", name := "entry", desc := "(I)LClassFileReader$Entry;" } : Jvm.MethodName)) ∈ lw_tbl := lw_at lw_m3 135 rfl
theorem q692 : (Jvm.Cond.instanceMethod ({ cls := "ClassFileReader", name := "entry", desc := "(I)LClassFileReader$Entry;" } : Jvm.MethodName)) ∈ lw_all := lw_g (lw_at lw_m3 136 rfl) rfl
theorem q693 : (Jvm.Cond.code ({ cls := "ClassFileReader", name := "entry", desc := "(I)LClassFileReader$Entry;" } : Jvm.MethodName) prog_1_method_16_code (2 : Nat) (Option.some (Jvm.ClassFile.FieldType.object "ClassFileReader$Entry"))) ∈ lw_all := lw_g (lw_at lw_m3 137 rfl) rfl
theorem q703 : (Jvm.Cond.static ({ cls := "ClassFileReader", name := "className", desc := "(Ljava/lang/String;II)Z" } : Jvm.MethodName)) ∈ lw_all := lw_g (lw_at lw_m3 147 rfl) rfl
theorem q704 : (Jvm.Cond.code ({ cls := "ClassFileReader", name := "className", desc := "(Ljava/lang/String;II)Z" } : Jvm.MethodName) prog_1_method_6_code (6 : Nat) (Option.some Jvm.ClassFile.FieldType.boolean)) ∈ lw_all := lw_g (lw_at lw_m3 148 rfl) rfl
theorem q705 : (Jvm.Cond.methodLink "ClassFileReader" (35 : Nat) ({ cls := "java/lang/String", name := "charAt", desc := "(I)C" } : Jvm.MethodName)) ∈ lw_all := lw_g (lw_at lw_m3 149 rfl) rfl
theorem q720 : (Jvm.Cond.methodLink "ClassFileReader" (41 : Nat) ({ cls := "ClassFileReader", name := "plain", desc := "(C)Z" } : Jvm.MethodName)) ∈ lw_all := lw_g (lw_at lw_m3 164 rfl) rfl
theorem q721 : (Jvm.Cond.static ({ cls := "ClassFileReader", name := "plain", desc := "(C)Z" } : Jvm.MethodName)) ∈ lw_all := lw_g (lw_at lw_m3 165 rfl) rfl
theorem q722 : (Jvm.Cond.code ({ cls := "ClassFileReader", name := "plain", desc := "(C)Z" } : Jvm.MethodName) prog_1_method_5_code (1 : Nat) (Option.some Jvm.ClassFile.FieldType.boolean)) ∈ lw_all := lw_g (lw_at lw_m3 166 rfl) rfl
theorem q724 : (Jvm.Cond.static ({ cls := "ClassFileReader", name := "arrayName", desc := "(Ljava/lang/String;)Z" } : Jvm.MethodName)) ∈ lw_all := lw_g (lw_at lw_m3 168 rfl) rfl
theorem q725 : (Jvm.Cond.code ({ cls := "ClassFileReader", name := "arrayName", desc := "(Ljava/lang/String;)Z" } : Jvm.MethodName) prog_1_method_10_code (1 : Nat) (Option.some Jvm.ClassFile.FieldType.boolean)) ∈ lw_all := lw_g (lw_at lw_m3 169 rfl) rfl
theorem q726 : (Jvm.Cond.methodLink "ClassFileReader" (61 : Nat) ({ cls := "ClassFileReader", name := "fieldType", desc := "(Ljava/lang/String;)Z" } : Jvm.MethodName)) ∈ lw_all := lw_g (lw_at lw_m3 170 rfl) rfl
theorem q727 : (Jvm.Cond.static ({ cls := "ClassFileReader", name := "fieldType", desc := "(Ljava/lang/String;)Z" } : Jvm.MethodName)) ∈ lw_all := lw_g (lw_at lw_m3 171 rfl) rfl
theorem q728 : (Jvm.Cond.code ({ cls := "ClassFileReader", name := "fieldType", desc := "(Ljava/lang/String;)Z" } : Jvm.MethodName) prog_1_method_9_code (1 : Nat) (Option.some Jvm.ClassFile.FieldType.boolean)) ∈ lw_all := lw_g (lw_at lw_m3 172 rfl) rfl
theorem q729 : (Jvm.Cond.methodLink "ClassFileReader" (57 : Nat) ({ cls := "ClassFileReader", name := "typeEnd", desc := "(Ljava/lang/String;I)I" } : Jvm.MethodName)) ∈ lw_all := lw_g (lw_at lw_m3 173 rfl) rfl
theorem q730 : (Jvm.Cond.static ({ cls := "ClassFileReader", name := "typeEnd", desc := "(Ljava/lang/String;I)I" } : Jvm.MethodName)) ∈ lw_all := lw_g (lw_at lw_m3 174 rfl) rfl
theorem q731 : (Jvm.Cond.code ({ cls := "ClassFileReader", name := "typeEnd", desc := "(Ljava/lang/String;I)I" } : Jvm.MethodName) prog_1_method_8_code (4 : Nat) (Option.some Jvm.ClassFile.FieldType.int)) ∈ lw_all := lw_g (lw_at lw_m3 175 rfl) rfl
theorem q732 : (Jvm.Cond.methodLink "ClassFileReader" (45 : Nat) ({ cls := "java/lang/String", name := "length", desc := "()I" } : Jvm.MethodName)) ∈ lw_all := lw_g (lw_at lw_m3 176 rfl) rfl
theorem q733 : (Jvm.Cond.methodLink "ClassFileReader" (53 : Nat) ({ cls := "ClassFileReader", name := "className", desc := "(Ljava/lang/String;II)Z" } : Jvm.MethodName)) ∈ lw_all := lw_g (lw_at lw_m3 177 rfl) rfl
theorem q734 : (Jvm.Cond.methodLink "ClassFileReader" (49 : Nat) ({ cls := "java/lang/String", name := "isEmpty", desc := "()Z" } : Jvm.MethodName)) ∈ lw_all := lw_g (lw_at lw_m3 178 rfl) rfl
theorem q744 : (Jvm.Cond.privateMethod ({ cls := "ClassFileReader", name := "classAt", desc := "(II)LClassFileReader$Named;" } : Jvm.MethodName)) ∈ lw_tbl := lw_at lw_m3 188 rfl
theorem q745 : (Jvm.Cond.instanceMethod ({ cls := "ClassFileReader", name := "classAt", desc := "(II)LClassFileReader$Named;" } : Jvm.MethodName)) ∈ lw_all := lw_g (lw_at lw_m3 189 rfl) rfl
theorem q746 : (Jvm.Cond.code ({ cls := "ClassFileReader", name := "classAt", desc := "(II)LClassFileReader$Named;" } : Jvm.MethodName) prog_1_method_18_code (4 : Nat) (Option.some (Jvm.ClassFile.FieldType.object "ClassFileReader$Named"))) ∈ lw_all := lw_g (lw_at lw_m3 190 rfl) rfl
theorem q753 : (Jvm.Cond.static ({ cls := "ClassFileReader", name := "memberName", desc := "(Ljava/lang/String;)Z" } : Jvm.MethodName)) ∈ lw_all := lw_g (lw_at lw_m3 197 rfl) rfl
theorem q754 : (Jvm.Cond.code ({ cls := "ClassFileReader", name := "memberName", desc := "(Ljava/lang/String;)Z" } : Jvm.MethodName) prog_1_method_7_code (3 : Nat) (Option.some Jvm.ClassFile.FieldType.boolean)) ∈ lw_all := lw_g (lw_at lw_m3 198 rfl) rfl
theorem q766 : (Jvm.Cond.static ({ cls := "ClassFileReader", name := "methodType", desc := "(Ljava/lang/String;)Z" } : Jvm.MethodName)) ∈ lw_all := lw_g (lw_at lw_m3 210 rfl) rfl
theorem q767 : (Jvm.Cond.code ({ cls := "ClassFileReader", name := "methodType", desc := "(Ljava/lang/String;)Z" } : Jvm.MethodName) prog_1_method_11_code (3 : Nat) (Option.some Jvm.ClassFile.FieldType.boolean)) ∈ lw_all := lw_g (lw_at lw_m3 211 rfl) rfl
theorem q771 : (Jvm.Cond.methodLink "ClassFileReader" (380 : Nat) ({ cls := "ClassFileReader", name := "fileFlags", desc := "(I)Z" } : Jvm.MethodName)) ∈ lw_all := lw_g (lw_at lw_m3 215 rfl) rfl
theorem q772 : (Jvm.Cond.static ({ cls := "ClassFileReader", name := "fileFlags", desc := "(I)Z" } : Jvm.MethodName)) ∈ lw_all := lw_g (lw_at lw_m3 216 rfl) rfl
theorem q773 : (Jvm.Cond.code ({ cls := "ClassFileReader", name := "fileFlags", desc := "(I)Z" } : Jvm.MethodName) prog_1_method_34_code (1 : Nat) (Option.some Jvm.ClassFile.FieldType.boolean)) ∈ lw_all := lw_g (lw_at lw_m3 217 rfl) rfl
theorem q774 : (Jvm.Cond.methodLink "ClassFileReader" (306 : Nat) ({ cls := "ClassFileReader", name := "has", desc := "(II)Z" } : Jvm.MethodName)) ∈ lw_all := lw_g (lw_at lw_m3 218 rfl) rfl
theorem q775 : (Jvm.Cond.static ({ cls := "ClassFileReader", name := "has", desc := "(II)Z" } : Jvm.MethodName)) ∈ lw_all := lw_g (lw_at lw_m3 219 rfl) rfl
theorem q776 : (Jvm.Cond.code ({ cls := "ClassFileReader", name := "has", desc := "(II)Z" } : Jvm.MethodName) prog_1_method_33_code (2 : Nat) (Option.some Jvm.ClassFile.FieldType.boolean)) ∈ lw_all := lw_g (lw_at lw_m3 220 rfl) rfl
theorem q777 : (Jvm.Cond.methodLink "ClassFileReader" (353 : Nat) ({ cls := "ClassFileReader", name := "plainClass", desc := "(Z)Ljava/lang/String;" } : Jvm.MethodName)) ∈ lw_all := lw_g (lw_at lw_m3 221 rfl) rfl
theorem q778 : (Jvm.Cond.privateMethod ({ cls := "ClassFileReader", name := "plainClass", desc := "(Z)Ljava/lang/String;" } : Jvm.MethodName)) ∈ lw_tbl := lw_at lw_m3 222 rfl
theorem q779 : (Jvm.Cond.instanceMethod ({ cls := "ClassFileReader", name := "plainClass", desc := "(Z)Ljava/lang/String;" } : Jvm.MethodName)) ∈ lw_all := lw_g (lw_at lw_m3 223 rfl) rfl
theorem q780 : (Jvm.Cond.code ({ cls := "ClassFileReader", name := "plainClass", desc := "(Z)Ljava/lang/String;" } : Jvm.MethodName) prog_1_method_21_code (5 : Nat) (Option.some (Jvm.ClassFile.FieldType.object "java/lang/String"))) ∈ lw_all := lw_g (lw_at lw_m3 224 rfl) rfl
theorem q781 : (Jvm.Cond.methodLink "ClassFileReader" (110 : Nat) ({ cls := "ClassFileReader", name := "classAt", desc := "(II)LClassFileReader$Named;" } : Jvm.MethodName)) ∈ lw_all := lw_g (lw_at lw_m3 225 rfl) rfl
theorem q782 : (Jvm.Cond.methodLink "ClassFileReader" (387 : Nat) ({ cls := "ClassFileReader", name := "interfaces", desc := "()V" } : Jvm.MethodName)) ∈ lw_all := lw_g (lw_at lw_m3 226 rfl) rfl
theorem q783 : (Jvm.Cond.privateMethod ({ cls := "ClassFileReader", name := "interfaces", desc := "()V" } : Jvm.MethodName)) ∈ lw_tbl := lw_at lw_m3 227 rfl
theorem q784 : (Jvm.Cond.instanceMethod ({ cls := "ClassFileReader", name := "interfaces", desc := "()V" } : Jvm.MethodName)) ∈ lw_all := lw_g (lw_at lw_m3 228 rfl) rfl
theorem q785 : (Jvm.Cond.code ({ cls := "ClassFileReader", name := "interfaces", desc := "()V" } : Jvm.MethodName) prog_1_method_39_code (6 : Nat) (Option.none : Option Jvm.ClassFile.FieldType)) ∈ lw_all := lw_g (lw_at lw_m3 229 rfl) rfl
theorem q786 : (Jvm.Cond.methodLink "ClassFileReader" (229 : Nat) ({ cls := "java/lang/String", name := "equals", desc := "(Ljava/lang/Object;)Z" } : Jvm.MethodName)) ∈ lw_all := lw_g (lw_at lw_m3 230 rfl) rfl
theorem q787 : (Jvm.Cond.methodLink "ClassFileReader" (261 : Nat) ({ cls := "ClassFileReader$Links", name := "add", desc := "(Ljava/lang/String;)V" } : Jvm.MethodName)) ∈ lw_all := lw_g (lw_at lw_m3 231 rfl) rfl
theorem q799 : (Jvm.Cond.fieldLinkNest "ClassFileReader" (364 : Nat) "ClassFileReader$Link" "text" "Ljava/lang/String;" "ClassFileReader") ∈ lw_tbl := lw_at lw_m4 3 rfl
theorem q801 : (Jvm.Cond.fieldLinkNest "ClassFileReader" (367 : Nat) "ClassFileReader$Link" "next" "LClassFileReader$Link;" "ClassFileReader") ∈ lw_tbl := lw_at lw_m4 5 rfl
theorem q807 : (Jvm.Cond.methodLink "ClassFileReader" (389 : Nat) ({ cls := "ClassFileReader", name := "members", desc := "(Z)V" } : Jvm.MethodName)) ∈ lw_all := lw_g (lw_at lw_m4 11 rfl) rfl
theorem q808 : (Jvm.Cond.privateMethod ({ cls := "ClassFileReader", name := "members", desc := "(Z)V" } : Jvm.MethodName)) ∈ lw_tbl := lw_at lw_m4 12 rfl
theorem q809 : (Jvm.Cond.instanceMethod ({ cls := "ClassFileReader", name := "members", desc := "(Z)V" } : Jvm.MethodName)) ∈ lw_all := lw_g (lw_at lw_m4 13 rfl) rfl
theorem q810 : (Jvm.Cond.code ({ cls := "ClassFileReader", name := "members", desc := "(Z)V" } : Jvm.MethodName) prog_1_method_38_code (5 : Nat) (Option.none : Option Jvm.ClassFile.FieldType)) ∈ lw_all := lw_g (lw_at lw_m4 14 rfl) rfl
theorem q811 : (Jvm.Cond.methodLink "ClassFileReader" (349 : Nat) ({ cls := "ClassFileReader", name := "member", desc := "(Z)V" } : Jvm.MethodName)) ∈ lw_all := lw_g (lw_at lw_m4 15 rfl) rfl
theorem q812 : (Jvm.Cond.privateMethod ({ cls := "ClassFileReader", name := "member", desc := "(Z)V" } : Jvm.MethodName)) ∈ lw_tbl := lw_at lw_m4 16 rfl
theorem q813 : (Jvm.Cond.instanceMethod ({ cls := "ClassFileReader", name := "member", desc := "(Z)V" } : Jvm.MethodName)) ∈ lw_all := lw_g (lw_at lw_m4 17 rfl) rfl
theorem q814 : (Jvm.Cond.code ({ cls := "ClassFileReader", name := "member", desc := "(Z)V" } : Jvm.MethodName) prog_1_method_37_code (12 : Nat) (Option.none : Option Jvm.ClassFile.FieldType)) ∈ lw_all := lw_g (lw_at lw_m4 18 rfl) rfl
theorem q815 : (Jvm.Cond.methodLink "ClassFileReader" (106 : Nat) ({ cls := "ClassFileReader", name := "textAt", desc := "(II)Ljava/lang/String;" } : Jvm.MethodName)) ∈ lw_all := lw_g (lw_at lw_m4 19 rfl) rfl
theorem q816 : (Jvm.Cond.stringRef "ClassFileReader" (318 : Nat) "<init>") ∈ lw_tbl := lw_at lw_m4 20 rfl
theorem q817 : (Jvm.Cond.stringRef "ClassFileReader" (316 : Nat) "<clinit>") ∈ lw_tbl := lw_at lw_m4 21 rfl
theorem q818 : (Jvm.Cond.methodLink "ClassFileReader" (289 : Nat) ({ cls := "ClassFileReader", name := "memberName", desc := "(Ljava/lang/String;)Z" } : Jvm.MethodName)) ∈ lw_all := lw_g (lw_at lw_m4 22 rfl) rfl
theorem q819 : (Jvm.Cond.methodLink "ClassFileReader" (319 : Nat) ({ cls := "ClassFileReader", name := "methodType", desc := "(Ljava/lang/String;)Z" } : Jvm.MethodName)) ∈ lw_all := lw_g (lw_at lw_m4 23 rfl) rfl
theorem q820 : (Jvm.Cond.methodLink "ClassFileReader" (329 : Nat) ({ cls := "ClassFileReader", name := "methodFlags", desc := "(ILjava/lang/String;Z)Z" } : Jvm.MethodName)) ∈ lw_all := lw_g (lw_at lw_m4 24 rfl) rfl
theorem q821 : (Jvm.Cond.static ({ cls := "ClassFileReader", name := "methodFlags", desc := "(ILjava/lang/String;Z)Z" } : Jvm.MethodName)) ∈ lw_all := lw_g (lw_at lw_m4 25 rfl) rfl
theorem q822 : (Jvm.Cond.code ({ cls := "ClassFileReader", name := "methodFlags", desc := "(ILjava/lang/String;Z)Z" } : Jvm.MethodName) prog_1_method_36_code (3 : Nat) (Option.some Jvm.ClassFile.FieldType.boolean)) ∈ lw_all := lw_g (lw_at lw_m4 26 rfl) rfl
theorem q823 : (Jvm.Cond.methodLink "ClassFileReader" (310 : Nat) ({ cls := "java/lang/Integer", name := "bitCount", desc := "(I)I" } : Jvm.MethodName)) ∈ lw_all := lw_g (lw_at lw_m4 27 rfl) rfl
theorem q829 : (Jvm.Cond.methodLink "ClassFileReader" (333 : Nat) ({ cls := "ClassFileReader", name := "fieldFlags", desc := "(IZ)Z" } : Jvm.MethodName)) ∈ lw_all := lw_g (lw_at lw_m4 33 rfl) rfl
theorem q830 : (Jvm.Cond.static ({ cls := "ClassFileReader", name := "fieldFlags", desc := "(IZ)Z" } : Jvm.MethodName)) ∈ lw_all := lw_g (lw_at lw_m4 34 rfl) rfl
theorem q831 : (Jvm.Cond.code ({ cls := "ClassFileReader", name := "fieldFlags", desc := "(IZ)Z" } : Jvm.MethodName) prog_1_method_35_code (2 : Nat) (Option.some Jvm.ClassFile.FieldType.boolean)) ∈ lw_all := lw_g (lw_at lw_m4 35 rfl) rfl
theorem q832 : (Jvm.Cond.methodLink "ClassFileReader" (343 : Nat) ({ cls := "ClassFileReader$Members", name := "find", desc := "(Ljava/lang/String;Ljava/lang/String;)LClassFileReader$Member;" } : Jvm.MethodName)) ∈ lw_all := lw_g (lw_at lw_m4 36 rfl) rfl
theorem q837 : (Jvm.Cond.classLink "ClassFileReader" (192 : Nat) "ClassFileReader$Method") ∈ lw_all := lw_g (lw_at lw_m4 41 rfl) rfl
theorem q839 : (Jvm.Cond.methodLink "ClassFileReader" (347 : Nat) ({ cls := "ClassFileReader$Method", name := "<init>", desc := "(ILjava/lang/String;Ljava/lang/String;)V" } : Jvm.MethodName)) ∈ lw_all := lw_g (lw_at lw_m4 43 rfl) rfl
theorem q849 : (Jvm.Cond.fieldLinkNest "ClassFileReader" (194 : Nat) "ClassFileReader$Method" "exceptions" "LClassFileReader$Links;" "ClassFileReader") ∈ lw_tbl := lw_at lw_m4 53 rfl
theorem q851 : (Jvm.Cond.fieldLink "ClassFileReader" (411 : Nat) "ClassFileReader$Member" "flags" "I") ∈ lw_all := lw_g (lw_at lw_m4 55 rfl) rfl
theorem q854 : (Jvm.Cond.fieldLink "ClassFileReader" (286 : Nat) "ClassFileReader$Member" "name" "Ljava/lang/String;") ∈ lw_all := lw_g (lw_at lw_m4 58 rfl) rfl
theorem q857 : (Jvm.Cond.fieldLink "ClassFileReader" (223 : Nat) "ClassFileReader$Field" "type" "Ljava/lang/String;") ∈ lw_all := lw_g (lw_at lw_m4 61 rfl) rfl
theorem q859 : (Jvm.Cond.fieldLink "ClassFileReader" (292 : Nat) "ClassFileReader$Member" "type" "Ljava/lang/String;") ∈ lw_all := lw_g (lw_at lw_m4 63 rfl) rfl
theorem q875 : (Jvm.Cond.classLink "ClassFileReader" (186 : Nat) "ClassFileReader$Field") ∈ lw_all := lw_g (lw_at lw_m4 79 rfl) rfl
theorem q877 : (Jvm.Cond.methodLink "ClassFileReader" (348 : Nat) ({ cls := "ClassFileReader$Field", name := "<init>", desc := "(ILjava/lang/String;Ljava/lang/String;)V" } : Jvm.MethodName)) ∈ lw_all := lw_g (lw_at lw_m4 81 rfl) rfl
theorem q883 : (Jvm.Cond.fieldLinkNest "ClassFileReader" (254 : Nat) "ClassFileReader$Field" "constant" "J" "ClassFileReader") ∈ lw_tbl := lw_at lw_m4 87 rfl
theorem q894 : (Jvm.Cond.methodLink "ClassFileReader" (297 : Nat) ({ cls := "ClassFileReader$Members", name := "add", desc := "(LClassFileReader$Member;)V" } : Jvm.MethodName)) ∈ lw_all := lw_g (lw_at lw_m4 98 rfl) rfl
theorem q898 : (Jvm.Cond.methodLink "ClassFileReader" (302 : Nat) ({ cls := "ClassFileReader", name := "table", desc := "(LClassFileReader$Holder;)V" } : Jvm.MethodName)) ∈ lw_all := lw_g (lw_at lw_m4 102 rfl) rfl
theorem q899 : (Jvm.Cond.privateMethod ({ cls := "ClassFileReader", name := "table", desc := "(LClassFileReader$Holder;)V" } : Jvm.MethodName)) ∈ lw_tbl := lw_at lw_m4 103 rfl
theorem q900 : (Jvm.Cond.instanceMethod ({ cls := "ClassFileReader", name := "table", desc := "(LClassFileReader$Holder;)V" } : Jvm.MethodName)) ∈ lw_all := lw_g (lw_at lw_m4 104 rfl) rfl
theorem q901 : (Jvm.Cond.code ({ cls := "ClassFileReader", name := "table", desc := "(LClassFileReader$Holder;)V" } : Jvm.MethodName) prog_1_method_26_code (10 : Nat) (Option.none : Option Jvm.ClassFile.FieldType)) ∈ lw_all := lw_g (lw_at lw_m4 105 rfl) rfl
theorem q902 : (Jvm.Cond.methodLink "ClassFileReader" (159 : Nat) ({ cls := "ClassFileReader", name := "textItem", desc := "()Ljava/lang/String;" } : Jvm.MethodName)) ∈ lw_all := lw_g (lw_at lw_m4 106 rfl) rfl
theorem q903 : (Jvm.Cond.privateMethod ({ cls := "ClassFileReader", name := "textItem", desc := "()Ljava/lang/String;" } : Jvm.MethodName)) ∈ lw_tbl := lw_at lw_m4 107 rfl
theorem q904 : (Jvm.Cond.instanceMethod ({ cls := "ClassFileReader", name := "textItem", desc := "()Ljava/lang/String;" } : Jvm.MethodName)) ∈ lw_all := lw_g (lw_at lw_m4 108 rfl) rfl
theorem q905 : (Jvm.Cond.code ({ cls := "ClassFileReader", name := "textItem", desc := "()Ljava/lang/String;" } : Jvm.MethodName) prog_1_method_19_code (3 : Nat) (Option.some (Jvm.ClassFile.FieldType.object "java/lang/String"))) ∈ lw_all := lw_g (lw_at lw_m4 109 rfl) rfl
theorem q906 : (Jvm.Cond.methodLink "ClassFileReader" (162 : Nat) ({ cls := "ClassFileReader$Holder", name := "known", desc := "(Ljava/lang/String;)I" } : Jvm.MethodName)) ∈ lw_all := lw_g (lw_at lw_m4 110 rfl) rfl
theorem q989 : (Jvm.Cond.methodLink "ClassFileReader" (168 : Nat) ({ cls := "ClassFileReader$Holder", name := "again", desc := "(I)Z" } : Jvm.MethodName)) ∈ lw_all := lw_g (lw_at lw_m4 193 rfl) rfl
theorem q997 : (Jvm.Cond.methodLink "ClassFileReader" (176 : Nat) ({ cls := "ClassFileReader", name := "content", desc := "(LClassFileReader$Holder;IIJ)V" } : Jvm.MethodName)) ∈ lw_all := lw_g (lw_at lw_m4 201 rfl) rfl
theorem q998 : (Jvm.Cond.privateMethod ({ cls := "ClassFileReader", name := "content", desc := "(LClassFileReader$Holder;IIJ)V" } : Jvm.MethodName)) ∈ lw_tbl := lw_at lw_m4 202 rfl
theorem q999 : (Jvm.Cond.instanceMethod ({ cls := "ClassFileReader", name := "content", desc := "(LClassFileReader$Holder;IIJ)V" } : Jvm.MethodName)) ∈ lw_all := lw_g (lw_at lw_m4 203 rfl) rfl
theorem q1000 : (Jvm.Cond.code ({ cls := "ClassFileReader", name := "content", desc := "(LClassFileReader$Holder;IIJ)V" } : Jvm.MethodName) prog_1_method_27_code (6 : Nat) (Option.none : Option Jvm.ClassFile.FieldType)) ∈ lw_all := lw_g (lw_at lw_m4 204 rfl) rfl
theorem q1001 : (Jvm.Cond.methodLink "ClassFileReader" (188 : Nat) ({ cls := "ClassFileReader", name := "constantItem", desc := "(LClassFileReader$Field;)V" } : Jvm.MethodName)) ∈ lw_all := lw_g (lw_at lw_m4 205 rfl) rfl
theorem q1002 : (Jvm.Cond.privateMethod ({ cls := "ClassFileReader", name := "constantItem", desc := "(LClassFileReader$Field;)V" } : Jvm.MethodName)) ∈ lw_tbl := lw_at lw_m4 206 rfl
theorem q1003 : (Jvm.Cond.instanceMethod ({ cls := "ClassFileReader", name := "constantItem", desc := "(LClassFileReader$Field;)V" } : Jvm.MethodName)) ∈ lw_all := lw_g (lw_at lw_m4 207 rfl) rfl
theorem q1004 : (Jvm.Cond.code ({ cls := "ClassFileReader", name := "constantItem", desc := "(LClassFileReader$Field;)V" } : Jvm.MethodName) prog_1_method_28_code (7 : Nat) (Option.none : Option Jvm.ClassFile.FieldType)) ∈ lw_all := lw_g (lw_at lw_m4 208 rfl) rfl
theorem q1005 : (Jvm.Cond.methodLink "ClassFileReader" (225 : Nat) ({ cls := "java/lang/String", name := "hashCode", desc := "()I" } : Jvm.MethodName)) ∈ lw_all := lw_g (lw_at lw_m4 209 rfl) rfl
theorem q1006 : (Jvm.Cond.stringRef "ClassFileReader" (228 : Nat) "I") ∈ lw_tbl := lw_at lw_m4 210 rfl
theorem q1007 : (Jvm.Cond.stringRef "ClassFileReader" (233 : Nat) "S") ∈ lw_tbl := lw_at lw_m4 211 rfl
theorem q1008 : (Jvm.Cond.stringRef "ClassFileReader" (235 : Nat) "C") ∈ lw_tbl := lw_at lw_m4 212 rfl
theorem q1009 : (Jvm.Cond.stringRef "ClassFileReader" (237 : Nat) "B") ∈ lw_tbl := lw_at lw_m4 213 rfl
theorem q1010 : (Jvm.Cond.stringRef "ClassFileReader" (239 : Nat) "Z") ∈ lw_tbl := lw_at lw_m4 214 rfl
theorem q1011 : (Jvm.Cond.stringRef "ClassFileReader" (240 : Nat) "F") ∈ lw_tbl := lw_at lw_m4 215 rfl
theorem q1012 : (Jvm.Cond.stringRef "ClassFileReader" (242 : Nat) "J") ∈ lw_tbl := lw_at lw_m4 216 rfl
theorem q1013 : (Jvm.Cond.stringRef "ClassFileReader" (244 : Nat) "D") ∈ lw_tbl := lw_at lw_m4 217 rfl
theorem q1014 : (Jvm.Cond.stringRef "ClassFileReader" (246 : Nat) "Ljava/lang/String;") ∈ lw_tbl := lw_at lw_m4 218 rfl
theorem q1015 : (Jvm.Cond.constantLong "ClassFileReader" (250 : Nat) (1000000000000000000 : Int64)) ∈ lw_all := lw_g (lw_at lw_m4 219 rfl) rfl
theorem q1016 : (Jvm.Cond.constantLong "ClassFileReader" (252 : Nat) (-1000000000000000000 : Int64)) ∈ lw_all := lw_g (lw_at lw_m4 220 rfl) rfl
theorem q1017 : (Jvm.Cond.methodLink "ClassFileReader" (198 : Nat) ({ cls := "ClassFileReader", name := "classes", desc := "(LClassFileReader$Links;IJ)V" } : Jvm.MethodName)) ∈ lw_all := lw_g (lw_at lw_m4 221 rfl) rfl
theorem q1018 : (Jvm.Cond.privateMethod ({ cls := "ClassFileReader", name := "classes", desc := "(LClassFileReader$Links;IJ)V" } : Jvm.MethodName)) ∈ lw_tbl := lw_at lw_m4 222 rfl
theorem q1019 : (Jvm.Cond.instanceMethod ({ cls := "ClassFileReader", name := "classes", desc := "(LClassFileReader$Links;IJ)V" } : Jvm.MethodName)) ∈ lw_all := lw_g (lw_at lw_m4 223 rfl) rfl
theorem q1020 : (Jvm.Cond.code ({ cls := "ClassFileReader", name := "classes", desc := "(LClassFileReader$Links;IJ)V" } : Jvm.MethodName) prog_1_method_30_code (7 : Nat) (Option.none : Option Jvm.ClassFile.FieldType)) ∈ lw_all := lw_g (lw_at lw_m4 224 rfl) rfl
theorem q1021 : (Jvm.Cond.methodLink "ClassFileReader" (257 : Nat) ({ cls := "ClassFileReader", name := "elements", desc := "(IJI)I" } : Jvm.MethodName)) ∈ lw_all := lw_g (lw_at lw_m4 225 rfl) rfl
theorem q1022 : (Jvm.Cond.privateMethod ({ cls := "ClassFileReader", name := "elements", desc := "(IJI)I" } : Jvm.MethodName)) ∈ lw_tbl := lw_at lw_m4 226 rfl
theorem q1023 : (Jvm.Cond.instanceMethod ({ cls := "ClassFileReader", name := "elements", desc := "(IJI)I" } : Jvm.MethodName)) ∈ lw_all := lw_g (lw_at lw_m4 227 rfl) rfl
theorem q1024 : (Jvm.Cond.code ({ cls := "ClassFileReader", name := "elements", desc := "(IJI)I" } : Jvm.MethodName) prog_1_method_29_code (6 : Nat) (Option.some Jvm.ClassFile.FieldType.int)) ∈ lw_all := lw_g (lw_at lw_m4 228 rfl) rfl
theorem q1025 : (Jvm.Cond.methodLink "ClassFileReader" (214 : Nat) ({ cls := "ClassFileReader", name := "classItem", desc := "()Ljava/lang/String;" } : Jvm.MethodName)) ∈ lw_all := lw_g (lw_at lw_m4 229 rfl) rfl
theorem q1026 : (Jvm.Cond.privateMethod ({ cls := "ClassFileReader", name := "classItem", desc := "()Ljava/lang/String;" } : Jvm.MethodName)) ∈ lw_tbl := lw_at lw_m4 230 rfl
theorem q1027 : (Jvm.Cond.instanceMethod ({ cls := "ClassFileReader", name := "classItem", desc := "()Ljava/lang/String;" } : Jvm.MethodName)) ∈ lw_all := lw_g (lw_at lw_m4 231 rfl) rfl
theorem q1028 : (Jvm.Cond.code ({ cls := "ClassFileReader", name := "classItem", desc := "()Ljava/lang/String;" } : Jvm.MethodName) prog_1_method_20_code (3 : Nat) (Option.some (Jvm.ClassFile.FieldType.object "java/lang/String"))) ∈ lw_all := lw_g (lw_at lw_m4 232 rfl) rfl
theorem q1029 : (Jvm.Cond.methodLink "ClassFileReader" (204 : Nat) ({ cls := "ClassFileReader", name := "innerClasses", desc := "(LClassFileReader$Mirror;IJ)V" } : Jvm.MethodName)) ∈ lw_all := lw_g (lw_at lw_m4 233 rfl) rfl
theorem q1030 : (Jvm.Cond.privateMethod ({ cls := "ClassFileReader", name := "innerClasses", desc := "(LClassFileReader$Mirror;IJ)V" } : Jvm.MethodName)) ∈ lw_tbl := lw_at lw_m4 234 rfl
theorem q1031 : (Jvm.Cond.instanceMethod ({ cls := "ClassFileReader", name := "innerClasses", desc := "(LClassFileReader$Mirror;IJ)V" } : Jvm.MethodName)) ∈ lw_all := lw_g (lw_at lw_m4 235 rfl) rfl
theorem q1032 : (Jvm.Cond.code ({ cls := "ClassFileReader", name := "innerClasses", desc := "(LClassFileReader$Mirror;IJ)V" } : Jvm.MethodName) prog_1_method_31_code (11 : Nat) (Option.none : Option Jvm.ClassFile.FieldType)) ∈ lw_all := lw_g (lw_at lw_m4 236 rfl) rfl
theorem q1033 : (Jvm.Cond.methodLink "ClassFileReader" (220 : Nat) ({ cls := "ClassFileReader", name := "record", desc := "(LClassFileReader$Mirror;IJ)V" } : Jvm.MethodName)) ∈ lw_all := lw_g (lw_at lw_m4 237 rfl) rfl
theorem q1034 : (Jvm.Cond.privateMethod ({ cls := "ClassFileReader", name := "record", desc := "(LClassFileReader$Mirror;IJ)V" } : Jvm.MethodName)) ∈ lw_tbl := lw_at lw_m4 238 rfl
theorem q1035 : (Jvm.Cond.instanceMethod ({ cls := "ClassFileReader", name := "record", desc := "(LClassFileReader$Mirror;IJ)V" } : Jvm.MethodName)) ∈ lw_all := lw_g (lw_at lw_m4 239 rfl) rfl
theorem q1036 : (Jvm.Cond.code ({ cls := "ClassFileReader", name := "record", desc := "(LClassFileReader$Mirror;IJ)V" } : Jvm.MethodName) prog_1_method_32_code (12 : Nat) (Option.none : Option Jvm.ClassFile.FieldType)) ∈ lw_all := lw_g (lw_at lw_m5 0 rfl) rfl
theorem q1037 : (Jvm.Cond.classLink "ClassFileReader" (281 : Nat) "ClassFileReader$Member") ∈ lw_all := lw_g (lw_at lw_m5 1 rfl) rfl
theorem q1039 : (Jvm.Cond.methodLink "ClassFileReader" (283 : Nat) ({ cls := "ClassFileReader$Member", name := "<init>", desc := "(ILjava/lang/String;Ljava/lang/String;)V" } : Jvm.MethodName)) ∈ lw_all := lw_g (lw_at lw_m5 3 rfl) rfl
theorem q1048 : (Jvm.Cond.instanceMethod ({ cls := "ClassFileReader", name := "place", desc := "()I" } : Jvm.MethodName)) ∈ lw_all := lw_g (lw_at lw_m5 12 rfl) rfl
theorem q1049 : (Jvm.Cond.selects "ClassFileReader" ({ cls := "ClassFileReader", name := "place", desc := "()I" } : Jvm.MethodName) ({ cls := "ClassFileReader", name := "place", desc := "()I" } : Jvm.MethodName)) ∈ lw_all := lw_g (lw_at lw_m5 13 rfl) rfl
theorem q1050 : (Jvm.Cond.code ({ cls := "ClassFileReader", name := "place", desc := "()I" } : Jvm.MethodName) prog_1_method_42_code (1 : Nat) (Option.some Jvm.ClassFile.FieldType.int)) ∈ lw_all := lw_g (lw_at lw_m5 14 rfl) rfl
theorem q1052 : (Jvm.Cond.instanceMethod ({ cls := "ClassFileReader", name := "number", desc := "(I)I" } : Jvm.MethodName)) ∈ lw_all := lw_g (lw_at lw_m5 16 rfl) rfl
theorem q1053 : (Jvm.Cond.selects "ClassFileReader" ({ cls := "ClassFileReader", name := "number", desc := "(I)I" } : Jvm.MethodName) ({ cls := "ClassFileReader", name := "number", desc := "(I)I" } : Jvm.MethodName)) ∈ lw_all := lw_g (lw_at lw_m5 17 rfl) rfl
theorem q1054 : (Jvm.Cond.code ({ cls := "ClassFileReader", name := "number", desc := "(I)I" } : Jvm.MethodName) prog_1_method_43_code (2 : Nat) (Option.some Jvm.ClassFile.FieldType.int)) ∈ lw_all := lw_g (lw_at lw_m5 18 rfl) rfl
theorem q1056 : (Jvm.Cond.instanceMethod ({ cls := "ClassFileReader", name := "flags", desc := "(II)I" } : Jvm.MethodName)) ∈ lw_all := lw_g (lw_at lw_m5 20 rfl) rfl
theorem q1057 : (Jvm.Cond.selects "ClassFileReader" ({ cls := "ClassFileReader", name := "flags", desc := "(II)I" } : Jvm.MethodName) ({ cls := "ClassFileReader", name := "flags", desc := "(II)I" } : Jvm.MethodName)) ∈ lw_all := lw_g (lw_at lw_m5 21 rfl) rfl
theorem q1058 : (Jvm.Cond.code ({ cls := "ClassFileReader", name := "flags", desc := "(II)I" } : Jvm.MethodName) prog_1_method_44_code (4 : Nat) (Option.some Jvm.ClassFile.FieldType.int)) ∈ lw_all := lw_g (lw_at lw_m5 22 rfl) rfl
theorem q1059 : (Jvm.Cond.methodLink "ClassFileReader" (408 : Nat) ({ cls := "ClassFileReader$Members", name := "at", desc := "(I)LClassFileReader$Member;" } : Jvm.MethodName)) ∈ lw_all := lw_g (lw_at lw_m5 23 rfl) rfl
theorem q1064 : (Jvm.Cond.instanceMethod ({ cls := "ClassFileReader", name := "text", desc := "(III)I" } : Jvm.MethodName)) ∈ lw_all := lw_g (lw_at lw_m5 28 rfl) rfl
theorem q1065 : (Jvm.Cond.selects "ClassFileReader" ({ cls := "ClassFileReader", name := "text", desc := "(III)I" } : Jvm.MethodName) ({ cls := "ClassFileReader", name := "text", desc := "(III)I" } : Jvm.MethodName)) ∈ lw_all := lw_g (lw_at lw_m5 29 rfl) rfl
theorem q1066 : (Jvm.Cond.code ({ cls := "ClassFileReader", name := "text", desc := "(III)I" } : Jvm.MethodName) prog_1_method_48_code (4 : Nat) (Option.some Jvm.ClassFile.FieldType.int)) ∈ lw_all := lw_g (lw_at lw_m5 30 rfl) rfl
theorem q1067 : (Jvm.Cond.methodLink "ClassFileReader" (421 : Nat) ({ cls := "ClassFileReader", name := "find", desc := "(II)Ljava/lang/String;" } : Jvm.MethodName)) ∈ lw_all := lw_g (lw_at lw_m5 31 rfl) rfl
theorem q1068 : (Jvm.Cond.privateMethod ({ cls := "ClassFileReader", name := "find", desc := "(II)Ljava/lang/String;" } : Jvm.MethodName)) ∈ lw_tbl := lw_at lw_m5 32 rfl
theorem q1069 : (Jvm.Cond.instanceMethod ({ cls := "ClassFileReader", name := "find", desc := "(II)Ljava/lang/String;" } : Jvm.MethodName)) ∈ lw_all := lw_g (lw_at lw_m5 33 rfl) rfl
theorem q1070 : (Jvm.Cond.code ({ cls := "ClassFileReader", name := "find", desc := "(II)Ljava/lang/String;" } : Jvm.MethodName) prog_1_method_46_code (3 : Nat) (Option.some (Jvm.ClassFile.FieldType.object "java/lang/String"))) ∈ lw_all := lw_g (lw_at lw_m5 34 rfl) rfl
theorem q1071 : (Jvm.Cond.methodLink "ClassFileReader" (413 : Nat) ({ cls := "ClassFileReader$Links", name := "at", desc := "(I)Ljava/lang/String;" } : Jvm.MethodName)) ∈ lw_all := lw_g (lw_at lw_m5 35 rfl) rfl
theorem q1075 : (Jvm.Cond.methodLink "ClassFileReader" (416 : Nat) ({ cls := "ClassFileReader", name := "of", desc := "(LClassFileReader$Member;I)Ljava/lang/String;" } : Jvm.MethodName)) ∈ lw_all := lw_g (lw_at lw_m5 39 rfl) rfl
theorem q1076 : (Jvm.Cond.static ({ cls := "ClassFileReader", name := "of", desc := "(LClassFileReader$Member;I)Ljava/lang/String;" } : Jvm.MethodName)) ∈ lw_all := lw_g (lw_at lw_m5 40 rfl) rfl
theorem q1077 : (Jvm.Cond.code ({ cls := "ClassFileReader", name := "of", desc := "(LClassFileReader$Member;I)Ljava/lang/String;" } : Jvm.MethodName) prog_1_method_45_code (2 : Nat) (Option.some (Jvm.ClassFile.FieldType.object "java/lang/String"))) ∈ lw_all := lw_g (lw_at lw_m5 41 rfl) rfl
theorem q1078 : (Jvm.Cond.methodLink "ClassFileReader" (423 : Nat) ({ cls := "ClassFileReader", name := "character", desc := "(Ljava/lang/String;I)I" } : Jvm.MethodName)) ∈ lw_all := lw_g (lw_at lw_m5 42 rfl) rfl
theorem q1079 : (Jvm.Cond.static ({ cls := "ClassFileReader", name := "character", desc := "(Ljava/lang/String;I)I" } : Jvm.MethodName)) ∈ lw_all := lw_g (lw_at lw_m5 43 rfl) rfl
theorem q1080 : (Jvm.Cond.code ({ cls := "ClassFileReader", name := "character", desc := "(Ljava/lang/String;I)I" } : Jvm.MethodName) prog_1_method_47_code (2 : Nat) (Option.some Jvm.ClassFile.FieldType.int)) ∈ lw_all := lw_g (lw_at lw_m5 44 rfl) rfl
theorem q1082 : (Jvm.Cond.instanceMethod ({ cls := "ClassFileReader", name := "exceptions", desc := "(I)I" } : Jvm.MethodName)) ∈ lw_all := lw_g (lw_at lw_m5 46 rfl) rfl
theorem q1083 : (Jvm.Cond.selects "ClassFileReader" ({ cls := "ClassFileReader", name := "exceptions", desc := "(I)I" } : Jvm.MethodName) ({ cls := "ClassFileReader", name := "exceptions", desc := "(I)I" } : Jvm.MethodName)) ∈ lw_all := lw_g (lw_at lw_m5 47 rfl) rfl
theorem q1084 : (Jvm.Cond.code ({ cls := "ClassFileReader", name := "exceptions", desc := "(I)I" } : Jvm.MethodName) prog_1_method_50_code (3 : Nat) (Option.some Jvm.ClassFile.FieldType.int)) ∈ lw_all := lw_g (lw_at lw_m5 48 rfl) rfl
theorem q1085 : (Jvm.Cond.methodLink "ClassFileReader" (426 : Nat) ({ cls := "ClassFileReader", name := "method", desc := "(I)LClassFileReader$Method;" } : Jvm.MethodName)) ∈ lw_all := lw_g (lw_at lw_m5 49 rfl) rfl
theorem q1086 : (Jvm.Cond.privateMethod ({ cls := "ClassFileReader", name := "method", desc := "(I)LClassFileReader$Method;" } : Jvm.MethodName)) ∈ lw_tbl := lw_at lw_m5 50 rfl
theorem q1087 : (Jvm.Cond.instanceMethod ({ cls := "ClassFileReader", name := "method", desc := "(I)LClassFileReader$Method;" } : Jvm.MethodName)) ∈ lw_all := lw_g (lw_at lw_m5 51 rfl) rfl
theorem q1088 : (Jvm.Cond.code ({ cls := "ClassFileReader", name := "method", desc := "(I)LClassFileReader$Method;" } : Jvm.MethodName) prog_1_method_49_code (3 : Nat) (Option.some (Jvm.ClassFile.FieldType.object "ClassFileReader$Method"))) ∈ lw_all := lw_g (lw_at lw_m5 52 rfl) rfl
theorem q1090 : (Jvm.Cond.instanceMethod ({ cls := "ClassFileReader", name := "exception", desc := "(III)I" } : Jvm.MethodName)) ∈ lw_all := lw_g (lw_at lw_m5 54 rfl) rfl
theorem q1091 : (Jvm.Cond.selects "ClassFileReader" ({ cls := "ClassFileReader", name := "exception", desc := "(III)I" } : Jvm.MethodName) ({ cls := "ClassFileReader", name := "exception", desc := "(III)I" } : Jvm.MethodName)) ∈ lw_all := lw_g (lw_at lw_m5 55 rfl) rfl
theorem q1092 : (Jvm.Cond.code ({ cls := "ClassFileReader", name := "exception", desc := "(III)I" } : Jvm.MethodName) prog_1_method_51_code (5 : Nat) (Option.some Jvm.ClassFile.FieldType.int)) ∈ lw_all := lw_g (lw_at lw_m5 56 rfl) rfl
theorem q1094 : (Jvm.Cond.instanceMethod ({ cls := "ClassFileReader", name := "constant", desc := "(I)J" } : Jvm.MethodName)) ∈ lw_all := lw_g (lw_at lw_m5 58 rfl) rfl
theorem q1095 : (Jvm.Cond.selects "ClassFileReader" ({ cls := "ClassFileReader", name := "constant", desc := "(I)J" } : Jvm.MethodName) ({ cls := "ClassFileReader", name := "constant", desc := "(I)J" } : Jvm.MethodName)) ∈ lw_all := lw_g (lw_at lw_m5 59 rfl) rfl
theorem q1096 : (Jvm.Cond.code ({ cls := "ClassFileReader", name := "constant", desc := "(I)J" } : Jvm.MethodName) prog_1_method_52_code (3 : Nat) (Option.some Jvm.ClassFile.FieldType.long)) ∈ lw_all := lw_g (lw_at lw_m5 60 rfl) rfl
theorem q1098 : (Jvm.Cond.instanceMethod ({ cls := "ClassFileReader", name := "deprecated", desc := "(II)I" } : Jvm.MethodName)) ∈ lw_all := lw_g (lw_at lw_m5 62 rfl) rfl
theorem q1099 : (Jvm.Cond.selects "ClassFileReader" ({ cls := "ClassFileReader", name := "deprecated", desc := "(II)I" } : Jvm.MethodName) ({ cls := "ClassFileReader", name := "deprecated", desc := "(II)I" } : Jvm.MethodName)) ∈ lw_all := lw_g (lw_at lw_m5 63 rfl) rfl
theorem q1100 : (Jvm.Cond.code ({ cls := "ClassFileReader", name := "deprecated", desc := "(II)I" } : Jvm.MethodName) prog_1_method_53_code (4 : Nat) (Option.some Jvm.ClassFile.FieldType.int)) ∈ lw_all := lw_g (lw_at lw_m5 64 rfl) rfl
theorem in_X0 : ∀ w ∈ wsX00, w ∈ lw_all := lw_in wsX00 [160, 162, 164, 166, 168, 170, 172, 174, 176] (by decide +kernel) (by decide +kernel)
def RX1 : String := "ClassFileReaderModel"
def TX1 : u_T := fun k => match k with
  | 0 => ("ClassFileReaderModel", "bytes", "[I", true)
  | 1 => ("ClassFileReaderModel", "size", "I", false)
  | 2 => ("ClassFileReaderModel", "notes", "[I", true)
  | 3 => ("ClassFileReaderModel", "mirror", "[I", true)
  | 4 => ("ClassFileReaderModel", "kept", "[I", true)
  | 5 => ("ClassFileReaderModel", "any", "Z", false)
  | 6 => ("ClassFileReaderModel", "mirrored", "Z", false)
  | 7 => ("ClassFileReaderModel", "at", "I", false)
  | 8 => ("ClassFileReaderModel", "code", "I", false)
  | _ => ("ClassFileReaderModel", "wrong", "I", false)
def tyX1 : Nat → FieldType := fun k => match k with
  | 0 => .array .int
  | 1 => .int
  | 2 => .array .int
  | 3 => .array .int
  | 4 => .array .int
  | 5 => .boolean
  | 6 => .boolean
  | 7 => .int
  | 8 => .int
  | _ => .int
abbrev wsX10 : List Cond := u_ws RX1 TX1 10
theorem nmX1 : ∀ a, a < 10 → ∀ b, b < 10 → a ≠ b → (TX1 a).2.1 ≠ (TX1 b).2.1 := by decide +kernel
theorem tyX1_ok : ∀ k, k < 10 → parseFieldDescriptor (TX1 k).2.2.1 = some (tyX1 k) := by decide +kernel
abbrev cX1_init : ByteArray := prog_17_method_1_code
def yX1_init : MethodName := ⟨RX1, "<init>", "()V"⟩
abbrev cX1_put : ByteArray := prog_17_method_2_code
def yX1_put : MethodName := ⟨RX1, "put", "(JI)I"⟩
abbrev cX1_patch : ByteArray := prog_17_method_3_code
def yX1_patch : MethodName := ⟨RX1, "patch", "(II)I"⟩
abbrev cX1_drop : ByteArray := prog_17_method_4_code
def yX1_drop : MethodName := ⟨RX1, "drop", "()I"⟩
abbrev cX1_read : ByteArray := prog_17_method_51_code
def yX1_read : MethodName := ⟨RX1, "read", "()I"⟩
abbrev cX1_file : ByteArray := prog_17_method_50_code
def yX1_file : MethodName := ⟨RX1, "file", "()V"⟩
abbrev cX1_u4 : ByteArray := prog_17_method_27_code
def yX1_u4 : MethodName := ⟨RX1, "u4", "()J"⟩
abbrev cX1_room : ByteArray := prog_17_method_24_code
def yX1_room : MethodName := ⟨RX1, "room", "(J)Z"⟩
abbrev cX1_fail : ByteArray := prog_17_method_23_code
def yX1_fail : MethodName := ⟨RX1, "fail", "(II)V"⟩
abbrev cX1_u2 : ByteArray := prog_17_method_26_code
def yX1_u2 : MethodName := ⟨RX1, "u2", "()I"⟩
abbrev cX1_pool : ByteArray := prog_17_method_31_code
def yX1_pool : MethodName := ⟨RX1, "pool", "()V"⟩
abbrev cX1_entry : ByteArray := prog_17_method_29_code
def yX1_entry : MethodName := ⟨RX1, "entry", "(I)I"⟩
abbrev cX1_u1 : ByteArray := prog_17_method_25_code
def yX1_u1 : MethodName := ⟨RX1, "u1", "()I"⟩
abbrev cX1_look : ByteArray := prog_17_method_30_code
def yX1_look : MethodName := ⟨RX1, "look", "(I)V"⟩
abbrev cX1_tag : ByteArray := prog_17_method_8_code
def yX1_tag : MethodName := ⟨RX1, "tag", "(I)I"⟩
abbrev cX1_note : ByteArray := prog_17_method_7_code
def yX1_note : MethodName := ⟨RX1, "note", "(I)I"⟩
abbrev cX1_byteAt : ByteArray := prog_17_method_5_code
def yX1_byteAt : MethodName := ⟨RX1, "byteAt", "(I)I"⟩
abbrev cX1_operand : ByteArray := prog_17_method_12_code
def yX1_operand : MethodName := ⟨RX1, "operand", "(I)I"⟩
abbrev cX1_two : ByteArray := prog_17_method_6_code
def yX1_two : MethodName := ⟨RX1, "two", "(I)I"⟩
abbrev cX1_isClassName : ByteArray := prog_17_method_21_code
def yX1_isClassName : MethodName := ⟨RX1, "isClassName", "(I)Z"⟩
abbrev cX1_start : ByteArray := prog_17_method_9_code
def yX1_start : MethodName := ⟨RX1, "start", "(I)I"⟩
abbrev cX1_count : ByteArray := prog_17_method_10_code
def yX1_count : MethodName := ⟨RX1, "count", "(I)I"⟩
abbrev cX1_className : ByteArray := prog_17_method_17_code
def yX1_className : MethodName := ⟨RX1, "className", "(II)Z"⟩
abbrev cX1_plain : ByteArray := prog_17_method_16_code
def yX1_plain : MethodName := ⟨RX1, "plain", "(I)Z"⟩
abbrev cX1_character : ByteArray := prog_17_method_11_code
def yX1_character : MethodName := ⟨RX1, "character", "(II)I"⟩
abbrev cX1_isField : ByteArray := prog_17_method_19_code
def yX1_isField : MethodName := ⟨RX1, "isField", "(I)Z"⟩
abbrev cX1_fieldType : ByteArray := prog_17_method_18_code
def yX1_fieldType : MethodName := ⟨RX1, "fieldType", "(II)I"⟩
abbrev cX1_isMember : ByteArray := prog_17_method_22_code
def yX1_isMember : MethodName := ⟨RX1, "isMember", "(I)Z"⟩
abbrev cX1_known : ByteArray := prog_17_method_14_code
def yX1_known : MethodName := ⟨RX1, "known", "(I)I"⟩
abbrev cX1_same : ByteArray := prog_17_method_13_code
def yX1_same : MethodName := ⟨RX1, "same", "(IIJJJ)Z"⟩
abbrev cX1_isMethod : ByteArray := prog_17_method_20_code
def yX1_isMethod : MethodName := ⟨RX1, "isMethod", "(I)Z"⟩
abbrev cX1_badFile : ByteArray := prog_17_method_37_code
def yX1_badFile : MethodName := ⟨RX1, "badFile", "(I)Z"⟩
abbrev cX1_has : ByteArray := prog_17_method_35_code
def yX1_has : MethodName := ⟨RX1, "has", "(II)Z"⟩
abbrev cX1_named : ByteArray := prog_17_method_34_code
def yX1_named : MethodName := ⟨RX1, "named", "()I"⟩
abbrev cX1_classRef : ByteArray := prog_17_method_32_code
def yX1_classRef : MethodName := ⟨RX1, "classRef", "(Z)I"⟩
abbrev cX1_index : ByteArray := prog_17_method_28_code
def yX1_index : MethodName := ⟨RX1, "index", "(IZ)I"⟩
abbrev cX1_interfaces : ByteArray := prog_17_method_33_code
def yX1_interfaces : MethodName := ⟨RX1, "interfaces", "()V"⟩
abbrev cX1_alike : ByteArray := prog_17_method_15_code
def yX1_alike : MethodName := ⟨RX1, "alike", "(II)Z"⟩
abbrev cX1_members : ByteArray := prog_17_method_42_code
def yX1_members : MethodName := ⟨RX1, "members", "(II)V"⟩
abbrev cX1_few : ByteArray := prog_17_method_41_code
def yX1_few : MethodName := ⟨RX1, "few", "()I"⟩
abbrev cX1_member : ByteArray := prog_17_method_40_code
def yX1_member : MethodName := ⟨RX1, "member", "(II)V"⟩
abbrev cX1_judge : ByteArray := prog_17_method_39_code
def yX1_judge : MethodName := ⟨RX1, "judge", "(IIII)V"⟩
abbrev cX1_badFlags : ByteArray := prog_17_method_38_code
def yX1_badFlags : MethodName := ⟨RX1, "badFlags", "(III)Z"⟩
abbrev cX1_single : ByteArray := prog_17_method_36_code
def yX1_single : MethodName := ⟨RX1, "single", "(I)Z"⟩
abbrev cX1_table : ByteArray := prog_17_method_44_code
def yX1_table : MethodName := ⟨RX1, "table", "(II)V"⟩
abbrev cX1_knows : ByteArray := prog_17_method_43_code
def yX1_knows : MethodName := ⟨RX1, "knows", "(II)Z"⟩
abbrev cX1_parts : ByteArray := prog_17_method_48_code
def yX1_parts : MethodName := ⟨RX1, "parts", "(JI)V"⟩
abbrev cX1_part : ByteArray := prog_17_method_49_code
def yX1_part : MethodName := ⟨RX1, "part", "(I)V"⟩
abbrev cX1_fixed : ByteArray := prog_17_method_45_code
def yX1_fixed : MethodName := ⟨RX1, "fixed", "(IIJI)V"⟩
abbrev cX1_constantKind : ByteArray := prog_17_method_46_code
def yX1_constantKind : MethodName := ⟨RX1, "constantKind", "(I)I"⟩
abbrev cX1_list : ByteArray := prog_17_method_47_code
def yX1_list : MethodName := ⟨RX1, "list", "(IIJI)V"⟩
abbrev cX1_place : ByteArray := prog_17_method_52_code
def yX1_place : MethodName := ⟨RX1, "place", "()I"⟩
abbrev cX1_number : ByteArray := prog_17_method_53_code
def yX1_number : MethodName := ⟨RX1, "number", "(I)I"⟩
abbrev cX1_flags : ByteArray := prog_17_method_56_code
def yX1_flags : MethodName := ⟨RX1, "flags", "(II)I"⟩
abbrev cX1_element : ByteArray := prog_17_method_55_code
def yX1_element : MethodName := ⟨RX1, "element", "(III)I"⟩
abbrev cX1_member2 : ByteArray := prog_17_method_54_code
def yX1_member2 : MethodName := ⟨RX1, "member2", "(II)I"⟩
abbrev cX1_text : ByteArray := prog_17_method_61_code
def yX1_text : MethodName := ⟨RX1, "text", "(III)I"⟩
abbrev cX1_textIndex : ByteArray := prog_17_method_59_code
def yX1_textIndex : MethodName := ⟨RX1, "textIndex", "(II)I"⟩
abbrev cX1_classText : ByteArray := prog_17_method_57_code
def yX1_classText : MethodName := ⟨RX1, "classText", "(I)I"⟩
abbrev cX1_elementText : ByteArray := prog_17_method_58_code
def yX1_elementText : MethodName := ⟨RX1, "elementText", "(IIII)I"⟩
abbrev cX1_characterOf : ByteArray := prog_17_method_60_code
def yX1_characterOf : MethodName := ⟨RX1, "characterOf", "(II)I"⟩
abbrev cX1_exceptions : ByteArray := prog_17_method_62_code
def yX1_exceptions : MethodName := ⟨RX1, "exceptions", "(I)I"⟩
abbrev cX1_exception : ByteArray := prog_17_method_63_code
def yX1_exception : MethodName := ⟨RX1, "exception", "(III)I"⟩
abbrev cX1_constant : ByteArray := prog_17_method_65_code
def yX1_constant : MethodName := ⟨RX1, "constant", "(I)J"⟩
abbrev cX1_four : ByteArray := prog_17_method_64_code
def yX1_four : MethodName := ⟨RX1, "four", "(I)J"⟩
abbrev cX1_deprecated : ByteArray := prog_17_method_66_code
def yX1_deprecated : MethodName := ⟨RX1, "deprecated", "(II)I"⟩
theorem q82 : (Jvm.Cond.initialized "ClassFileReaderModel") ∈ lw_all := lw_g (lw_at lw_m1 6 rfl) rfl
theorem q1102 : (Jvm.Cond.instantiable "ClassFileReaderModel" (10 : Nat)) ∈ lw_all := lw_g (lw_at lw_m5 66 rfl) rfl
theorem q1104 : (Jvm.Cond.instanceMethod ({ cls := "ClassFileReaderModel", name := "<init>", desc := "()V" } : Jvm.MethodName)) ∈ lw_all := lw_g (lw_at lw_m5 68 rfl) rfl
theorem q1105 : (Jvm.Cond.code ({ cls := "ClassFileReaderModel", name := "<init>", desc := "()V" } : Jvm.MethodName) prog_17_method_1_code (1 : Nat) (Option.none : Option Jvm.ClassFile.FieldType)) ∈ lw_all := lw_g (lw_at lw_m5 69 rfl) rfl
theorem q1106 : (Jvm.Cond.methodLink "ClassFileReaderModel" (1 : Nat) ({ cls := "java/lang/Object", name := "<init>", desc := "()V" } : Jvm.MethodName)) ∈ lw_all := lw_g (lw_at lw_m5 70 rfl) rfl
theorem q1107 : (Jvm.Cond.fieldLink "ClassFileReaderModel" (7 : Nat) "ClassFileReaderModel" "bytes" "[I") ∈ lw_all := lw_g (lw_at lw_m5 71 rfl) rfl
theorem q1108 : (Jvm.Cond.fieldLink "ClassFileReaderModel" (26 : Nat) "ClassFileReaderModel" "size" "I") ∈ lw_all := lw_g (lw_at lw_m5 72 rfl) rfl
theorem q1109 : (Jvm.Cond.fieldLink "ClassFileReaderModel" (13 : Nat) "ClassFileReaderModel" "notes" "[I") ∈ lw_all := lw_g (lw_at lw_m5 73 rfl) rfl
theorem q1110 : (Jvm.Cond.fieldLink "ClassFileReaderModel" (16 : Nat) "ClassFileReaderModel" "mirror" "[I") ∈ lw_all := lw_g (lw_at lw_m5 74 rfl) rfl
theorem q1111 : (Jvm.Cond.fieldLink "ClassFileReaderModel" (19 : Nat) "ClassFileReaderModel" "kept" "[I") ∈ lw_all := lw_g (lw_at lw_m5 75 rfl) rfl
theorem q1112 : (Jvm.Cond.fieldLink "ClassFileReaderModel" (249 : Nat) "ClassFileReaderModel" "any" "Z") ∈ lw_all := lw_g (lw_at lw_m5 76 rfl) rfl
theorem q1113 : (Jvm.Cond.fieldLink "ClassFileReaderModel" (31 : Nat) "ClassFileReaderModel" "mirrored" "Z") ∈ lw_all := lw_g (lw_at lw_m5 77 rfl) rfl
theorem q1114 : (Jvm.Cond.fieldLink "ClassFileReaderModel" (119 : Nat) "ClassFileReaderModel" "at" "I") ∈ lw_all := lw_g (lw_at lw_m5 78 rfl) rfl
theorem q1115 : (Jvm.Cond.fieldLink "ClassFileReaderModel" (116 : Nat) "ClassFileReaderModel" "code" "I") ∈ lw_all := lw_g (lw_at lw_m5 79 rfl) rfl
theorem q1116 : (Jvm.Cond.fieldLink "ClassFileReaderModel" (22 : Nat) "ClassFileReaderModel" "wrong" "I") ∈ lw_all := lw_g (lw_at lw_m5 80 rfl) rfl
theorem q1117 : (Jvm.Cond.laysFinal "ClassFileReaderModel" "ClassFileReaderModel" "bytes" "[I") ∈ lw_all := lw_g (lw_at lw_m5 81 rfl) rfl
theorem q1118 : (Jvm.Cond.soleField "ClassFileReaderModel" "bytes") ∈ lw_all := lw_g (lw_at lw_m5 82 rfl) rfl
theorem q1119 : (Jvm.Cond.lays "ClassFileReaderModel" "ClassFileReaderModel" "size" "I") ∈ lw_all := lw_g (lw_at lw_m5 83 rfl) rfl
theorem q1120 : (Jvm.Cond.soleField "ClassFileReaderModel" "size") ∈ lw_all := lw_g (lw_at lw_m5 84 rfl) rfl
theorem q1121 : (Jvm.Cond.laysFinal "ClassFileReaderModel" "ClassFileReaderModel" "notes" "[I") ∈ lw_all := lw_g (lw_at lw_m5 85 rfl) rfl
theorem q1122 : (Jvm.Cond.soleField "ClassFileReaderModel" "notes") ∈ lw_all := lw_g (lw_at lw_m5 86 rfl) rfl
theorem q1123 : (Jvm.Cond.laysFinal "ClassFileReaderModel" "ClassFileReaderModel" "mirror" "[I") ∈ lw_all := lw_g (lw_at lw_m5 87 rfl) rfl
theorem q1124 : (Jvm.Cond.soleField "ClassFileReaderModel" "mirror") ∈ lw_all := lw_g (lw_at lw_m5 88 rfl) rfl
theorem q1125 : (Jvm.Cond.laysFinal "ClassFileReaderModel" "ClassFileReaderModel" "kept" "[I") ∈ lw_all := lw_g (lw_at lw_m5 89 rfl) rfl
theorem q1126 : (Jvm.Cond.soleField "ClassFileReaderModel" "kept") ∈ lw_all := lw_g (lw_at lw_m5 90 rfl) rfl
theorem q1127 : (Jvm.Cond.lays "ClassFileReaderModel" "ClassFileReaderModel" "any" "Z") ∈ lw_all := lw_g (lw_at lw_m5 91 rfl) rfl
theorem q1128 : (Jvm.Cond.soleField "ClassFileReaderModel" "any") ∈ lw_all := lw_g (lw_at lw_m5 92 rfl) rfl
theorem q1129 : (Jvm.Cond.lays "ClassFileReaderModel" "ClassFileReaderModel" "mirrored" "Z") ∈ lw_all := lw_g (lw_at lw_m5 93 rfl) rfl
theorem q1130 : (Jvm.Cond.soleField "ClassFileReaderModel" "mirrored") ∈ lw_all := lw_g (lw_at lw_m5 94 rfl) rfl
theorem q1131 : (Jvm.Cond.lays "ClassFileReaderModel" "ClassFileReaderModel" "at" "I") ∈ lw_all := lw_g (lw_at lw_m5 95 rfl) rfl
theorem q1132 : (Jvm.Cond.soleField "ClassFileReaderModel" "at") ∈ lw_all := lw_g (lw_at lw_m5 96 rfl) rfl
theorem q1133 : (Jvm.Cond.lays "ClassFileReaderModel" "ClassFileReaderModel" "code" "I") ∈ lw_all := lw_g (lw_at lw_m5 97 rfl) rfl
theorem q1134 : (Jvm.Cond.soleField "ClassFileReaderModel" "code") ∈ lw_all := lw_g (lw_at lw_m5 98 rfl) rfl
theorem q1135 : (Jvm.Cond.lays "ClassFileReaderModel" "ClassFileReaderModel" "wrong" "I") ∈ lw_all := lw_g (lw_at lw_m5 99 rfl) rfl
theorem q1136 : (Jvm.Cond.soleField "ClassFileReaderModel" "wrong") ∈ lw_all := lw_g (lw_at lw_m5 100 rfl) rfl
theorem q1137 : (Jvm.Cond.superclass "ClassFileReaderModel" "java/lang/Object") ∈ lw_all := lw_g (lw_at lw_m5 101 rfl) rfl
theorem q1139 : (Jvm.Cond.instanceMethod ({ cls := "ClassFileReaderModel", name := "put", desc := "(JI)I" } : Jvm.MethodName)) ∈ lw_all := lw_g (lw_at lw_m5 103 rfl) rfl
theorem q1140 : (Jvm.Cond.selects "ClassFileReaderModel" ({ cls := "ClassFileReaderModel", name := "put", desc := "(JI)I" } : Jvm.MethodName) ({ cls := "ClassFileReaderModel", name := "put", desc := "(JI)I" } : Jvm.MethodName)) ∈ lw_all := lw_g (lw_at lw_m5 104 rfl) rfl
theorem q1141 : (Jvm.Cond.code ({ cls := "ClassFileReaderModel", name := "put", desc := "(JI)I" } : Jvm.MethodName) prog_17_method_2_code (5 : Nat) (Option.some Jvm.ClassFile.FieldType.int)) ∈ lw_all := lw_g (lw_at lw_m5 105 rfl) rfl
theorem q1142 : (Jvm.Cond.constantLong "ClassFileReaderModel" (29 : Nat) (255 : Int64)) ∈ lw_all := lw_g (lw_at lw_m5 106 rfl) rfl
theorem q1144 : (Jvm.Cond.instanceMethod ({ cls := "ClassFileReaderModel", name := "patch", desc := "(II)I" } : Jvm.MethodName)) ∈ lw_all := lw_g (lw_at lw_m5 108 rfl) rfl
theorem q1145 : (Jvm.Cond.selects "ClassFileReaderModel" ({ cls := "ClassFileReaderModel", name := "patch", desc := "(II)I" } : Jvm.MethodName) ({ cls := "ClassFileReaderModel", name := "patch", desc := "(II)I" } : Jvm.MethodName)) ∈ lw_all := lw_g (lw_at lw_m5 109 rfl) rfl
theorem q1146 : (Jvm.Cond.code ({ cls := "ClassFileReaderModel", name := "patch", desc := "(II)I" } : Jvm.MethodName) prog_17_method_3_code (4 : Nat) (Option.some Jvm.ClassFile.FieldType.int)) ∈ lw_all := lw_g (lw_at lw_m5 110 rfl) rfl
theorem q1148 : (Jvm.Cond.instanceMethod ({ cls := "ClassFileReaderModel", name := "drop", desc := "()I" } : Jvm.MethodName)) ∈ lw_all := lw_g (lw_at lw_m5 112 rfl) rfl
theorem q1149 : (Jvm.Cond.selects "ClassFileReaderModel" ({ cls := "ClassFileReaderModel", name := "drop", desc := "()I" } : Jvm.MethodName) ({ cls := "ClassFileReaderModel", name := "drop", desc := "()I" } : Jvm.MethodName)) ∈ lw_all := lw_g (lw_at lw_m5 113 rfl) rfl
theorem q1150 : (Jvm.Cond.code ({ cls := "ClassFileReaderModel", name := "drop", desc := "()I" } : Jvm.MethodName) prog_17_method_4_code (2 : Nat) (Option.some Jvm.ClassFile.FieldType.int)) ∈ lw_all := lw_g (lw_at lw_m5 114 rfl) rfl
theorem q1152 : (Jvm.Cond.instanceMethod ({ cls := "ClassFileReaderModel", name := "read", desc := "()I" } : Jvm.MethodName)) ∈ lw_all := lw_g (lw_at lw_m5 116 rfl) rfl
theorem q1153 : (Jvm.Cond.selects "ClassFileReaderModel" ({ cls := "ClassFileReaderModel", name := "read", desc := "()I" } : Jvm.MethodName) ({ cls := "ClassFileReaderModel", name := "read", desc := "()I" } : Jvm.MethodName)) ∈ lw_all := lw_g (lw_at lw_m5 117 rfl) rfl
theorem q1154 : (Jvm.Cond.code ({ cls := "ClassFileReaderModel", name := "read", desc := "()I" } : Jvm.MethodName) prog_17_method_51_code (2 : Nat) (Option.some Jvm.ClassFile.FieldType.int)) ∈ lw_all := lw_g (lw_at lw_m5 118 rfl) rfl
theorem q1155 : (Jvm.Cond.methodLink "ClassFileReaderModel" (246 : Nat) ({ cls := "ClassFileReaderModel", name := "file", desc := "()V" } : Jvm.MethodName)) ∈ lw_all := lw_g (lw_at lw_m5 119 rfl) rfl
theorem q1156 : (Jvm.Cond.privateMethod ({ cls := "ClassFileReaderModel", name := "file", desc := "()V" } : Jvm.MethodName)) ∈ lw_tbl := lw_at lw_m5 120 rfl
theorem q1157 : (Jvm.Cond.instanceMethod ({ cls := "ClassFileReaderModel", name := "file", desc := "()V" } : Jvm.MethodName)) ∈ lw_all := lw_g (lw_at lw_m5 121 rfl) rfl
theorem q1158 : (Jvm.Cond.code ({ cls := "ClassFileReaderModel", name := "file", desc := "()V" } : Jvm.MethodName) prog_17_method_50_code (2 : Nat) (Option.none : Option Jvm.ClassFile.FieldType)) ∈ lw_all := lw_g (lw_at lw_m5 122 rfl) rfl
theorem q1159 : (Jvm.Cond.methodLink "ClassFileReaderModel" (144 : Nat) ({ cls := "ClassFileReaderModel", name := "u4", desc := "()J" } : Jvm.MethodName)) ∈ lw_all := lw_g (lw_at lw_m5 123 rfl) rfl
theorem q1160 : (Jvm.Cond.privateMethod ({ cls := "ClassFileReaderModel", name := "u4", desc := "()J" } : Jvm.MethodName)) ∈ lw_tbl := lw_at lw_m5 124 rfl
theorem q1161 : (Jvm.Cond.instanceMethod ({ cls := "ClassFileReaderModel", name := "u4", desc := "()J" } : Jvm.MethodName)) ∈ lw_all := lw_g (lw_at lw_m5 125 rfl) rfl
theorem q1162 : (Jvm.Cond.code ({ cls := "ClassFileReaderModel", name := "u4", desc := "()J" } : Jvm.MethodName) prog_17_method_27_code (1 : Nat) (Option.some Jvm.ClassFile.FieldType.long)) ∈ lw_all := lw_g (lw_at lw_m5 126 rfl) rfl
theorem q1163 : (Jvm.Cond.constantLong "ClassFileReaderModel" (132 : Nat) (4 : Int64)) ∈ lw_all := lw_g (lw_at lw_m5 127 rfl) rfl
theorem q1164 : (Jvm.Cond.methodLink "ClassFileReaderModel" (126 : Nat) ({ cls := "ClassFileReaderModel", name := "room", desc := "(J)Z" } : Jvm.MethodName)) ∈ lw_all := lw_g (lw_at lw_m5 128 rfl) rfl
theorem q1165 : (Jvm.Cond.privateMethod ({ cls := "ClassFileReaderModel", name := "room", desc := "(J)Z" } : Jvm.MethodName)) ∈ lw_tbl := lw_at lw_m5 129 rfl
theorem q1166 : (Jvm.Cond.instanceMethod ({ cls := "ClassFileReaderModel", name := "room", desc := "(J)Z" } : Jvm.MethodName)) ∈ lw_all := lw_g (lw_at lw_m5 130 rfl) rfl
theorem q1167 : (Jvm.Cond.code ({ cls := "ClassFileReaderModel", name := "room", desc := "(J)Z" } : Jvm.MethodName) prog_17_method_24_code (3 : Nat) (Option.some Jvm.ClassFile.FieldType.boolean)) ∈ lw_all := lw_g (lw_at lw_m5 131 rfl) rfl
theorem q1168 : (Jvm.Cond.methodLink "ClassFileReaderModel" (122 : Nat) ({ cls := "ClassFileReaderModel", name := "fail", desc := "(II)V" } : Jvm.MethodName)) ∈ lw_all := lw_g (lw_at lw_m5 132 rfl) rfl
theorem q1169 : (Jvm.Cond.privateMethod ({ cls := "ClassFileReaderModel", name := "fail", desc := "(II)V" } : Jvm.MethodName)) ∈ lw_tbl := lw_at lw_m5 133 rfl
theorem q1170 : (Jvm.Cond.instanceMethod ({ cls := "ClassFileReaderModel", name := "fail", desc := "(II)V" } : Jvm.MethodName)) ∈ lw_all := lw_g (lw_at lw_m5 134 rfl) rfl
theorem q1171 : (Jvm.Cond.code ({ cls := "ClassFileReaderModel", name := "fail", desc := "(II)V" } : Jvm.MethodName) prog_17_method_23_code (3 : Nat) (Option.none : Option Jvm.ClassFile.FieldType)) ∈ lw_all := lw_g (lw_at lw_m5 135 rfl) rfl
theorem q1172 : (Jvm.Cond.constantLong "ClassFileReaderModel" (232 : Nat) (3405691582 : Int64)) ∈ lw_all := lw_g (lw_at lw_m5 136 rfl) rfl
theorem q1173 : (Jvm.Cond.methodLink "ClassFileReaderModel" (134 : Nat) ({ cls := "ClassFileReaderModel", name := "u2", desc := "()I" } : Jvm.MethodName)) ∈ lw_all := lw_g (lw_at lw_m5 137 rfl) rfl
theorem q1174 : (Jvm.Cond.privateMethod ({ cls := "ClassFileReaderModel", name := "u2", desc := "()I" } : Jvm.MethodName)) ∈ lw_tbl := lw_at lw_m5 138 rfl
theorem q1175 : (Jvm.Cond.instanceMethod ({ cls := "ClassFileReaderModel", name := "u2", desc := "()I" } : Jvm.MethodName)) ∈ lw_all := lw_g (lw_at lw_m5 139 rfl) rfl
theorem q1176 : (Jvm.Cond.code ({ cls := "ClassFileReaderModel", name := "u2", desc := "()I" } : Jvm.MethodName) prog_17_method_26_code (1 : Nat) (Option.some Jvm.ClassFile.FieldType.int)) ∈ lw_all := lw_g (lw_at lw_m5 140 rfl) rfl
theorem q1177 : (Jvm.Cond.constantLong "ClassFileReaderModel" (130 : Nat) (2 : Int64)) ∈ lw_all := lw_g (lw_at lw_m5 141 rfl) rfl
theorem q1178 : (Jvm.Cond.methodLink "ClassFileReaderModel" (234 : Nat) ({ cls := "ClassFileReaderModel", name := "pool", desc := "()V" } : Jvm.MethodName)) ∈ lw_all := lw_g (lw_at lw_m5 142 rfl) rfl
theorem q1179 : (Jvm.Cond.privateMethod ({ cls := "ClassFileReaderModel", name := "pool", desc := "()V" } : Jvm.MethodName)) ∈ lw_tbl := lw_at lw_m5 143 rfl
theorem q1180 : (Jvm.Cond.instanceMethod ({ cls := "ClassFileReaderModel", name := "pool", desc := "()V" } : Jvm.MethodName)) ∈ lw_all := lw_g (lw_at lw_m5 144 rfl) rfl
theorem q1181 : (Jvm.Cond.code ({ cls := "ClassFileReaderModel", name := "pool", desc := "()V" } : Jvm.MethodName) prog_17_method_31_code (3 : Nat) (Option.none : Option Jvm.ClassFile.FieldType)) ∈ lw_all := lw_g (lw_at lw_m5 145 rfl) rfl
theorem q1182 : (Jvm.Cond.methodLink "ClassFileReaderModel" (166 : Nat) ({ cls := "ClassFileReaderModel", name := "entry", desc := "(I)I" } : Jvm.MethodName)) ∈ lw_all := lw_g (lw_at lw_m5 146 rfl) rfl
theorem q1183 : (Jvm.Cond.privateMethod ({ cls := "ClassFileReaderModel", name := "entry", desc := "(I)I" } : Jvm.MethodName)) ∈ lw_tbl := lw_at lw_m5 147 rfl
theorem q1184 : (Jvm.Cond.instanceMethod ({ cls := "ClassFileReaderModel", name := "entry", desc := "(I)I" } : Jvm.MethodName)) ∈ lw_all := lw_g (lw_at lw_m5 148 rfl) rfl
theorem q1185 : (Jvm.Cond.code ({ cls := "ClassFileReaderModel", name := "entry", desc := "(I)I" } : Jvm.MethodName) prog_17_method_29_code (7 : Nat) (Option.some Jvm.ClassFile.FieldType.int)) ∈ lw_all := lw_g (lw_at lw_m5 149 rfl) rfl
theorem q1186 : (Jvm.Cond.methodLink "ClassFileReaderModel" (141 : Nat) ({ cls := "ClassFileReaderModel", name := "u1", desc := "()I" } : Jvm.MethodName)) ∈ lw_all := lw_g (lw_at lw_m5 150 rfl) rfl
theorem q1187 : (Jvm.Cond.privateMethod ({ cls := "ClassFileReaderModel", name := "u1", desc := "()I" } : Jvm.MethodName)) ∈ lw_tbl := lw_at lw_m5 151 rfl
theorem q1188 : (Jvm.Cond.instanceMethod ({ cls := "ClassFileReaderModel", name := "u1", desc := "()I" } : Jvm.MethodName)) ∈ lw_all := lw_g (lw_at lw_m5 152 rfl) rfl
theorem q1189 : (Jvm.Cond.code ({ cls := "ClassFileReaderModel", name := "u1", desc := "()I" } : Jvm.MethodName) prog_17_method_25_code (1 : Nat) (Option.some Jvm.ClassFile.FieldType.int)) ∈ lw_all := lw_g (lw_at lw_m5 153 rfl) rfl
theorem q1190 : (Jvm.Cond.methodLink "ClassFileReaderModel" (169 : Nat) ({ cls := "ClassFileReaderModel", name := "look", desc := "(I)V" } : Jvm.MethodName)) ∈ lw_all := lw_g (lw_at lw_m5 154 rfl) rfl
theorem q1191 : (Jvm.Cond.privateMethod ({ cls := "ClassFileReaderModel", name := "look", desc := "(I)V" } : Jvm.MethodName)) ∈ lw_tbl := lw_at lw_m5 155 rfl
theorem q1192 : (Jvm.Cond.instanceMethod ({ cls := "ClassFileReaderModel", name := "look", desc := "(I)V" } : Jvm.MethodName)) ∈ lw_all := lw_g (lw_at lw_m5 156 rfl) rfl
theorem q1193 : (Jvm.Cond.code ({ cls := "ClassFileReaderModel", name := "look", desc := "(I)V" } : Jvm.MethodName) prog_17_method_30_code (6 : Nat) (Option.none : Option Jvm.ClassFile.FieldType)) ∈ lw_all := lw_g (lw_at lw_m5 157 rfl) rfl
theorem q1194 : (Jvm.Cond.methodLink "ClassFileReaderModel" (138 : Nat) ({ cls := "ClassFileReaderModel", name := "tag", desc := "(I)I" } : Jvm.MethodName)) ∈ lw_all := lw_g (lw_at lw_m5 158 rfl) rfl
theorem q1195 : (Jvm.Cond.privateMethod ({ cls := "ClassFileReaderModel", name := "tag", desc := "(I)I" } : Jvm.MethodName)) ∈ lw_tbl := lw_at lw_m5 159 rfl
theorem q1196 : (Jvm.Cond.instanceMethod ({ cls := "ClassFileReaderModel", name := "tag", desc := "(I)I" } : Jvm.MethodName)) ∈ lw_all := lw_g (lw_at lw_m5 160 rfl) rfl
theorem q1197 : (Jvm.Cond.code ({ cls := "ClassFileReaderModel", name := "tag", desc := "(I)I" } : Jvm.MethodName) prog_17_method_8_code (2 : Nat) (Option.some Jvm.ClassFile.FieldType.int)) ∈ lw_all := lw_g (lw_at lw_m5 161 rfl) rfl
theorem q1198 : (Jvm.Cond.methodLink "ClassFileReaderModel" (39 : Nat) ({ cls := "ClassFileReaderModel", name := "note", desc := "(I)I" } : Jvm.MethodName)) ∈ lw_all := lw_g (lw_at lw_m5 162 rfl) rfl
theorem q1199 : (Jvm.Cond.privateMethod ({ cls := "ClassFileReaderModel", name := "note", desc := "(I)I" } : Jvm.MethodName)) ∈ lw_tbl := lw_at lw_m5 163 rfl
theorem q1200 : (Jvm.Cond.instanceMethod ({ cls := "ClassFileReaderModel", name := "note", desc := "(I)I" } : Jvm.MethodName)) ∈ lw_all := lw_g (lw_at lw_m5 164 rfl) rfl
theorem q1201 : (Jvm.Cond.code ({ cls := "ClassFileReaderModel", name := "note", desc := "(I)I" } : Jvm.MethodName) prog_17_method_7_code (2 : Nat) (Option.some Jvm.ClassFile.FieldType.int)) ∈ lw_all := lw_g (lw_at lw_m5 165 rfl) rfl
theorem q1202 : (Jvm.Cond.methodLink "ClassFileReaderModel" (35 : Nat) ({ cls := "ClassFileReaderModel", name := "byteAt", desc := "(I)I" } : Jvm.MethodName)) ∈ lw_all := lw_g (lw_at lw_m5 166 rfl) rfl
theorem q1203 : (Jvm.Cond.privateMethod ({ cls := "ClassFileReaderModel", name := "byteAt", desc := "(I)I" } : Jvm.MethodName)) ∈ lw_tbl := lw_at lw_m5 167 rfl
theorem q1204 : (Jvm.Cond.instanceMethod ({ cls := "ClassFileReaderModel", name := "byteAt", desc := "(I)I" } : Jvm.MethodName)) ∈ lw_all := lw_g (lw_at lw_m5 168 rfl) rfl
theorem q1205 : (Jvm.Cond.code ({ cls := "ClassFileReaderModel", name := "byteAt", desc := "(I)I" } : Jvm.MethodName) prog_17_method_5_code (2 : Nat) (Option.some Jvm.ClassFile.FieldType.int)) ∈ lw_all := lw_g (lw_at lw_m5 169 rfl) rfl
theorem q1206 : (Jvm.Cond.methodLink "ClassFileReaderModel" (148 : Nat) ({ cls := "ClassFileReaderModel", name := "operand", desc := "(I)I" } : Jvm.MethodName)) ∈ lw_all := lw_g (lw_at lw_m5 170 rfl) rfl
theorem q1207 : (Jvm.Cond.privateMethod ({ cls := "ClassFileReaderModel", name := "operand", desc := "(I)I" } : Jvm.MethodName)) ∈ lw_tbl := lw_at lw_m5 171 rfl
theorem q1208 : (Jvm.Cond.instanceMethod ({ cls := "ClassFileReaderModel", name := "operand", desc := "(I)I" } : Jvm.MethodName)) ∈ lw_all := lw_g (lw_at lw_m5 172 rfl) rfl
theorem q1209 : (Jvm.Cond.code ({ cls := "ClassFileReaderModel", name := "operand", desc := "(I)I" } : Jvm.MethodName) prog_17_method_12_code (2 : Nat) (Option.some Jvm.ClassFile.FieldType.int)) ∈ lw_all := lw_g (lw_at lw_m5 173 rfl) rfl
theorem q1210 : (Jvm.Cond.methodLink "ClassFileReaderModel" (42 : Nat) ({ cls := "ClassFileReaderModel", name := "two", desc := "(I)I" } : Jvm.MethodName)) ∈ lw_all := lw_g (lw_at lw_m5 174 rfl) rfl
theorem q1211 : (Jvm.Cond.privateMethod ({ cls := "ClassFileReaderModel", name := "two", desc := "(I)I" } : Jvm.MethodName)) ∈ lw_tbl := lw_at lw_m5 175 rfl
theorem q1212 : (Jvm.Cond.instanceMethod ({ cls := "ClassFileReaderModel", name := "two", desc := "(I)I" } : Jvm.MethodName)) ∈ lw_all := lw_g (lw_at lw_m5 176 rfl) rfl
theorem q1213 : (Jvm.Cond.code ({ cls := "ClassFileReaderModel", name := "two", desc := "(I)I" } : Jvm.MethodName) prog_17_method_6_code (2 : Nat) (Option.some Jvm.ClassFile.FieldType.int)) ∈ lw_all := lw_g (lw_at lw_m5 177 rfl) rfl
theorem q1214 : (Jvm.Cond.methodLink "ClassFileReaderModel" (151 : Nat) ({ cls := "ClassFileReaderModel", name := "isClassName", desc := "(I)Z" } : Jvm.MethodName)) ∈ lw_all := lw_g (lw_at lw_m5 178 rfl) rfl
theorem q1215 : (Jvm.Cond.privateMethod ({ cls := "ClassFileReaderModel", name := "isClassName", desc := "(I)Z" } : Jvm.MethodName)) ∈ lw_tbl := lw_at lw_m5 179 rfl
theorem q1216 : (Jvm.Cond.instanceMethod ({ cls := "ClassFileReaderModel", name := "isClassName", desc := "(I)Z" } : Jvm.MethodName)) ∈ lw_all := lw_g (lw_at lw_m5 180 rfl) rfl
theorem q1217 : (Jvm.Cond.code ({ cls := "ClassFileReaderModel", name := "isClassName", desc := "(I)Z" } : Jvm.MethodName) prog_17_method_21_code (2 : Nat) (Option.some Jvm.ClassFile.FieldType.boolean)) ∈ lw_all := lw_g (lw_at lw_m5 181 rfl) rfl
theorem q1218 : (Jvm.Cond.methodLink "ClassFileReaderModel" (45 : Nat) ({ cls := "ClassFileReaderModel", name := "start", desc := "(I)I" } : Jvm.MethodName)) ∈ lw_all := lw_g (lw_at lw_m5 182 rfl) rfl
theorem q1219 : (Jvm.Cond.privateMethod ({ cls := "ClassFileReaderModel", name := "start", desc := "(I)I" } : Jvm.MethodName)) ∈ lw_tbl := lw_at lw_m5 183 rfl
theorem q1220 : (Jvm.Cond.instanceMethod ({ cls := "ClassFileReaderModel", name := "start", desc := "(I)I" } : Jvm.MethodName)) ∈ lw_all := lw_g (lw_at lw_m5 184 rfl) rfl
theorem q1221 : (Jvm.Cond.code ({ cls := "ClassFileReaderModel", name := "start", desc := "(I)I" } : Jvm.MethodName) prog_17_method_9_code (2 : Nat) (Option.some Jvm.ClassFile.FieldType.int)) ∈ lw_all := lw_g (lw_at lw_m5 185 rfl) rfl
theorem q1222 : (Jvm.Cond.methodLink "ClassFileReaderModel" (48 : Nat) ({ cls := "ClassFileReaderModel", name := "count", desc := "(I)I" } : Jvm.MethodName)) ∈ lw_all := lw_g (lw_at lw_m5 186 rfl) rfl
theorem q1223 : (Jvm.Cond.privateMethod ({ cls := "ClassFileReaderModel", name := "count", desc := "(I)I" } : Jvm.MethodName)) ∈ lw_tbl := lw_at lw_m5 187 rfl
theorem q1224 : (Jvm.Cond.instanceMethod ({ cls := "ClassFileReaderModel", name := "count", desc := "(I)I" } : Jvm.MethodName)) ∈ lw_all := lw_g (lw_at lw_m5 188 rfl) rfl
theorem q1225 : (Jvm.Cond.code ({ cls := "ClassFileReaderModel", name := "count", desc := "(I)I" } : Jvm.MethodName) prog_17_method_10_code (2 : Nat) (Option.some Jvm.ClassFile.FieldType.int)) ∈ lw_all := lw_g (lw_at lw_m5 189 rfl) rfl
theorem q1226 : (Jvm.Cond.methodLink "ClassFileReaderModel" (109 : Nat) ({ cls := "ClassFileReaderModel", name := "className", desc := "(II)Z" } : Jvm.MethodName)) ∈ lw_all := lw_g (lw_at lw_m5 190 rfl) rfl
theorem q1227 : (Jvm.Cond.privateMethod ({ cls := "ClassFileReaderModel", name := "className", desc := "(II)Z" } : Jvm.MethodName)) ∈ lw_tbl := lw_at lw_m5 191 rfl
theorem q1228 : (Jvm.Cond.instanceMethod ({ cls := "ClassFileReaderModel", name := "className", desc := "(II)Z" } : Jvm.MethodName)) ∈ lw_all := lw_g (lw_at lw_m5 192 rfl) rfl
theorem q1229 : (Jvm.Cond.code ({ cls := "ClassFileReaderModel", name := "className", desc := "(II)Z" } : Jvm.MethodName) prog_17_method_17_code (6 : Nat) (Option.some Jvm.ClassFile.FieldType.boolean)) ∈ lw_all := lw_g (lw_at lw_m5 193 rfl) rfl
theorem q1230 : (Jvm.Cond.methodLink "ClassFileReaderModel" (105 : Nat) ({ cls := "ClassFileReaderModel", name := "plain", desc := "(I)Z" } : Jvm.MethodName)) ∈ lw_all := lw_g (lw_at lw_m5 194 rfl) rfl
theorem q1231 : (Jvm.Cond.static ({ cls := "ClassFileReaderModel", name := "plain", desc := "(I)Z" } : Jvm.MethodName)) ∈ lw_all := lw_g (lw_at lw_m5 195 rfl) rfl
theorem q1232 : (Jvm.Cond.code ({ cls := "ClassFileReaderModel", name := "plain", desc := "(I)Z" } : Jvm.MethodName) prog_17_method_16_code (1 : Nat) (Option.some Jvm.ClassFile.FieldType.boolean)) ∈ lw_all := lw_g (lw_at lw_m5 196 rfl) rfl
theorem q1233 : (Jvm.Cond.methodLink "ClassFileReaderModel" (53 : Nat) ({ cls := "ClassFileReaderModel", name := "character", desc := "(II)I" } : Jvm.MethodName)) ∈ lw_all := lw_g (lw_at lw_m5 197 rfl) rfl
theorem q1234 : (Jvm.Cond.privateMethod ({ cls := "ClassFileReaderModel", name := "character", desc := "(II)I" } : Jvm.MethodName)) ∈ lw_tbl := lw_at lw_m5 198 rfl
theorem q1235 : (Jvm.Cond.instanceMethod ({ cls := "ClassFileReaderModel", name := "character", desc := "(II)I" } : Jvm.MethodName)) ∈ lw_all := lw_g (lw_at lw_m5 199 rfl) rfl
theorem q1236 : (Jvm.Cond.code ({ cls := "ClassFileReaderModel", name := "character", desc := "(II)I" } : Jvm.MethodName) prog_17_method_11_code (3 : Nat) (Option.some Jvm.ClassFile.FieldType.int)) ∈ lw_all := lw_g (lw_at lw_m5 200 rfl) rfl
theorem q1237 : (Jvm.Cond.methodLink "ClassFileReaderModel" (154 : Nat) ({ cls := "ClassFileReaderModel", name := "isField", desc := "(I)Z" } : Jvm.MethodName)) ∈ lw_all := lw_g (lw_at lw_m5 201 rfl) rfl
theorem q1238 : (Jvm.Cond.privateMethod ({ cls := "ClassFileReaderModel", name := "isField", desc := "(I)Z" } : Jvm.MethodName)) ∈ lw_tbl := lw_at lw_m5 202 rfl
theorem q1239 : (Jvm.Cond.instanceMethod ({ cls := "ClassFileReaderModel", name := "isField", desc := "(I)Z" } : Jvm.MethodName)) ∈ lw_all := lw_g (lw_at lw_m5 203 rfl) rfl
theorem q1240 : (Jvm.Cond.code ({ cls := "ClassFileReaderModel", name := "isField", desc := "(I)Z" } : Jvm.MethodName) prog_17_method_19_code (2 : Nat) (Option.some Jvm.ClassFile.FieldType.boolean)) ∈ lw_all := lw_g (lw_at lw_m5 204 rfl) rfl
theorem q1241 : (Jvm.Cond.methodLink "ClassFileReaderModel" (113 : Nat) ({ cls := "ClassFileReaderModel", name := "fieldType", desc := "(II)I" } : Jvm.MethodName)) ∈ lw_all := lw_g (lw_at lw_m5 205 rfl) rfl
theorem q1242 : (Jvm.Cond.privateMethod ({ cls := "ClassFileReaderModel", name := "fieldType", desc := "(II)I" } : Jvm.MethodName)) ∈ lw_tbl := lw_at lw_m5 206 rfl
theorem q1243 : (Jvm.Cond.instanceMethod ({ cls := "ClassFileReaderModel", name := "fieldType", desc := "(II)I" } : Jvm.MethodName)) ∈ lw_all := lw_g (lw_at lw_m5 207 rfl) rfl
theorem q1244 : (Jvm.Cond.code ({ cls := "ClassFileReaderModel", name := "fieldType", desc := "(II)I" } : Jvm.MethodName) prog_17_method_18_code (6 : Nat) (Option.some Jvm.ClassFile.FieldType.int)) ∈ lw_all := lw_g (lw_at lw_m5 208 rfl) rfl
theorem q1245 : (Jvm.Cond.methodLink "ClassFileReaderModel" (157 : Nat) ({ cls := "ClassFileReaderModel", name := "isMember", desc := "(I)Z" } : Jvm.MethodName)) ∈ lw_all := lw_g (lw_at lw_m5 209 rfl) rfl
theorem q1246 : (Jvm.Cond.privateMethod ({ cls := "ClassFileReaderModel", name := "isMember", desc := "(I)Z" } : Jvm.MethodName)) ∈ lw_tbl := lw_at lw_m5 210 rfl
theorem q1247 : (Jvm.Cond.instanceMethod ({ cls := "ClassFileReaderModel", name := "isMember", desc := "(I)Z" } : Jvm.MethodName)) ∈ lw_all := lw_g (lw_at lw_m5 211 rfl) rfl
theorem q1248 : (Jvm.Cond.code ({ cls := "ClassFileReaderModel", name := "isMember", desc := "(I)Z" } : Jvm.MethodName) prog_17_method_22_code (4 : Nat) (Option.some Jvm.ClassFile.FieldType.boolean)) ∈ lw_all := lw_g (lw_at lw_m5 212 rfl) rfl
theorem q1249 : (Jvm.Cond.methodLink "ClassFileReaderModel" (160 : Nat) ({ cls := "ClassFileReaderModel", name := "known", desc := "(I)I" } : Jvm.MethodName)) ∈ lw_all := lw_g (lw_at lw_m5 213 rfl) rfl
theorem q1250 : (Jvm.Cond.privateMethod ({ cls := "ClassFileReaderModel", name := "known", desc := "(I)I" } : Jvm.MethodName)) ∈ lw_tbl := lw_at lw_m5 214 rfl
theorem q1251 : (Jvm.Cond.instanceMethod ({ cls := "ClassFileReaderModel", name := "known", desc := "(I)I" } : Jvm.MethodName)) ∈ lw_all := lw_g (lw_at lw_m5 215 rfl) rfl
theorem q1252 : (Jvm.Cond.code ({ cls := "ClassFileReaderModel", name := "known", desc := "(I)I" } : Jvm.MethodName) prog_17_method_14_code (2 : Nat) (Option.some Jvm.ClassFile.FieldType.int)) ∈ lw_all := lw_g (lw_at lw_m5 216 rfl) rfl
theorem q1253 : (Jvm.Cond.constantLong "ClassFileReaderModel" (57 : Nat) (47190209803926258 : Int64)) ∈ lw_all := lw_g (lw_at lw_m5 217 rfl) rfl
theorem q1254 : (Jvm.Cond.constantLong "ClassFileReaderModel" (59 : Nat) (101 : Int64)) ∈ lw_all := lw_g (lw_at lw_m5 218 rfl) rfl
theorem q1255 : (Jvm.Cond.methodLink "ClassFileReaderModel" (61 : Nat) ({ cls := "ClassFileReaderModel", name := "same", desc := "(IIJJJ)Z" } : Jvm.MethodName)) ∈ lw_all := lw_g (lw_at lw_m5 219 rfl) rfl
theorem q1256 : (Jvm.Cond.privateMethod ({ cls := "ClassFileReaderModel", name := "same", desc := "(IIJJJ)Z" } : Jvm.MethodName)) ∈ lw_tbl := lw_at lw_m5 220 rfl
theorem q1257 : (Jvm.Cond.instanceMethod ({ cls := "ClassFileReaderModel", name := "same", desc := "(IIJJJ)Z" } : Jvm.MethodName)) ∈ lw_all := lw_g (lw_at lw_m5 221 rfl) rfl
theorem q1258 : (Jvm.Cond.code ({ cls := "ClassFileReaderModel", name := "same", desc := "(IIJJJ)Z" } : Jvm.MethodName) prog_17_method_13_code (12 : Nat) (Option.some Jvm.ClassFile.FieldType.boolean)) ∈ lw_all := lw_g (lw_at lw_m5 222 rfl) rfl
theorem q1259 : (Jvm.Cond.constantLong "ClassFileReaderModel" (51 : Nat) (128 : Int64)) ∈ lw_all := lw_g (lw_at lw_m5 223 rfl) rfl
theorem q1260 : (Jvm.Cond.constantLong "ClassFileReaderModel" (65 : Nat) (38728678636056820 : Int64)) ∈ lw_all := lw_g (lw_at lw_m5 224 rfl) rfl
theorem q1261 : (Jvm.Cond.constantLong "ClassFileReaderModel" (67 : Nat) (13028 : Int64)) ∈ lw_all := lw_g (lw_at lw_m5 225 rfl) rfl
theorem q1262 : (Jvm.Cond.constantLong "ClassFileReaderModel" (69 : Nat) (38209640728131444 : Int64)) ∈ lw_all := lw_g (lw_at lw_m5 226 rfl) rfl
theorem q1263 : (Jvm.Cond.constantLong "ClassFileReaderModel" (71 : Nat) (23290657509 : Int64)) ∈ lw_all := lw_g (lw_at lw_m5 227 rfl) rfl
theorem q1264 : (Jvm.Cond.constantLong "ClassFileReaderModel" (73 : Nat) (39374741330277615 : Int64)) ∈ lw_all := lw_g (lw_at lw_m5 228 rfl) rfl
theorem q1265 : (Jvm.Cond.constantLong "ClassFileReaderModel" (75 : Nat) (14195 : Int64)) ∈ lw_all := lw_g (lw_at lw_m5 229 rfl) rfl
theorem q1266 : (Jvm.Cond.constantLong "ClassFileReaderModel" (77 : Nat) (41582938639365729 : Int64)) ∈ lw_all := lw_g (lw_at lw_m5 230 rfl) rfl
theorem q1267 : (Jvm.Cond.constantLong "ClassFileReaderModel" (79 : Nat) (243069683 : Int64)) ∈ lw_all := lw_g (lw_at lw_m5 231 rfl) rfl
theorem q1268 : (Jvm.Cond.constantLong "ClassFileReaderModel" (81 : Nat) (44358281736058594 : Int64)) ∈ lw_all := lw_g (lw_at lw_m5 232 rfl) rfl
theorem q1269 : (Jvm.Cond.constantLong "ClassFileReaderModel" (83 : Nat) (1669491 : Int64)) ∈ lw_all := lw_g (lw_at lw_m5 233 rfl) rfl
theorem q1270 : (Jvm.Cond.constantLong "ClassFileReaderModel" (85 : Nat) (45484145463081573 : Int64)) ∈ lw_all := lw_g (lw_at lw_m5 234 rfl) rfl
theorem q1271 : (Jvm.Cond.constantLong "ClassFileReaderModel" (87 : Nat) (56664079808016627 : Int64)) ∈ lw_all := lw_g (lw_at lw_m5 235 rfl) rfl
theorem q1272 : (Jvm.Cond.constantLong "ClassFileReaderModel" (89 : Nat) (1897203 : Int64)) ∈ lw_all := lw_g (lw_at lw_m5 236 rfl) rfl
theorem q1273 : (Jvm.Cond.constantLong "ClassFileReaderModel" (91 : Nat) (44358281725737460 : Int64)) ∈ lw_all := lw_g (lw_at lw_m5 237 rfl) rfl
theorem q1274 : (Jvm.Cond.constantLong "ClassFileReaderModel" (93 : Nat) (2844819978596 : Int64)) ∈ lw_all := lw_g (lw_at lw_m5 238 rfl) rfl
theorem q1275 : (Jvm.Cond.constantLong "ClassFileReaderModel" (95 : Nat) (43253754164409953 : Int64)) ∈ lw_all := lw_g (lw_at lw_m5 239 rfl) rfl
theorem q1276 : (Jvm.Cond.constantLong "ClassFileReaderModel" (97 : Nat) (62379131099985134 : Int64)) ∈ lw_all := lw_g (lw_at lw_m6 0 rfl) rfl
theorem q1277 : (Jvm.Cond.constantLong "ClassFileReaderModel" (99 : Nat) (13243 : Int64)) ∈ lw_all := lw_g (lw_at lw_m6 1 rfl) rfl
theorem q1278 : (Jvm.Cond.constantLong "ClassFileReaderModel" (101 : Nat) (2090002446910 : Int64)) ∈ lw_all := lw_g (lw_at lw_m6 2 rfl) rfl
theorem q1279 : (Jvm.Cond.constantLong "ClassFileReaderModel" (103 : Nat) (34216143079766590 : Int64)) ∈ lw_all := lw_g (lw_at lw_m6 3 rfl) rfl
theorem q1280 : (Jvm.Cond.methodLink "ClassFileReaderModel" (163 : Nat) ({ cls := "ClassFileReaderModel", name := "isMethod", desc := "(I)Z" } : Jvm.MethodName)) ∈ lw_all := lw_g (lw_at lw_m6 4 rfl) rfl
theorem q1281 : (Jvm.Cond.privateMethod ({ cls := "ClassFileReaderModel", name := "isMethod", desc := "(I)Z" } : Jvm.MethodName)) ∈ lw_tbl := lw_at lw_m6 5 rfl
theorem q1282 : (Jvm.Cond.instanceMethod ({ cls := "ClassFileReaderModel", name := "isMethod", desc := "(I)Z" } : Jvm.MethodName)) ∈ lw_all := lw_g (lw_at lw_m6 6 rfl) rfl
theorem q1283 : (Jvm.Cond.code ({ cls := "ClassFileReaderModel", name := "isMethod", desc := "(I)Z" } : Jvm.MethodName) prog_17_method_20_code (4 : Nat) (Option.some Jvm.ClassFile.FieldType.boolean)) ∈ lw_all := lw_g (lw_at lw_m6 7 rfl) rfl
theorem q1284 : (Jvm.Cond.methodLink "ClassFileReaderModel" (237 : Nat) ({ cls := "ClassFileReaderModel", name := "badFile", desc := "(I)Z" } : Jvm.MethodName)) ∈ lw_all := lw_g (lw_at lw_m6 8 rfl) rfl
theorem q1285 : (Jvm.Cond.static ({ cls := "ClassFileReaderModel", name := "badFile", desc := "(I)Z" } : Jvm.MethodName)) ∈ lw_all := lw_g (lw_at lw_m6 9 rfl) rfl
theorem q1286 : (Jvm.Cond.code ({ cls := "ClassFileReaderModel", name := "badFile", desc := "(I)Z" } : Jvm.MethodName) prog_17_method_37_code (1 : Nat) (Option.some Jvm.ClassFile.FieldType.boolean)) ∈ lw_all := lw_g (lw_at lw_m6 10 rfl) rfl
theorem q1287 : (Jvm.Cond.methodLink "ClassFileReaderModel" (187 : Nat) ({ cls := "ClassFileReaderModel", name := "has", desc := "(II)Z" } : Jvm.MethodName)) ∈ lw_all := lw_g (lw_at lw_m6 11 rfl) rfl
theorem q1288 : (Jvm.Cond.static ({ cls := "ClassFileReaderModel", name := "has", desc := "(II)Z" } : Jvm.MethodName)) ∈ lw_all := lw_g (lw_at lw_m6 12 rfl) rfl
theorem q1289 : (Jvm.Cond.code ({ cls := "ClassFileReaderModel", name := "has", desc := "(II)Z" } : Jvm.MethodName) prog_17_method_35_code (2 : Nat) (Option.some Jvm.ClassFile.FieldType.boolean)) ∈ lw_all := lw_g (lw_at lw_m6 13 rfl) rfl
theorem q1290 : (Jvm.Cond.methodLink "ClassFileReaderModel" (177 : Nat) ({ cls := "ClassFileReaderModel", name := "named", desc := "()I" } : Jvm.MethodName)) ∈ lw_all := lw_g (lw_at lw_m6 14 rfl) rfl
theorem q1291 : (Jvm.Cond.privateMethod ({ cls := "ClassFileReaderModel", name := "named", desc := "()I" } : Jvm.MethodName)) ∈ lw_tbl := lw_at lw_m6 15 rfl
theorem q1292 : (Jvm.Cond.instanceMethod ({ cls := "ClassFileReaderModel", name := "named", desc := "()I" } : Jvm.MethodName)) ∈ lw_all := lw_g (lw_at lw_m6 16 rfl) rfl
theorem q1293 : (Jvm.Cond.code ({ cls := "ClassFileReaderModel", name := "named", desc := "()I" } : Jvm.MethodName) prog_17_method_34_code (1 : Nat) (Option.some Jvm.ClassFile.FieldType.int)) ∈ lw_all := lw_g (lw_at lw_m6 17 rfl) rfl
theorem q1294 : (Jvm.Cond.methodLink "ClassFileReaderModel" (183 : Nat) ({ cls := "ClassFileReaderModel", name := "classRef", desc := "(Z)I" } : Jvm.MethodName)) ∈ lw_all := lw_g (lw_at lw_m6 18 rfl) rfl
theorem q1295 : (Jvm.Cond.privateMethod ({ cls := "ClassFileReaderModel", name := "classRef", desc := "(Z)I" } : Jvm.MethodName)) ∈ lw_tbl := lw_at lw_m6 19 rfl
theorem q1296 : (Jvm.Cond.instanceMethod ({ cls := "ClassFileReaderModel", name := "classRef", desc := "(Z)I" } : Jvm.MethodName)) ∈ lw_all := lw_g (lw_at lw_m6 20 rfl) rfl
theorem q1297 : (Jvm.Cond.code ({ cls := "ClassFileReaderModel", name := "classRef", desc := "(Z)I" } : Jvm.MethodName) prog_17_method_32_code (4 : Nat) (Option.some Jvm.ClassFile.FieldType.int)) ∈ lw_all := lw_g (lw_at lw_m6 21 rfl) rfl
theorem q1298 : (Jvm.Cond.methodLink "ClassFileReaderModel" (173 : Nat) ({ cls := "ClassFileReaderModel", name := "index", desc := "(IZ)I" } : Jvm.MethodName)) ∈ lw_all := lw_g (lw_at lw_m6 22 rfl) rfl
theorem q1299 : (Jvm.Cond.privateMethod ({ cls := "ClassFileReaderModel", name := "index", desc := "(IZ)I" } : Jvm.MethodName)) ∈ lw_tbl := lw_at lw_m6 23 rfl
theorem q1300 : (Jvm.Cond.instanceMethod ({ cls := "ClassFileReaderModel", name := "index", desc := "(IZ)I" } : Jvm.MethodName)) ∈ lw_all := lw_g (lw_at lw_m6 24 rfl) rfl
theorem q1301 : (Jvm.Cond.code ({ cls := "ClassFileReaderModel", name := "index", desc := "(IZ)I" } : Jvm.MethodName) prog_17_method_28_code (5 : Nat) (Option.some Jvm.ClassFile.FieldType.int)) ∈ lw_all := lw_g (lw_at lw_m6 25 rfl) rfl
theorem q1302 : (Jvm.Cond.methodLink "ClassFileReaderModel" (240 : Nat) ({ cls := "ClassFileReaderModel", name := "interfaces", desc := "()V" } : Jvm.MethodName)) ∈ lw_all := lw_g (lw_at lw_m6 26 rfl) rfl
theorem q1303 : (Jvm.Cond.privateMethod ({ cls := "ClassFileReaderModel", name := "interfaces", desc := "()V" } : Jvm.MethodName)) ∈ lw_tbl := lw_at lw_m6 27 rfl
theorem q1304 : (Jvm.Cond.instanceMethod ({ cls := "ClassFileReaderModel", name := "interfaces", desc := "()V" } : Jvm.MethodName)) ∈ lw_all := lw_g (lw_at lw_m6 28 rfl) rfl
theorem q1305 : (Jvm.Cond.code ({ cls := "ClassFileReaderModel", name := "interfaces", desc := "()V" } : Jvm.MethodName) prog_17_method_33_code (7 : Nat) (Option.none : Option Jvm.ClassFile.FieldType)) ∈ lw_all := lw_g (lw_at lw_m6 29 rfl) rfl
theorem q1306 : (Jvm.Cond.methodLink "ClassFileReaderModel" (180 : Nat) ({ cls := "ClassFileReaderModel", name := "alike", desc := "(II)Z" } : Jvm.MethodName)) ∈ lw_all := lw_g (lw_at lw_m6 30 rfl) rfl
theorem q1307 : (Jvm.Cond.privateMethod ({ cls := "ClassFileReaderModel", name := "alike", desc := "(II)Z" } : Jvm.MethodName)) ∈ lw_tbl := lw_at lw_m6 31 rfl
theorem q1308 : (Jvm.Cond.instanceMethod ({ cls := "ClassFileReaderModel", name := "alike", desc := "(II)Z" } : Jvm.MethodName)) ∈ lw_all := lw_g (lw_at lw_m6 32 rfl) rfl
theorem q1309 : (Jvm.Cond.code ({ cls := "ClassFileReaderModel", name := "alike", desc := "(II)Z" } : Jvm.MethodName) prog_17_method_15_code (4 : Nat) (Option.some Jvm.ClassFile.FieldType.boolean)) ∈ lw_all := lw_g (lw_at lw_m6 33 rfl) rfl
theorem q1310 : (Jvm.Cond.methodLink "ClassFileReaderModel" (243 : Nat) ({ cls := "ClassFileReaderModel", name := "members", desc := "(II)V" } : Jvm.MethodName)) ∈ lw_all := lw_g (lw_at lw_m6 34 rfl) rfl
theorem q1311 : (Jvm.Cond.privateMethod ({ cls := "ClassFileReaderModel", name := "members", desc := "(II)V" } : Jvm.MethodName)) ∈ lw_tbl := lw_at lw_m6 35 rfl
theorem q1312 : (Jvm.Cond.instanceMethod ({ cls := "ClassFileReaderModel", name := "members", desc := "(II)V" } : Jvm.MethodName)) ∈ lw_all := lw_g (lw_at lw_m6 36 rfl) rfl
theorem q1313 : (Jvm.Cond.code ({ cls := "ClassFileReaderModel", name := "members", desc := "(II)V" } : Jvm.MethodName) prog_17_method_42_code (5 : Nat) (Option.none : Option Jvm.ClassFile.FieldType)) ∈ lw_all := lw_g (lw_at lw_m6 37 rfl) rfl
theorem q1314 : (Jvm.Cond.methodLink "ClassFileReaderModel" (204 : Nat) ({ cls := "ClassFileReaderModel", name := "few", desc := "()I" } : Jvm.MethodName)) ∈ lw_all := lw_g (lw_at lw_m6 38 rfl) rfl
theorem q1315 : (Jvm.Cond.privateMethod ({ cls := "ClassFileReaderModel", name := "few", desc := "()I" } : Jvm.MethodName)) ∈ lw_tbl := lw_at lw_m6 39 rfl
theorem q1316 : (Jvm.Cond.instanceMethod ({ cls := "ClassFileReaderModel", name := "few", desc := "()I" } : Jvm.MethodName)) ∈ lw_all := lw_g (lw_at lw_m6 40 rfl) rfl
theorem q1317 : (Jvm.Cond.code ({ cls := "ClassFileReaderModel", name := "few", desc := "()I" } : Jvm.MethodName) prog_17_method_41_code (3 : Nat) (Option.some Jvm.ClassFile.FieldType.int)) ∈ lw_all := lw_g (lw_at lw_m6 41 rfl) rfl
theorem q1318 : (Jvm.Cond.methodLink "ClassFileReaderModel" (207 : Nat) ({ cls := "ClassFileReaderModel", name := "member", desc := "(II)V" } : Jvm.MethodName)) ∈ lw_all := lw_g (lw_at lw_m6 42 rfl) rfl
theorem q1319 : (Jvm.Cond.privateMethod ({ cls := "ClassFileReaderModel", name := "member", desc := "(II)V" } : Jvm.MethodName)) ∈ lw_tbl := lw_at lw_m6 43 rfl
theorem q1320 : (Jvm.Cond.instanceMethod ({ cls := "ClassFileReaderModel", name := "member", desc := "(II)V" } : Jvm.MethodName)) ∈ lw_all := lw_g (lw_at lw_m6 44 rfl) rfl
theorem q1321 : (Jvm.Cond.code ({ cls := "ClassFileReaderModel", name := "member", desc := "(II)V" } : Jvm.MethodName) prog_17_method_40_code (6 : Nat) (Option.none : Option Jvm.ClassFile.FieldType)) ∈ lw_all := lw_g (lw_at lw_m6 45 rfl) rfl
theorem q1322 : (Jvm.Cond.methodLink "ClassFileReaderModel" (193 : Nat) ({ cls := "ClassFileReaderModel", name := "judge", desc := "(IIII)V" } : Jvm.MethodName)) ∈ lw_all := lw_g (lw_at lw_m6 46 rfl) rfl
theorem q1323 : (Jvm.Cond.privateMethod ({ cls := "ClassFileReaderModel", name := "judge", desc := "(IIII)V" } : Jvm.MethodName)) ∈ lw_tbl := lw_at lw_m6 47 rfl
theorem q1324 : (Jvm.Cond.instanceMethod ({ cls := "ClassFileReaderModel", name := "judge", desc := "(IIII)V" } : Jvm.MethodName)) ∈ lw_all := lw_g (lw_at lw_m6 48 rfl) rfl
theorem q1325 : (Jvm.Cond.code ({ cls := "ClassFileReaderModel", name := "judge", desc := "(IIII)V" } : Jvm.MethodName) prog_17_method_39_code (5 : Nat) (Option.none : Option Jvm.ClassFile.FieldType)) ∈ lw_all := lw_g (lw_at lw_m6 49 rfl) rfl
theorem q1326 : (Jvm.Cond.methodLink "ClassFileReaderModel" (197 : Nat) ({ cls := "ClassFileReaderModel", name := "badFlags", desc := "(III)Z" } : Jvm.MethodName)) ∈ lw_all := lw_g (lw_at lw_m6 50 rfl) rfl
theorem q1327 : (Jvm.Cond.privateMethod ({ cls := "ClassFileReaderModel", name := "badFlags", desc := "(III)Z" } : Jvm.MethodName)) ∈ lw_tbl := lw_at lw_m6 51 rfl
theorem q1328 : (Jvm.Cond.instanceMethod ({ cls := "ClassFileReaderModel", name := "badFlags", desc := "(III)Z" } : Jvm.MethodName)) ∈ lw_all := lw_g (lw_at lw_m6 52 rfl) rfl
theorem q1329 : (Jvm.Cond.code ({ cls := "ClassFileReaderModel", name := "badFlags", desc := "(III)Z" } : Jvm.MethodName) prog_17_method_38_code (5 : Nat) (Option.some Jvm.ClassFile.FieldType.boolean)) ∈ lw_all := lw_g (lw_at lw_m6 53 rfl) rfl
theorem q1330 : (Jvm.Cond.methodLink "ClassFileReaderModel" (190 : Nat) ({ cls := "ClassFileReaderModel", name := "single", desc := "(I)Z" } : Jvm.MethodName)) ∈ lw_all := lw_g (lw_at lw_m6 54 rfl) rfl
theorem q1331 : (Jvm.Cond.static ({ cls := "ClassFileReaderModel", name := "single", desc := "(I)Z" } : Jvm.MethodName)) ∈ lw_all := lw_g (lw_at lw_m6 55 rfl) rfl
theorem q1332 : (Jvm.Cond.code ({ cls := "ClassFileReaderModel", name := "single", desc := "(I)Z" } : Jvm.MethodName) prog_17_method_36_code (2 : Nat) (Option.some Jvm.ClassFile.FieldType.boolean)) ∈ lw_all := lw_g (lw_at lw_m6 56 rfl) rfl
theorem q1333 : (Jvm.Cond.methodLink "ClassFileReaderModel" (201 : Nat) ({ cls := "ClassFileReaderModel", name := "table", desc := "(II)V" } : Jvm.MethodName)) ∈ lw_all := lw_g (lw_at lw_m6 57 rfl) rfl
theorem q1334 : (Jvm.Cond.privateMethod ({ cls := "ClassFileReaderModel", name := "table", desc := "(II)V" } : Jvm.MethodName)) ∈ lw_tbl := lw_at lw_m6 58 rfl
theorem q1335 : (Jvm.Cond.instanceMethod ({ cls := "ClassFileReaderModel", name := "table", desc := "(II)V" } : Jvm.MethodName)) ∈ lw_all := lw_g (lw_at lw_m6 59 rfl) rfl
theorem q1336 : (Jvm.Cond.code ({ cls := "ClassFileReaderModel", name := "table", desc := "(II)V" } : Jvm.MethodName) prog_17_method_44_code (12 : Nat) (Option.none : Option Jvm.ClassFile.FieldType)) ∈ lw_all := lw_g (lw_at lw_m6 60 rfl) rfl
theorem q1337 : (Jvm.Cond.methodLink "ClassFileReaderModel" (210 : Nat) ({ cls := "ClassFileReaderModel", name := "knows", desc := "(II)Z" } : Jvm.MethodName)) ∈ lw_all := lw_g (lw_at lw_m6 61 rfl) rfl
theorem q1338 : (Jvm.Cond.static ({ cls := "ClassFileReaderModel", name := "knows", desc := "(II)Z" } : Jvm.MethodName)) ∈ lw_all := lw_g (lw_at lw_m6 62 rfl) rfl
theorem q1339 : (Jvm.Cond.code ({ cls := "ClassFileReaderModel", name := "knows", desc := "(II)Z" } : Jvm.MethodName) prog_17_method_43_code (2 : Nat) (Option.some Jvm.ClassFile.FieldType.boolean)) ∈ lw_all := lw_g (lw_at lw_m6 63 rfl) rfl
theorem q1340 : (Jvm.Cond.methodLink "ClassFileReaderModel" (213 : Nat) ({ cls := "ClassFileReaderModel", name := "parts", desc := "(JI)V" } : Jvm.MethodName)) ∈ lw_all := lw_g (lw_at lw_m6 64 rfl) rfl
theorem q1341 : (Jvm.Cond.privateMethod ({ cls := "ClassFileReaderModel", name := "parts", desc := "(JI)V" } : Jvm.MethodName)) ∈ lw_tbl := lw_at lw_m6 65 rfl
theorem q1342 : (Jvm.Cond.instanceMethod ({ cls := "ClassFileReaderModel", name := "parts", desc := "(JI)V" } : Jvm.MethodName)) ∈ lw_all := lw_g (lw_at lw_m6 66 rfl) rfl
theorem q1343 : (Jvm.Cond.code ({ cls := "ClassFileReaderModel", name := "parts", desc := "(JI)V" } : Jvm.MethodName) prog_17_method_48_code (9 : Nat) (Option.none : Option Jvm.ClassFile.FieldType)) ∈ lw_all := lw_g (lw_at lw_m6 67 rfl) rfl
theorem q1344 : (Jvm.Cond.methodLink "ClassFileReaderModel" (229 : Nat) ({ cls := "ClassFileReaderModel", name := "part", desc := "(I)V" } : Jvm.MethodName)) ∈ lw_all := lw_g (lw_at lw_m6 68 rfl) rfl
theorem q1345 : (Jvm.Cond.privateMethod ({ cls := "ClassFileReaderModel", name := "part", desc := "(I)V" } : Jvm.MethodName)) ∈ lw_tbl := lw_at lw_m6 69 rfl
theorem q1346 : (Jvm.Cond.instanceMethod ({ cls := "ClassFileReaderModel", name := "part", desc := "(I)V" } : Jvm.MethodName)) ∈ lw_all := lw_g (lw_at lw_m6 70 rfl) rfl
theorem q1347 : (Jvm.Cond.code ({ cls := "ClassFileReaderModel", name := "part", desc := "(I)V" } : Jvm.MethodName) prog_17_method_49_code (11 : Nat) (Option.none : Option Jvm.ClassFile.FieldType)) ∈ lw_all := lw_g (lw_at lw_m6 71 rfl) rfl
theorem q1348 : (Jvm.Cond.methodLink "ClassFileReaderModel" (221 : Nat) ({ cls := "ClassFileReaderModel", name := "fixed", desc := "(IIJI)V" } : Jvm.MethodName)) ∈ lw_all := lw_g (lw_at lw_m6 72 rfl) rfl
theorem q1349 : (Jvm.Cond.privateMethod ({ cls := "ClassFileReaderModel", name := "fixed", desc := "(IIJI)V" } : Jvm.MethodName)) ∈ lw_tbl := lw_at lw_m6 73 rfl
theorem q1350 : (Jvm.Cond.instanceMethod ({ cls := "ClassFileReaderModel", name := "fixed", desc := "(IIJI)V" } : Jvm.MethodName)) ∈ lw_all := lw_g (lw_at lw_m6 74 rfl) rfl
theorem q1351 : (Jvm.Cond.code ({ cls := "ClassFileReaderModel", name := "fixed", desc := "(IIJI)V" } : Jvm.MethodName) prog_17_method_45_code (6 : Nat) (Option.none : Option Jvm.ClassFile.FieldType)) ∈ lw_all := lw_g (lw_at lw_m6 75 rfl) rfl
theorem q1352 : (Jvm.Cond.methodLink "ClassFileReaderModel" (224 : Nat) ({ cls := "ClassFileReaderModel", name := "constantKind", desc := "(I)I" } : Jvm.MethodName)) ∈ lw_all := lw_g (lw_at lw_m6 76 rfl) rfl
theorem q1353 : (Jvm.Cond.privateMethod ({ cls := "ClassFileReaderModel", name := "constantKind", desc := "(I)I" } : Jvm.MethodName)) ∈ lw_tbl := lw_at lw_m6 77 rfl
theorem q1354 : (Jvm.Cond.instanceMethod ({ cls := "ClassFileReaderModel", name := "constantKind", desc := "(I)I" } : Jvm.MethodName)) ∈ lw_all := lw_g (lw_at lw_m6 78 rfl) rfl
theorem q1355 : (Jvm.Cond.code ({ cls := "ClassFileReaderModel", name := "constantKind", desc := "(I)I" } : Jvm.MethodName) prog_17_method_46_code (3 : Nat) (Option.some Jvm.ClassFile.FieldType.int)) ∈ lw_all := lw_g (lw_at lw_m6 79 rfl) rfl
theorem q1356 : (Jvm.Cond.methodLink "ClassFileReaderModel" (217 : Nat) ({ cls := "ClassFileReaderModel", name := "list", desc := "(IIJI)V" } : Jvm.MethodName)) ∈ lw_all := lw_g (lw_at lw_m6 80 rfl) rfl
theorem q1357 : (Jvm.Cond.privateMethod ({ cls := "ClassFileReaderModel", name := "list", desc := "(IIJI)V" } : Jvm.MethodName)) ∈ lw_tbl := lw_at lw_m6 81 rfl
theorem q1358 : (Jvm.Cond.instanceMethod ({ cls := "ClassFileReaderModel", name := "list", desc := "(IIJI)V" } : Jvm.MethodName)) ∈ lw_all := lw_g (lw_at lw_m6 82 rfl) rfl
theorem q1359 : (Jvm.Cond.code ({ cls := "ClassFileReaderModel", name := "list", desc := "(IIJI)V" } : Jvm.MethodName) prog_17_method_47_code (10 : Nat) (Option.none : Option Jvm.ClassFile.FieldType)) ∈ lw_all := lw_g (lw_at lw_m6 83 rfl) rfl
theorem q1360 : (Jvm.Cond.constantLong "ClassFileReaderModel" (227 : Nat) (8 : Int64)) ∈ lw_all := lw_g (lw_at lw_m6 84 rfl) rfl
theorem q1362 : (Jvm.Cond.instanceMethod ({ cls := "ClassFileReaderModel", name := "place", desc := "()I" } : Jvm.MethodName)) ∈ lw_all := lw_g (lw_at lw_m6 86 rfl) rfl
theorem q1363 : (Jvm.Cond.selects "ClassFileReaderModel" ({ cls := "ClassFileReaderModel", name := "place", desc := "()I" } : Jvm.MethodName) ({ cls := "ClassFileReaderModel", name := "place", desc := "()I" } : Jvm.MethodName)) ∈ lw_all := lw_g (lw_at lw_m6 87 rfl) rfl
theorem q1364 : (Jvm.Cond.code ({ cls := "ClassFileReaderModel", name := "place", desc := "()I" } : Jvm.MethodName) prog_17_method_52_code (1 : Nat) (Option.some Jvm.ClassFile.FieldType.int)) ∈ lw_all := lw_g (lw_at lw_m6 88 rfl) rfl
theorem q1366 : (Jvm.Cond.instanceMethod ({ cls := "ClassFileReaderModel", name := "number", desc := "(I)I" } : Jvm.MethodName)) ∈ lw_all := lw_g (lw_at lw_m6 90 rfl) rfl
theorem q1367 : (Jvm.Cond.selects "ClassFileReaderModel" ({ cls := "ClassFileReaderModel", name := "number", desc := "(I)I" } : Jvm.MethodName) ({ cls := "ClassFileReaderModel", name := "number", desc := "(I)I" } : Jvm.MethodName)) ∈ lw_all := lw_g (lw_at lw_m6 91 rfl) rfl
theorem q1368 : (Jvm.Cond.code ({ cls := "ClassFileReaderModel", name := "number", desc := "(I)I" } : Jvm.MethodName) prog_17_method_53_code (2 : Nat) (Option.some Jvm.ClassFile.FieldType.int)) ∈ lw_all := lw_g (lw_at lw_m6 92 rfl) rfl
theorem q1370 : (Jvm.Cond.instanceMethod ({ cls := "ClassFileReaderModel", name := "flags", desc := "(II)I" } : Jvm.MethodName)) ∈ lw_all := lw_g (lw_at lw_m6 94 rfl) rfl
theorem q1371 : (Jvm.Cond.selects "ClassFileReaderModel" ({ cls := "ClassFileReaderModel", name := "flags", desc := "(II)I" } : Jvm.MethodName) ({ cls := "ClassFileReaderModel", name := "flags", desc := "(II)I" } : Jvm.MethodName)) ∈ lw_all := lw_g (lw_at lw_m6 95 rfl) rfl
theorem q1372 : (Jvm.Cond.code ({ cls := "ClassFileReaderModel", name := "flags", desc := "(II)I" } : Jvm.MethodName) prog_17_method_56_code (4 : Nat) (Option.some Jvm.ClassFile.FieldType.int)) ∈ lw_all := lw_g (lw_at lw_m6 96 rfl) rfl
theorem q1373 : (Jvm.Cond.methodLink "ClassFileReaderModel" (252 : Nat) ({ cls := "ClassFileReaderModel", name := "element", desc := "(III)I" } : Jvm.MethodName)) ∈ lw_all := lw_g (lw_at lw_m6 97 rfl) rfl
theorem q1374 : (Jvm.Cond.privateMethod ({ cls := "ClassFileReaderModel", name := "element", desc := "(III)I" } : Jvm.MethodName)) ∈ lw_tbl := lw_at lw_m6 98 rfl
theorem q1375 : (Jvm.Cond.instanceMethod ({ cls := "ClassFileReaderModel", name := "element", desc := "(III)I" } : Jvm.MethodName)) ∈ lw_all := lw_g (lw_at lw_m6 99 rfl) rfl
theorem q1376 : (Jvm.Cond.code ({ cls := "ClassFileReaderModel", name := "element", desc := "(III)I" } : Jvm.MethodName) prog_17_method_55_code (4 : Nat) (Option.some Jvm.ClassFile.FieldType.int)) ∈ lw_all := lw_g (lw_at lw_m6 100 rfl) rfl
theorem q1377 : (Jvm.Cond.methodLink "ClassFileReaderModel" (256 : Nat) ({ cls := "ClassFileReaderModel", name := "member2", desc := "(II)I" } : Jvm.MethodName)) ∈ lw_all := lw_g (lw_at lw_m6 101 rfl) rfl
theorem q1378 : (Jvm.Cond.privateMethod ({ cls := "ClassFileReaderModel", name := "member2", desc := "(II)I" } : Jvm.MethodName)) ∈ lw_tbl := lw_at lw_m6 102 rfl
theorem q1379 : (Jvm.Cond.instanceMethod ({ cls := "ClassFileReaderModel", name := "member2", desc := "(II)I" } : Jvm.MethodName)) ∈ lw_all := lw_g (lw_at lw_m6 103 rfl) rfl
theorem q1380 : (Jvm.Cond.code ({ cls := "ClassFileReaderModel", name := "member2", desc := "(II)I" } : Jvm.MethodName) prog_17_method_54_code (3 : Nat) (Option.some Jvm.ClassFile.FieldType.int)) ∈ lw_all := lw_g (lw_at lw_m6 104 rfl) rfl
theorem q1382 : (Jvm.Cond.instanceMethod ({ cls := "ClassFileReaderModel", name := "text", desc := "(III)I" } : Jvm.MethodName)) ∈ lw_all := lw_g (lw_at lw_m6 106 rfl) rfl
theorem q1383 : (Jvm.Cond.selects "ClassFileReaderModel" ({ cls := "ClassFileReaderModel", name := "text", desc := "(III)I" } : Jvm.MethodName) ({ cls := "ClassFileReaderModel", name := "text", desc := "(III)I" } : Jvm.MethodName)) ∈ lw_all := lw_g (lw_at lw_m6 107 rfl) rfl
theorem q1384 : (Jvm.Cond.code ({ cls := "ClassFileReaderModel", name := "text", desc := "(III)I" } : Jvm.MethodName) prog_17_method_61_code (4 : Nat) (Option.some Jvm.ClassFile.FieldType.int)) ∈ lw_all := lw_g (lw_at lw_m6 108 rfl) rfl
theorem q1385 : (Jvm.Cond.methodLink "ClassFileReaderModel" (266 : Nat) ({ cls := "ClassFileReaderModel", name := "textIndex", desc := "(II)I" } : Jvm.MethodName)) ∈ lw_all := lw_g (lw_at lw_m6 109 rfl) rfl
theorem q1386 : (Jvm.Cond.privateMethod ({ cls := "ClassFileReaderModel", name := "textIndex", desc := "(II)I" } : Jvm.MethodName)) ∈ lw_tbl := lw_at lw_m6 110 rfl
theorem q1387 : (Jvm.Cond.instanceMethod ({ cls := "ClassFileReaderModel", name := "textIndex", desc := "(II)I" } : Jvm.MethodName)) ∈ lw_all := lw_g (lw_at lw_m6 111 rfl) rfl
theorem q1388 : (Jvm.Cond.code ({ cls := "ClassFileReaderModel", name := "textIndex", desc := "(II)I" } : Jvm.MethodName) prog_17_method_59_code (6 : Nat) (Option.some Jvm.ClassFile.FieldType.int)) ∈ lw_all := lw_g (lw_at lw_m6 112 rfl) rfl
theorem q1389 : (Jvm.Cond.methodLink "ClassFileReaderModel" (259 : Nat) ({ cls := "ClassFileReaderModel", name := "classText", desc := "(I)I" } : Jvm.MethodName)) ∈ lw_all := lw_g (lw_at lw_m6 113 rfl) rfl
theorem q1390 : (Jvm.Cond.privateMethod ({ cls := "ClassFileReaderModel", name := "classText", desc := "(I)I" } : Jvm.MethodName)) ∈ lw_tbl := lw_at lw_m6 114 rfl
theorem q1391 : (Jvm.Cond.instanceMethod ({ cls := "ClassFileReaderModel", name := "classText", desc := "(I)I" } : Jvm.MethodName)) ∈ lw_all := lw_g (lw_at lw_m6 115 rfl) rfl
theorem q1392 : (Jvm.Cond.code ({ cls := "ClassFileReaderModel", name := "classText", desc := "(I)I" } : Jvm.MethodName) prog_17_method_57_code (2 : Nat) (Option.some Jvm.ClassFile.FieldType.int)) ∈ lw_all := lw_g (lw_at lw_m6 116 rfl) rfl
theorem q1393 : (Jvm.Cond.methodLink "ClassFileReaderModel" (262 : Nat) ({ cls := "ClassFileReaderModel", name := "elementText", desc := "(IIII)I" } : Jvm.MethodName)) ∈ lw_all := lw_g (lw_at lw_m6 117 rfl) rfl
theorem q1394 : (Jvm.Cond.privateMethod ({ cls := "ClassFileReaderModel", name := "elementText", desc := "(IIII)I" } : Jvm.MethodName)) ∈ lw_tbl := lw_at lw_m6 118 rfl
theorem q1395 : (Jvm.Cond.instanceMethod ({ cls := "ClassFileReaderModel", name := "elementText", desc := "(IIII)I" } : Jvm.MethodName)) ∈ lw_all := lw_g (lw_at lw_m6 119 rfl) rfl
theorem q1396 : (Jvm.Cond.code ({ cls := "ClassFileReaderModel", name := "elementText", desc := "(IIII)I" } : Jvm.MethodName) prog_17_method_58_code (6 : Nat) (Option.some Jvm.ClassFile.FieldType.int)) ∈ lw_all := lw_g (lw_at lw_m6 120 rfl) rfl
theorem q1397 : (Jvm.Cond.methodLink "ClassFileReaderModel" (269 : Nat) ({ cls := "ClassFileReaderModel", name := "characterOf", desc := "(II)I" } : Jvm.MethodName)) ∈ lw_all := lw_g (lw_at lw_m6 121 rfl) rfl
theorem q1398 : (Jvm.Cond.privateMethod ({ cls := "ClassFileReaderModel", name := "characterOf", desc := "(II)I" } : Jvm.MethodName)) ∈ lw_tbl := lw_at lw_m6 122 rfl
theorem q1399 : (Jvm.Cond.instanceMethod ({ cls := "ClassFileReaderModel", name := "characterOf", desc := "(II)I" } : Jvm.MethodName)) ∈ lw_all := lw_g (lw_at lw_m6 123 rfl) rfl
theorem q1400 : (Jvm.Cond.code ({ cls := "ClassFileReaderModel", name := "characterOf", desc := "(II)I" } : Jvm.MethodName) prog_17_method_60_code (3 : Nat) (Option.some Jvm.ClassFile.FieldType.int)) ∈ lw_all := lw_g (lw_at lw_m6 124 rfl) rfl
theorem q1402 : (Jvm.Cond.instanceMethod ({ cls := "ClassFileReaderModel", name := "exceptions", desc := "(I)I" } : Jvm.MethodName)) ∈ lw_all := lw_g (lw_at lw_m6 126 rfl) rfl
theorem q1403 : (Jvm.Cond.selects "ClassFileReaderModel" ({ cls := "ClassFileReaderModel", name := "exceptions", desc := "(I)I" } : Jvm.MethodName) ({ cls := "ClassFileReaderModel", name := "exceptions", desc := "(I)I" } : Jvm.MethodName)) ∈ lw_all := lw_g (lw_at lw_m6 127 rfl) rfl
theorem q1404 : (Jvm.Cond.code ({ cls := "ClassFileReaderModel", name := "exceptions", desc := "(I)I" } : Jvm.MethodName) prog_17_method_62_code (3 : Nat) (Option.some Jvm.ClassFile.FieldType.int)) ∈ lw_all := lw_g (lw_at lw_m6 128 rfl) rfl
theorem q1406 : (Jvm.Cond.instanceMethod ({ cls := "ClassFileReaderModel", name := "exception", desc := "(III)I" } : Jvm.MethodName)) ∈ lw_all := lw_g (lw_at lw_m6 130 rfl) rfl
theorem q1407 : (Jvm.Cond.selects "ClassFileReaderModel" ({ cls := "ClassFileReaderModel", name := "exception", desc := "(III)I" } : Jvm.MethodName) ({ cls := "ClassFileReaderModel", name := "exception", desc := "(III)I" } : Jvm.MethodName)) ∈ lw_all := lw_g (lw_at lw_m6 131 rfl) rfl
theorem q1408 : (Jvm.Cond.code ({ cls := "ClassFileReaderModel", name := "exception", desc := "(III)I" } : Jvm.MethodName) prog_17_method_63_code (5 : Nat) (Option.some Jvm.ClassFile.FieldType.int)) ∈ lw_all := lw_g (lw_at lw_m6 132 rfl) rfl
theorem q1410 : (Jvm.Cond.instanceMethod ({ cls := "ClassFileReaderModel", name := "constant", desc := "(I)J" } : Jvm.MethodName)) ∈ lw_all := lw_g (lw_at lw_m6 134 rfl) rfl
theorem q1411 : (Jvm.Cond.selects "ClassFileReaderModel" ({ cls := "ClassFileReaderModel", name := "constant", desc := "(I)J" } : Jvm.MethodName) ({ cls := "ClassFileReaderModel", name := "constant", desc := "(I)J" } : Jvm.MethodName)) ∈ lw_all := lw_g (lw_at lw_m6 135 rfl) rfl
theorem q1412 : (Jvm.Cond.code ({ cls := "ClassFileReaderModel", name := "constant", desc := "(I)J" } : Jvm.MethodName) prog_17_method_65_code (8 : Nat) (Option.some Jvm.ClassFile.FieldType.long)) ∈ lw_all := lw_g (lw_at lw_m6 136 rfl) rfl
theorem q1413 : (Jvm.Cond.constantLong "ClassFileReaderModel" (274 : Nat) (1000000000000000000 : Int64)) ∈ lw_all := lw_g (lw_at lw_m6 137 rfl) rfl
theorem q1414 : (Jvm.Cond.methodLink "ClassFileReaderModel" (276 : Nat) ({ cls := "ClassFileReaderModel", name := "four", desc := "(I)J" } : Jvm.MethodName)) ∈ lw_all := lw_g (lw_at lw_m6 138 rfl) rfl
theorem q1415 : (Jvm.Cond.privateMethod ({ cls := "ClassFileReaderModel", name := "four", desc := "(I)J" } : Jvm.MethodName)) ∈ lw_tbl := lw_at lw_m6 139 rfl
theorem q1416 : (Jvm.Cond.instanceMethod ({ cls := "ClassFileReaderModel", name := "four", desc := "(I)J" } : Jvm.MethodName)) ∈ lw_all := lw_g (lw_at lw_m6 140 rfl) rfl
theorem q1417 : (Jvm.Cond.code ({ cls := "ClassFileReaderModel", name := "four", desc := "(I)J" } : Jvm.MethodName) prog_17_method_64_code (2 : Nat) (Option.some Jvm.ClassFile.FieldType.long)) ∈ lw_all := lw_g (lw_at lw_m6 141 rfl) rfl
theorem q1418 : (Jvm.Cond.constantLong "ClassFileReaderModel" (272 : Nat) (65536 : Int64)) ∈ lw_all := lw_g (lw_at lw_m6 142 rfl) rfl
theorem q1419 : (Jvm.Cond.constantLong "ClassFileReaderModel" (280 : Nat) (-1000000000000000000 : Int64)) ∈ lw_all := lw_g (lw_at lw_m6 143 rfl) rfl
theorem q1421 : (Jvm.Cond.instanceMethod ({ cls := "ClassFileReaderModel", name := "deprecated", desc := "(II)I" } : Jvm.MethodName)) ∈ lw_all := lw_g (lw_at lw_m6 145 rfl) rfl
theorem q1422 : (Jvm.Cond.selects "ClassFileReaderModel" ({ cls := "ClassFileReaderModel", name := "deprecated", desc := "(II)I" } : Jvm.MethodName) ({ cls := "ClassFileReaderModel", name := "deprecated", desc := "(II)I" } : Jvm.MethodName)) ∈ lw_all := lw_g (lw_at lw_m6 146 rfl) rfl
theorem q1423 : (Jvm.Cond.code ({ cls := "ClassFileReaderModel", name := "deprecated", desc := "(II)I" } : Jvm.MethodName) prog_17_method_66_code (4 : Nat) (Option.some Jvm.ClassFile.FieldType.int)) ∈ lw_all := lw_g (lw_at lw_m6 147 rfl) rfl
theorem in_X1 : ∀ w ∈ wsX10, w ∈ lw_all := lw_in wsX10 [1117, 1119, 1121, 1123, 1125, 1127, 1129, 1131, 1133, 1135] (by decide +kernel) (by decide +kernel)
def RX10 : String := "ClassFileReader$Named"
def TX10 : u_T := fun k => match k with
  | 0 => ("ClassFileReader$Entry", "place", "I", true)
  | 1 => ("ClassFileReader$Named", "type", "Z", true)
  | 2 => ("ClassFileReader$Named", "index", "I", true)
  | _ => ("ClassFileReader$Named", "text", "Ljava/lang/String;", false)
def tyX10 : Nat → FieldType := fun k => match k with
  | 0 => .int
  | 1 => .boolean
  | 2 => .int
  | _ => .object "java/lang/String"
abbrev wsX100 : List Cond := u_ws RX10 TX10 4
theorem nmX10 : ∀ a, a < 4 → ∀ b, b < 4 → a ≠ b → (TX10 a).2.1 ≠ (TX10 b).2.1 := by decide +kernel
theorem tyX10_ok : ∀ k, k < 4 → parseFieldDescriptor (TX10 k).2.2.1 = some (tyX10 k) := by decide +kernel
abbrev cX10_init : ByteArray := prog_13_method_1_code
def yX10_init : MethodName := ⟨RX10, "<init>", "(IZI)V"⟩
abbrev cX10_check : ByteArray := prog_13_method_2_code
def yX10_check : MethodName := ⟨RX10, "check", "(LClassFileReader;)V"⟩
theorem q100 : (Jvm.Cond.initialized "ClassFileReader$Named") ∈ lw_all := lw_g (lw_at lw_m1 24 rfl) rfl
theorem q616 : (Jvm.Cond.fieldLink "ClassFileReader$Named" (19 : Nat) "ClassFileReader$Named" "place" "I") ∈ lw_all := lw_g (lw_at lw_m3 60 rfl) rfl
theorem q617 : (Jvm.Cond.sameField "ClassFileReader$Named" "ClassFileReader$Entry" "place" "I") ∈ lw_all := lw_g (lw_at lw_m3 61 rfl) rfl
theorem q642 : (Jvm.Cond.instantiable "ClassFileReader$Named" (4 : Nat)) ∈ lw_all := lw_g (lw_at lw_m3 86 rfl) rfl
theorem q644 : (Jvm.Cond.instanceMethod ({ cls := "ClassFileReader$Named", name := "<init>", desc := "(IZI)V" } : Jvm.MethodName)) ∈ lw_all := lw_g (lw_at lw_m3 88 rfl) rfl
theorem q645 : (Jvm.Cond.code ({ cls := "ClassFileReader$Named", name := "<init>", desc := "(IZI)V" } : Jvm.MethodName) prog_13_method_1_code (4 : Nat) (Option.none : Option Jvm.ClassFile.FieldType)) ∈ lw_all := lw_g (lw_at lw_m3 89 rfl) rfl
theorem q646 : (Jvm.Cond.methodLink "ClassFileReader$Named" (3 : Nat) ({ cls := "ClassFileReader$Entry", name := "<init>", desc := "(I)V" } : Jvm.MethodName)) ∈ lw_all := lw_g (lw_at lw_m3 90 rfl) rfl
theorem q647 : (Jvm.Cond.fieldLink "ClassFileReader$Named" (9 : Nat) "ClassFileReader$Named" "type" "Z") ∈ lw_all := lw_g (lw_at lw_m3 91 rfl) rfl
theorem q649 : (Jvm.Cond.fieldLink "ClassFileReader$Named" (15 : Nat) "ClassFileReader$Named" "index" "I") ∈ lw_all := lw_g (lw_at lw_m3 93 rfl) rfl
theorem q650 : (Jvm.Cond.fieldLink "ClassFileReader$Named" (26 : Nat) "ClassFileReader$Named" "text" "Ljava/lang/String;") ∈ lw_all := lw_g (lw_at lw_m3 94 rfl) rfl
theorem q652 : (Jvm.Cond.laysFinal "ClassFileReader$Named" "ClassFileReader$Named" "type" "Z") ∈ lw_all := lw_g (lw_at lw_m3 96 rfl) rfl
theorem q653 : (Jvm.Cond.soleField "ClassFileReader$Named" "type") ∈ lw_all := lw_g (lw_at lw_m3 97 rfl) rfl
theorem q654 : (Jvm.Cond.laysFinal "ClassFileReader$Named" "ClassFileReader$Named" "index" "I") ∈ lw_all := lw_g (lw_at lw_m3 98 rfl) rfl
theorem q655 : (Jvm.Cond.soleField "ClassFileReader$Named" "index") ∈ lw_all := lw_g (lw_at lw_m3 99 rfl) rfl
theorem q656 : (Jvm.Cond.lays "ClassFileReader$Named" "ClassFileReader$Named" "text" "Ljava/lang/String;") ∈ lw_all := lw_g (lw_at lw_m3 100 rfl) rfl
theorem q657 : (Jvm.Cond.soleField "ClassFileReader$Named" "text") ∈ lw_all := lw_g (lw_at lw_m3 101 rfl) rfl
theorem q658 : (Jvm.Cond.laysFinal "ClassFileReader$Named" "ClassFileReader$Entry" "place" "I") ∈ lw_all := lw_g (lw_at lw_m3 102 rfl) rfl
theorem q659 : (Jvm.Cond.superclass "ClassFileReader$Named" "ClassFileReader$Entry") ∈ lw_all := lw_g (lw_at lw_m3 103 rfl) rfl
theorem q683 : (Jvm.Cond.selects "ClassFileReader$Named" ({ cls := "ClassFileReader$Entry", name := "check", desc := "(LClassFileReader;)V" } : Jvm.MethodName) ({ cls := "ClassFileReader$Named", name := "check", desc := "(LClassFileReader;)V" } : Jvm.MethodName)) ∈ lw_all := lw_g (lw_at lw_m3 127 rfl) rfl
theorem q684 : (Jvm.Cond.instanceMethod ({ cls := "ClassFileReader$Named", name := "check", desc := "(LClassFileReader;)V" } : Jvm.MethodName)) ∈ lw_all := lw_g (lw_at lw_m3 128 rfl) rfl
theorem q685 : (Jvm.Cond.code ({ cls := "ClassFileReader$Named", name := "check", desc := "(LClassFileReader;)V" } : Jvm.MethodName) prog_13_method_2_code (2 : Nat) (Option.none : Option Jvm.ClassFile.FieldType)) ∈ lw_all := lw_g (lw_at lw_m3 129 rfl) rfl
theorem q686 : (Jvm.Cond.methodLinkNest "ClassFileReader$Named" (22 : Nat) ({ cls := "ClassFileReader", name := "textAt", desc := "(II)Ljava/lang/String;" } : Jvm.MethodName) "ClassFileReader") ∈ lw_tbl := lw_at lw_m3 130 rfl
theorem q694 : (Jvm.Cond.methodLink "ClassFileReader$Named" (30 : Nat) ({ cls := "java/lang/String", name := "length", desc := "()I" } : Jvm.MethodName)) ∈ lw_all := lw_g (lw_at lw_m3 138 rfl) rfl
theorem q702 : (Jvm.Cond.methodLinkNest "ClassFileReader$Named" (36 : Nat) ({ cls := "ClassFileReader", name := "className", desc := "(Ljava/lang/String;II)Z" } : Jvm.MethodName) "ClassFileReader") ∈ lw_tbl := lw_at lw_m3 146 rfl
theorem q723 : (Jvm.Cond.methodLinkNest "ClassFileReader$Named" (40 : Nat) ({ cls := "ClassFileReader", name := "arrayName", desc := "(Ljava/lang/String;)Z" } : Jvm.MethodName) "ClassFileReader") ∈ lw_tbl := lw_at lw_m3 167 rfl
theorem q738 : (Jvm.Cond.classLink "ClassFileReader$Named" (44 : Nat) "ClassFileReader$Malformed") ∈ lw_all := lw_g (lw_at lw_m3 182 rfl) rfl
theorem q739 : (Jvm.Cond.methodLink "ClassFileReader$Named" (46 : Nat) ({ cls := "ClassFileReader$Malformed", name := "<init>", desc := "(II)V" } : Jvm.MethodName)) ∈ lw_all := lw_g (lw_at lw_m3 183 rfl) rfl
theorem q1433 : (Jvm.Cond.castable "ClassFileReader$Named" "ClassFileReader$Entry") ∈ lw_tbl := lw_at lw_m6 157 rfl
theorem in_X10 : ∀ w ∈ wsX100, w ∈ lw_all := lw_in wsX100 [658, 652, 654, 656] (by decide +kernel) (by decide +kernel)
def RX11 : String := "ClassFileReader$Pair"
def TX11 : u_T := fun k => match k with
  | 0 => ("ClassFileReader$Entry", "place", "I", true)
  | 1 => ("ClassFileReader$Pair", "nameType", "Z", true)
  | 2 => ("ClassFileReader$Pair", "first", "I", true)
  | _ => ("ClassFileReader$Pair", "second", "I", true)
def tyX11 : Nat → FieldType := fun k => match k with
  | 0 => .int
  | 1 => .boolean
  | 2 => .int
  | _ => .int
abbrev wsX110 : List Cond := u_ws RX11 TX11 4
theorem nmX11 : ∀ a, a < 4 → ∀ b, b < 4 → a ≠ b → (TX11 a).2.1 ≠ (TX11 b).2.1 := by decide +kernel
theorem tyX11_ok : ∀ k, k < 4 → parseFieldDescriptor (TX11 k).2.2.1 = some (tyX11 k) := by decide +kernel
abbrev cX11_init : ByteArray := prog_14_method_1_code
def yX11_init : MethodName := ⟨RX11, "<init>", "(IZII)V"⟩
abbrev cX11_check : ByteArray := prog_14_method_2_code
def yX11_check : MethodName := ⟨RX11, "check", "(LClassFileReader;)V"⟩
theorem q101 : (Jvm.Cond.initialized "ClassFileReader$Pair") ∈ lw_all := lw_g (lw_at lw_m1 25 rfl) rfl
theorem q618 : (Jvm.Cond.fieldLink "ClassFileReader$Pair" (22 : Nat) "ClassFileReader$Pair" "place" "I") ∈ lw_all := lw_g (lw_at lw_m3 62 rfl) rfl
theorem q619 : (Jvm.Cond.sameField "ClassFileReader$Pair" "ClassFileReader$Entry" "place" "I") ∈ lw_all := lw_g (lw_at lw_m3 63 rfl) rfl
theorem q661 : (Jvm.Cond.instantiable "ClassFileReader$Pair" (4 : Nat)) ∈ lw_all := lw_g (lw_at lw_m3 105 rfl) rfl
theorem q663 : (Jvm.Cond.instanceMethod ({ cls := "ClassFileReader$Pair", name := "<init>", desc := "(IZII)V" } : Jvm.MethodName)) ∈ lw_all := lw_g (lw_at lw_m3 107 rfl) rfl
theorem q664 : (Jvm.Cond.code ({ cls := "ClassFileReader$Pair", name := "<init>", desc := "(IZII)V" } : Jvm.MethodName) prog_14_method_1_code (5 : Nat) (Option.none : Option Jvm.ClassFile.FieldType)) ∈ lw_all := lw_g (lw_at lw_m3 108 rfl) rfl
theorem q665 : (Jvm.Cond.methodLink "ClassFileReader$Pair" (3 : Nat) ({ cls := "ClassFileReader$Entry", name := "<init>", desc := "(I)V" } : Jvm.MethodName)) ∈ lw_all := lw_g (lw_at lw_m3 109 rfl) rfl
theorem q666 : (Jvm.Cond.fieldLink "ClassFileReader$Pair" (9 : Nat) "ClassFileReader$Pair" "nameType" "Z") ∈ lw_all := lw_g (lw_at lw_m3 110 rfl) rfl
theorem q667 : (Jvm.Cond.fieldLink "ClassFileReader$Pair" (15 : Nat) "ClassFileReader$Pair" "first" "I") ∈ lw_all := lw_g (lw_at lw_m3 111 rfl) rfl
theorem q668 : (Jvm.Cond.fieldLink "ClassFileReader$Pair" (19 : Nat) "ClassFileReader$Pair" "second" "I") ∈ lw_all := lw_g (lw_at lw_m3 112 rfl) rfl
theorem q669 : (Jvm.Cond.laysFinal "ClassFileReader$Pair" "ClassFileReader$Pair" "nameType" "Z") ∈ lw_all := lw_g (lw_at lw_m3 113 rfl) rfl
theorem q670 : (Jvm.Cond.soleField "ClassFileReader$Pair" "nameType") ∈ lw_all := lw_g (lw_at lw_m3 114 rfl) rfl
theorem q671 : (Jvm.Cond.laysFinal "ClassFileReader$Pair" "ClassFileReader$Pair" "first" "I") ∈ lw_all := lw_g (lw_at lw_m3 115 rfl) rfl
theorem q672 : (Jvm.Cond.soleField "ClassFileReader$Pair" "first") ∈ lw_all := lw_g (lw_at lw_m3 116 rfl) rfl
theorem q673 : (Jvm.Cond.laysFinal "ClassFileReader$Pair" "ClassFileReader$Pair" "second" "I") ∈ lw_all := lw_g (lw_at lw_m3 117 rfl) rfl
theorem q674 : (Jvm.Cond.soleField "ClassFileReader$Pair" "second") ∈ lw_all := lw_g (lw_at lw_m3 118 rfl) rfl
theorem q675 : (Jvm.Cond.laysFinal "ClassFileReader$Pair" "ClassFileReader$Entry" "place" "I") ∈ lw_all := lw_g (lw_at lw_m3 119 rfl) rfl
theorem q676 : (Jvm.Cond.superclass "ClassFileReader$Pair" "ClassFileReader$Entry") ∈ lw_all := lw_g (lw_at lw_m3 120 rfl) rfl
theorem q740 : (Jvm.Cond.selects "ClassFileReader$Pair" ({ cls := "ClassFileReader$Entry", name := "check", desc := "(LClassFileReader;)V" } : Jvm.MethodName) ({ cls := "ClassFileReader$Pair", name := "check", desc := "(LClassFileReader;)V" } : Jvm.MethodName)) ∈ lw_all := lw_g (lw_at lw_m3 184 rfl) rfl
theorem q741 : (Jvm.Cond.instanceMethod ({ cls := "ClassFileReader$Pair", name := "check", desc := "(LClassFileReader;)V" } : Jvm.MethodName)) ∈ lw_all := lw_g (lw_at lw_m3 185 rfl) rfl
theorem q742 : (Jvm.Cond.code ({ cls := "ClassFileReader$Pair", name := "check", desc := "(LClassFileReader;)V" } : Jvm.MethodName) prog_14_method_2_code (4 : Nat) (Option.none : Option Jvm.ClassFile.FieldType)) ∈ lw_all := lw_g (lw_at lw_m3 186 rfl) rfl
theorem q743 : (Jvm.Cond.methodLinkNest "ClassFileReader$Pair" (25 : Nat) ({ cls := "ClassFileReader", name := "classAt", desc := "(II)LClassFileReader$Named;" } : Jvm.MethodName) "ClassFileReader") ∈ lw_tbl := lw_at lw_m3 187 rfl
theorem q747 : (Jvm.Cond.methodLinkNest "ClassFileReader$Pair" (29 : Nat) ({ cls := "ClassFileReader", name := "entry", desc := "(I)LClassFileReader$Entry;" } : Jvm.MethodName) "ClassFileReader") ∈ lw_tbl := lw_at lw_m3 191 rfl
theorem q748 : (Jvm.Cond.classLink "ClassFileReader$Pair" (10 : Nat) "ClassFileReader$Pair") ∈ lw_all := lw_g (lw_at lw_m3 192 rfl) rfl
theorem q749 : (Jvm.Cond.classLink "ClassFileReader$Pair" (33 : Nat) "ClassFileReader$Malformed") ∈ lw_all := lw_g (lw_at lw_m3 193 rfl) rfl
theorem q750 : (Jvm.Cond.methodLink "ClassFileReader$Pair" (35 : Nat) ({ cls := "ClassFileReader$Malformed", name := "<init>", desc := "(II)V" } : Jvm.MethodName)) ∈ lw_all := lw_g (lw_at lw_m3 194 rfl) rfl
theorem q751 : (Jvm.Cond.methodLinkNest "ClassFileReader$Pair" (38 : Nat) ({ cls := "ClassFileReader", name := "textAt", desc := "(II)Ljava/lang/String;" } : Jvm.MethodName) "ClassFileReader") ∈ lw_tbl := lw_at lw_m3 195 rfl
theorem q752 : (Jvm.Cond.methodLinkNest "ClassFileReader$Pair" (42 : Nat) ({ cls := "ClassFileReader", name := "memberName", desc := "(Ljava/lang/String;)Z" } : Jvm.MethodName) "ClassFileReader") ∈ lw_tbl := lw_at lw_m3 196 rfl
theorem q755 : (Jvm.Cond.stringRef "ClassFileReader$Pair" (46 : Nat) "<init>") ∈ lw_tbl := lw_at lw_m3 199 rfl
theorem q756 : (Jvm.Cond.methodLink "ClassFileReader$Pair" (47 : Nat) ({ cls := "java/lang/String", name := "equals", desc := "(Ljava/lang/Object;)Z" } : Jvm.MethodName)) ∈ lw_all := lw_g (lw_at lw_m3 200 rfl) rfl
theorem q764 : (Jvm.Cond.methodLinkNest "ClassFileReader$Pair" (53 : Nat) ({ cls := "ClassFileReader", name := "fieldType", desc := "(Ljava/lang/String;)Z" } : Jvm.MethodName) "ClassFileReader") ∈ lw_tbl := lw_at lw_m3 208 rfl
theorem q765 : (Jvm.Cond.methodLinkNest "ClassFileReader$Pair" (56 : Nat) ({ cls := "ClassFileReader", name := "methodType", desc := "(Ljava/lang/String;)Z" } : Jvm.MethodName) "ClassFileReader") ∈ lw_tbl := lw_at lw_m3 209 rfl
theorem q1434 : (Jvm.Cond.castable "ClassFileReader$Pair" "ClassFileReader$Entry") ∈ lw_tbl := lw_at lw_m6 158 rfl
theorem in_X11 : ∀ w ∈ wsX110, w ∈ lw_all := lw_in wsX110 [675, 669, 671, 673] (by decide +kernel) (by decide +kernel)
def RX12 : String := "ClassFileReader$Link"
def TX12 : u_T := fun k => match k with
  | 0 => ("ClassFileReader$Link", "text", "Ljava/lang/String;", true)
  | _ => ("ClassFileReader$Link", "next", "LClassFileReader$Link;", false)
def tyX12 : Nat → FieldType := fun k => match k with
  | 0 => .object "java/lang/String"
  | _ => .object "ClassFileReader$Link"
abbrev wsX120 : List Cond := u_ws RX12 TX12 2
theorem nmX12 : ∀ a, a < 2 → ∀ b, b < 2 → a ≠ b → (TX12 a).2.1 ≠ (TX12 b).2.1 := by decide +kernel
theorem tyX12_ok : ∀ k, k < 2 → parseFieldDescriptor (TX12 k).2.2.1 = some (tyX12 k) := by decide +kernel
abbrev cX12_init : ByteArray := prog_6_method_1_code
def yX12_init : MethodName := ⟨RX12, "<init>", "(Ljava/lang/String;)V"⟩
theorem q102 : (Jvm.Cond.initialized "ClassFileReader$Link") ∈ lw_all := lw_g (lw_at lw_m1 26 rfl) rfl
theorem q792 : (Jvm.Cond.instantiable "ClassFileReader$Link" (2 : Nat)) ∈ lw_all := lw_g (lw_at lw_m3 236 rfl) rfl
theorem q794 : (Jvm.Cond.instanceMethod ({ cls := "ClassFileReader$Link", name := "<init>", desc := "(Ljava/lang/String;)V" } : Jvm.MethodName)) ∈ lw_all := lw_g (lw_at lw_m3 238 rfl) rfl
theorem q795 : (Jvm.Cond.code ({ cls := "ClassFileReader$Link", name := "<init>", desc := "(Ljava/lang/String;)V" } : Jvm.MethodName) prog_6_method_1_code (2 : Nat) (Option.none : Option Jvm.ClassFile.FieldType)) ∈ lw_all := lw_g (lw_at lw_m3 239 rfl) rfl
theorem q796 : (Jvm.Cond.methodLink "ClassFileReader$Link" (1 : Nat) ({ cls := "java/lang/Object", name := "<init>", desc := "()V" } : Jvm.MethodName)) ∈ lw_all := lw_g (lw_at lw_m4 0 rfl) rfl
theorem q797 : (Jvm.Cond.fieldLink "ClassFileReader$Link" (7 : Nat) "ClassFileReader$Link" "text" "Ljava/lang/String;") ∈ lw_all := lw_g (lw_at lw_m4 1 rfl) rfl
theorem q802 : (Jvm.Cond.laysFinal "ClassFileReader$Link" "ClassFileReader$Link" "text" "Ljava/lang/String;") ∈ lw_all := lw_g (lw_at lw_m4 6 rfl) rfl
theorem q803 : (Jvm.Cond.soleField "ClassFileReader$Link" "text") ∈ lw_all := lw_g (lw_at lw_m4 7 rfl) rfl
theorem q804 : (Jvm.Cond.lays "ClassFileReader$Link" "ClassFileReader$Link" "next" "LClassFileReader$Link;") ∈ lw_all := lw_g (lw_at lw_m4 8 rfl) rfl
theorem q805 : (Jvm.Cond.soleField "ClassFileReader$Link" "next") ∈ lw_all := lw_g (lw_at lw_m4 9 rfl) rfl
theorem q806 : (Jvm.Cond.superclass "ClassFileReader$Link" "java/lang/Object") ∈ lw_all := lw_g (lw_at lw_m4 10 rfl) rfl
theorem in_X12 : ∀ w ∈ wsX120, w ∈ lw_all := lw_in wsX120 [802, 804] (by decide +kernel) (by decide +kernel)
def RX13 : String := "ClassFileReader$Member"
def TX13 : u_T := fun k => match k with
  | 0 => ("ClassFileReader$Holder", "signature", "Ljava/lang/String;", false)
  | 1 => ("ClassFileReader$Holder", "deprecated", "Z", false)
  | 2 => ("ClassFileReader$Holder", "seen", "I", false)
  | 3 => ("ClassFileReader$Member", "flags", "I", true)
  | 4 => ("ClassFileReader$Member", "name", "Ljava/lang/String;", true)
  | 5 => ("ClassFileReader$Member", "type", "Ljava/lang/String;", true)
  | _ => ("ClassFileReader$Member", "next", "LClassFileReader$Member;", false)
def tyX13 : Nat → FieldType := fun k => match k with
  | 0 => .object "java/lang/String"
  | 1 => .boolean
  | 2 => .int
  | 3 => .int
  | 4 => .object "java/lang/String"
  | 5 => .object "java/lang/String"
  | _ => .object "ClassFileReader$Member"
abbrev wsX130 : List Cond := u_ws RX13 TX13 7
theorem nmX13 : ∀ a, a < 7 → ∀ b, b < 7 → a ≠ b → (TX13 a).2.1 ≠ (TX13 b).2.1 := by decide +kernel
theorem tyX13_ok : ∀ k, k < 7 → parseFieldDescriptor (TX13 k).2.2.1 = some (tyX13 k) := by decide +kernel
abbrev cX13_init : ByteArray := prog_9_method_1_code
def yX13_init : MethodName := ⟨RX13, "<init>", "(ILjava/lang/String;Ljava/lang/String;)V"⟩
theorem q104 : (Jvm.Cond.initialized "ClassFileReader$Member") ∈ lw_all := lw_g (lw_at lw_m1 28 rfl) rfl
theorem q269 : (Jvm.Cond.sameField "ClassFileReader$Member" "ClassFileReader$Holder" "signature" "Ljava/lang/String;") ∈ lw_all := lw_g (lw_at lw_m1 193 rfl) rfl
theorem q276 : (Jvm.Cond.sameField "ClassFileReader$Member" "ClassFileReader$Holder" "deprecated" "Z") ∈ lw_all := lw_g (lw_at lw_m1 200 rfl) rfl
theorem q843 : (Jvm.Cond.instanceMethod ({ cls := "ClassFileReader$Member", name := "<init>", desc := "(ILjava/lang/String;Ljava/lang/String;)V" } : Jvm.MethodName)) ∈ lw_all := lw_g (lw_at lw_m4 47 rfl) rfl
theorem q844 : (Jvm.Cond.code ({ cls := "ClassFileReader$Member", name := "<init>", desc := "(ILjava/lang/String;Ljava/lang/String;)V" } : Jvm.MethodName) prog_9_method_1_code (4 : Nat) (Option.none : Option Jvm.ClassFile.FieldType)) ∈ lw_all := lw_g (lw_at lw_m4 48 rfl) rfl
theorem q845 : (Jvm.Cond.methodLinkNest "ClassFileReader$Member" (1 : Nat) ({ cls := "ClassFileReader$Holder", name := "<init>", desc := "()V" } : Jvm.MethodName) "ClassFileReader") ∈ lw_tbl := lw_at lw_m4 49 rfl
theorem q850 : (Jvm.Cond.fieldLink "ClassFileReader$Member" (7 : Nat) "ClassFileReader$Member" "flags" "I") ∈ lw_all := lw_g (lw_at lw_m4 54 rfl) rfl
theorem q852 : (Jvm.Cond.fieldLink "ClassFileReader$Member" (13 : Nat) "ClassFileReader$Member" "name" "Ljava/lang/String;") ∈ lw_all := lw_g (lw_at lw_m4 56 rfl) rfl
theorem q855 : (Jvm.Cond.fieldLink "ClassFileReader$Member" (17 : Nat) "ClassFileReader$Member" "type" "Ljava/lang/String;") ∈ lw_all := lw_g (lw_at lw_m4 59 rfl) rfl
theorem q864 : (Jvm.Cond.soleField "ClassFileReader$Member" "flags") ∈ lw_all := lw_g (lw_at lw_m4 68 rfl) rfl
theorem q866 : (Jvm.Cond.soleField "ClassFileReader$Member" "name") ∈ lw_all := lw_g (lw_at lw_m4 70 rfl) rfl
theorem q868 : (Jvm.Cond.soleField "ClassFileReader$Member" "type") ∈ lw_all := lw_g (lw_at lw_m4 72 rfl) rfl
theorem q870 : (Jvm.Cond.soleField "ClassFileReader$Member" "next") ∈ lw_all := lw_g (lw_at lw_m4 74 rfl) rfl
theorem q915 : (Jvm.Cond.sameMethod "ClassFileReader$Member" "ClassFileReader$Holder" "known" "(Ljava/lang/String;)I") ∈ lw_all := lw_g (lw_at lw_m4 119 rfl) rfl
theorem q917 : (Jvm.Cond.superclass "ClassFileReader$Member" "ClassFileReader$Holder") ∈ lw_all := lw_g (lw_at lw_m4 121 rfl) rfl
theorem q918 : (Jvm.Cond.selects "ClassFileReader$Member" ({ cls := "ClassFileReader$Holder", name := "known", desc := "(Ljava/lang/String;)I" } : Jvm.MethodName) ({ cls := "ClassFileReader$Holder", name := "known", desc := "(Ljava/lang/String;)I" } : Jvm.MethodName)) ∈ lw_all := lw_g (lw_at lw_m4 122 rfl) rfl
theorem q993 : (Jvm.Cond.selects "ClassFileReader$Member" ({ cls := "ClassFileReader$Holder", name := "again", desc := "(I)Z" } : Jvm.MethodName) ({ cls := "ClassFileReader$Holder", name := "again", desc := "(I)Z" } : Jvm.MethodName)) ∈ lw_all := lw_g (lw_at lw_m4 197 rfl) rfl
theorem q1038 : (Jvm.Cond.instantiable "ClassFileReader$Member" (7 : Nat)) ∈ lw_all := lw_g (lw_at lw_m5 2 rfl) rfl
theorem q1040 : (Jvm.Cond.laysFinal "ClassFileReader$Member" "ClassFileReader$Member" "flags" "I") ∈ lw_all := lw_g (lw_at lw_m5 4 rfl) rfl
theorem q1041 : (Jvm.Cond.laysFinal "ClassFileReader$Member" "ClassFileReader$Member" "name" "Ljava/lang/String;") ∈ lw_all := lw_g (lw_at lw_m5 5 rfl) rfl
theorem q1042 : (Jvm.Cond.laysFinal "ClassFileReader$Member" "ClassFileReader$Member" "type" "Ljava/lang/String;") ∈ lw_all := lw_g (lw_at lw_m5 6 rfl) rfl
theorem q1043 : (Jvm.Cond.lays "ClassFileReader$Member" "ClassFileReader$Member" "next" "LClassFileReader$Member;") ∈ lw_all := lw_g (lw_at lw_m5 7 rfl) rfl
theorem q1044 : (Jvm.Cond.lays "ClassFileReader$Member" "ClassFileReader$Holder" "signature" "Ljava/lang/String;") ∈ lw_all := lw_g (lw_at lw_m5 8 rfl) rfl
theorem q1045 : (Jvm.Cond.lays "ClassFileReader$Member" "ClassFileReader$Holder" "deprecated" "Z") ∈ lw_all := lw_g (lw_at lw_m5 9 rfl) rfl
theorem q1046 : (Jvm.Cond.lays "ClassFileReader$Member" "ClassFileReader$Holder" "seen" "I") ∈ lw_all := lw_g (lw_at lw_m5 10 rfl) rfl
theorem in_X13 : ∀ w ∈ wsX130, w ∈ lw_all := lw_in wsX130 [1044, 1045, 1046, 1040, 1041, 1042, 1043] (by decide +kernel) (by decide +kernel)
def RX14 : String := "ClassFileReader$Method"
def TX14 : u_T := fun k => match k with
  | 0 => ("ClassFileReader$Holder", "signature", "Ljava/lang/String;", false)
  | 1 => ("ClassFileReader$Holder", "deprecated", "Z", false)
  | 2 => ("ClassFileReader$Holder", "seen", "I", false)
  | 3 => ("ClassFileReader$Member", "flags", "I", true)
  | 4 => ("ClassFileReader$Member", "name", "Ljava/lang/String;", true)
  | 5 => ("ClassFileReader$Member", "type", "Ljava/lang/String;", true)
  | 6 => ("ClassFileReader$Member", "next", "LClassFileReader$Member;", false)
  | _ => ("ClassFileReader$Method", "exceptions", "LClassFileReader$Links;", true)
def tyX14 : Nat → FieldType := fun k => match k with
  | 0 => .object "java/lang/String"
  | 1 => .boolean
  | 2 => .int
  | 3 => .int
  | 4 => .object "java/lang/String"
  | 5 => .object "java/lang/String"
  | 6 => .object "ClassFileReader$Member"
  | _ => .object "ClassFileReader$Links"
abbrev wsX140 : List Cond := u_ws RX14 TX14 8
theorem nmX14 : ∀ a, a < 8 → ∀ b, b < 8 → a ≠ b → (TX14 a).2.1 ≠ (TX14 b).2.1 := by decide +kernel
theorem tyX14_ok : ∀ k, k < 8 → parseFieldDescriptor (TX14 k).2.2.1 = some (tyX14 k) := by decide +kernel
abbrev cX14_init : ByteArray := prog_11_method_1_code
def yX14_init : MethodName := ⟨RX14, "<init>", "(ILjava/lang/String;Ljava/lang/String;)V"⟩
abbrev cX14_known : ByteArray := prog_11_method_2_code
def yX14_known : MethodName := ⟨RX14, "known", "(Ljava/lang/String;)I"⟩
theorem q105 : (Jvm.Cond.initialized "ClassFileReader$Method") ∈ lw_all := lw_g (lw_at lw_m1 29 rfl) rfl
theorem q838 : (Jvm.Cond.instantiable "ClassFileReader$Method" (8 : Nat)) ∈ lw_all := lw_g (lw_at lw_m4 42 rfl) rfl
theorem q840 : (Jvm.Cond.instanceMethod ({ cls := "ClassFileReader$Method", name := "<init>", desc := "(ILjava/lang/String;Ljava/lang/String;)V" } : Jvm.MethodName)) ∈ lw_all := lw_g (lw_at lw_m4 44 rfl) rfl
theorem q841 : (Jvm.Cond.code ({ cls := "ClassFileReader$Method", name := "<init>", desc := "(ILjava/lang/String;Ljava/lang/String;)V" } : Jvm.MethodName) prog_11_method_1_code (4 : Nat) (Option.none : Option Jvm.ClassFile.FieldType)) ∈ lw_all := lw_g (lw_at lw_m4 45 rfl) rfl
theorem q842 : (Jvm.Cond.methodLink "ClassFileReader$Method" (1 : Nat) ({ cls := "ClassFileReader$Member", name := "<init>", desc := "(ILjava/lang/String;Ljava/lang/String;)V" } : Jvm.MethodName)) ∈ lw_all := lw_g (lw_at lw_m4 46 rfl) rfl
theorem q846 : (Jvm.Cond.classLink "ClassFileReader$Method" (7 : Nat) "ClassFileReader$Links") ∈ lw_all := lw_g (lw_at lw_m4 50 rfl) rfl
theorem q847 : (Jvm.Cond.methodLinkNest "ClassFileReader$Method" (9 : Nat) ({ cls := "ClassFileReader$Links", name := "<init>", desc := "()V" } : Jvm.MethodName) "ClassFileReader") ∈ lw_tbl := lw_at lw_m4 51 rfl
theorem q848 : (Jvm.Cond.fieldLink "ClassFileReader$Method" (12 : Nat) "ClassFileReader$Method" "exceptions" "LClassFileReader$Links;") ∈ lw_all := lw_g (lw_at lw_m4 52 rfl) rfl
theorem q861 : (Jvm.Cond.laysFinal "ClassFileReader$Method" "ClassFileReader$Method" "exceptions" "LClassFileReader$Links;") ∈ lw_all := lw_g (lw_at lw_m4 65 rfl) rfl
theorem q862 : (Jvm.Cond.soleField "ClassFileReader$Method" "exceptions") ∈ lw_all := lw_g (lw_at lw_m4 66 rfl) rfl
theorem q863 : (Jvm.Cond.laysFinal "ClassFileReader$Method" "ClassFileReader$Member" "flags" "I") ∈ lw_all := lw_g (lw_at lw_m4 67 rfl) rfl
theorem q865 : (Jvm.Cond.laysFinal "ClassFileReader$Method" "ClassFileReader$Member" "name" "Ljava/lang/String;") ∈ lw_all := lw_g (lw_at lw_m4 69 rfl) rfl
theorem q867 : (Jvm.Cond.laysFinal "ClassFileReader$Method" "ClassFileReader$Member" "type" "Ljava/lang/String;") ∈ lw_all := lw_g (lw_at lw_m4 71 rfl) rfl
theorem q869 : (Jvm.Cond.lays "ClassFileReader$Method" "ClassFileReader$Member" "next" "LClassFileReader$Member;") ∈ lw_all := lw_g (lw_at lw_m4 73 rfl) rfl
theorem q871 : (Jvm.Cond.lays "ClassFileReader$Method" "ClassFileReader$Holder" "signature" "Ljava/lang/String;") ∈ lw_all := lw_g (lw_at lw_m4 75 rfl) rfl
theorem q872 : (Jvm.Cond.lays "ClassFileReader$Method" "ClassFileReader$Holder" "deprecated" "Z") ∈ lw_all := lw_g (lw_at lw_m4 76 rfl) rfl
theorem q873 : (Jvm.Cond.lays "ClassFileReader$Method" "ClassFileReader$Holder" "seen" "I") ∈ lw_all := lw_g (lw_at lw_m4 77 rfl) rfl
theorem q874 : (Jvm.Cond.superclass "ClassFileReader$Method" "ClassFileReader$Member") ∈ lw_all := lw_g (lw_at lw_m4 78 rfl) rfl
theorem q919 : (Jvm.Cond.selects "ClassFileReader$Method" ({ cls := "ClassFileReader$Holder", name := "known", desc := "(Ljava/lang/String;)I" } : Jvm.MethodName) ({ cls := "ClassFileReader$Method", name := "known", desc := "(Ljava/lang/String;)I" } : Jvm.MethodName)) ∈ lw_all := lw_g (lw_at lw_m4 123 rfl) rfl
theorem q920 : (Jvm.Cond.instanceMethod ({ cls := "ClassFileReader$Method", name := "known", desc := "(Ljava/lang/String;)I" } : Jvm.MethodName)) ∈ lw_all := lw_g (lw_at lw_m4 124 rfl) rfl
theorem q921 : (Jvm.Cond.code ({ cls := "ClassFileReader$Method", name := "known", desc := "(Ljava/lang/String;)I" } : Jvm.MethodName) prog_11_method_2_code (2 : Nat) (Option.some Jvm.ClassFile.FieldType.int)) ∈ lw_all := lw_g (lw_at lw_m4 125 rfl) rfl
theorem q922 : (Jvm.Cond.stringRef "ClassFileReader$Method" (18 : Nat) "Exceptions") ∈ lw_tbl := lw_at lw_m4 126 rfl
theorem q923 : (Jvm.Cond.methodLink "ClassFileReader$Method" (20 : Nat) ({ cls := "java/lang/String", name := "equals", desc := "(Ljava/lang/Object;)Z" } : Jvm.MethodName)) ∈ lw_all := lw_g (lw_at lw_m4 127 rfl) rfl
theorem q924 : (Jvm.Cond.methodLink "ClassFileReader$Method" (26 : Nat) ({ cls := "ClassFileReader$Member", name := "known", desc := "(Ljava/lang/String;)I" } : Jvm.MethodName)) ∈ lw_all := lw_g (lw_at lw_m4 128 rfl) rfl
theorem q994 : (Jvm.Cond.selects "ClassFileReader$Method" ({ cls := "ClassFileReader$Holder", name := "again", desc := "(I)Z" } : Jvm.MethodName) ({ cls := "ClassFileReader$Holder", name := "again", desc := "(I)Z" } : Jvm.MethodName)) ∈ lw_all := lw_g (lw_at lw_m4 198 rfl) rfl
theorem in_X14 : ∀ w ∈ wsX140, w ∈ lw_all := lw_in wsX140 [871, 872, 873, 863, 865, 867, 869, 861] (by decide +kernel) (by decide +kernel)
def RX15 : String := "ClassFileReader$Field"
def TX15 : u_T := fun k => match k with
  | 0 => ("ClassFileReader$Holder", "signature", "Ljava/lang/String;", false)
  | 1 => ("ClassFileReader$Holder", "deprecated", "Z", false)
  | 2 => ("ClassFileReader$Holder", "seen", "I", false)
  | 3 => ("ClassFileReader$Member", "flags", "I", true)
  | 4 => ("ClassFileReader$Member", "name", "Ljava/lang/String;", true)
  | 5 => ("ClassFileReader$Member", "type", "Ljava/lang/String;", true)
  | 6 => ("ClassFileReader$Member", "next", "LClassFileReader$Member;", false)
  | _ => ("ClassFileReader$Field", "constant", "J", false)
def tyX15 : Nat → FieldType := fun k => match k with
  | 0 => .object "java/lang/String"
  | 1 => .boolean
  | 2 => .int
  | 3 => .int
  | 4 => .object "java/lang/String"
  | 5 => .object "java/lang/String"
  | 6 => .object "ClassFileReader$Member"
  | _ => .long
abbrev wsX150 : List Cond := u_ws RX15 TX15 8
theorem nmX15 : ∀ a, a < 8 → ∀ b, b < 8 → a ≠ b → (TX15 a).2.1 ≠ (TX15 b).2.1 := by decide +kernel
theorem tyX15_ok : ∀ k, k < 8 → parseFieldDescriptor (TX15 k).2.2.1 = some (tyX15 k) := by decide +kernel
abbrev cX15_init : ByteArray := prog_4_method_1_code
def yX15_init : MethodName := ⟨RX15, "<init>", "(ILjava/lang/String;Ljava/lang/String;)V"⟩
abbrev cX15_known : ByteArray := prog_4_method_2_code
def yX15_known : MethodName := ⟨RX15, "known", "(Ljava/lang/String;)I"⟩
theorem q106 : (Jvm.Cond.initialized "ClassFileReader$Field") ∈ lw_all := lw_g (lw_at lw_m1 30 rfl) rfl
theorem q858 : (Jvm.Cond.sameField "ClassFileReader$Field" "ClassFileReader$Member" "type" "Ljava/lang/String;") ∈ lw_all := lw_g (lw_at lw_m4 62 rfl) rfl
theorem q876 : (Jvm.Cond.instantiable "ClassFileReader$Field" (8 : Nat)) ∈ lw_all := lw_g (lw_at lw_m4 80 rfl) rfl
theorem q878 : (Jvm.Cond.instanceMethod ({ cls := "ClassFileReader$Field", name := "<init>", desc := "(ILjava/lang/String;Ljava/lang/String;)V" } : Jvm.MethodName)) ∈ lw_all := lw_g (lw_at lw_m4 82 rfl) rfl
theorem q879 : (Jvm.Cond.code ({ cls := "ClassFileReader$Field", name := "<init>", desc := "(ILjava/lang/String;Ljava/lang/String;)V" } : Jvm.MethodName) prog_4_method_1_code (4 : Nat) (Option.none : Option Jvm.ClassFile.FieldType)) ∈ lw_all := lw_g (lw_at lw_m4 83 rfl) rfl
theorem q880 : (Jvm.Cond.methodLink "ClassFileReader$Field" (3 : Nat) ({ cls := "ClassFileReader$Member", name := "<init>", desc := "(ILjava/lang/String;Ljava/lang/String;)V" } : Jvm.MethodName)) ∈ lw_all := lw_g (lw_at lw_m4 84 rfl) rfl
theorem q881 : (Jvm.Cond.constantLong "ClassFileReader$Field" (9 : Nat) (1000000000000000000 : Int64)) ∈ lw_all := lw_g (lw_at lw_m4 85 rfl) rfl
theorem q882 : (Jvm.Cond.fieldLink "ClassFileReader$Field" (11 : Nat) "ClassFileReader$Field" "constant" "J") ∈ lw_all := lw_g (lw_at lw_m4 86 rfl) rfl
theorem q884 : (Jvm.Cond.lays "ClassFileReader$Field" "ClassFileReader$Field" "constant" "J") ∈ lw_all := lw_g (lw_at lw_m4 88 rfl) rfl
theorem q885 : (Jvm.Cond.soleField "ClassFileReader$Field" "constant") ∈ lw_all := lw_g (lw_at lw_m4 89 rfl) rfl
theorem q886 : (Jvm.Cond.laysFinal "ClassFileReader$Field" "ClassFileReader$Member" "flags" "I") ∈ lw_all := lw_g (lw_at lw_m4 90 rfl) rfl
theorem q887 : (Jvm.Cond.laysFinal "ClassFileReader$Field" "ClassFileReader$Member" "name" "Ljava/lang/String;") ∈ lw_all := lw_g (lw_at lw_m4 91 rfl) rfl
theorem q888 : (Jvm.Cond.laysFinal "ClassFileReader$Field" "ClassFileReader$Member" "type" "Ljava/lang/String;") ∈ lw_all := lw_g (lw_at lw_m4 92 rfl) rfl
theorem q889 : (Jvm.Cond.lays "ClassFileReader$Field" "ClassFileReader$Member" "next" "LClassFileReader$Member;") ∈ lw_all := lw_g (lw_at lw_m4 93 rfl) rfl
theorem q890 : (Jvm.Cond.lays "ClassFileReader$Field" "ClassFileReader$Holder" "signature" "Ljava/lang/String;") ∈ lw_all := lw_g (lw_at lw_m4 94 rfl) rfl
theorem q891 : (Jvm.Cond.lays "ClassFileReader$Field" "ClassFileReader$Holder" "deprecated" "Z") ∈ lw_all := lw_g (lw_at lw_m4 95 rfl) rfl
theorem q892 : (Jvm.Cond.lays "ClassFileReader$Field" "ClassFileReader$Holder" "seen" "I") ∈ lw_all := lw_g (lw_at lw_m4 96 rfl) rfl
theorem q893 : (Jvm.Cond.superclass "ClassFileReader$Field" "ClassFileReader$Member") ∈ lw_all := lw_g (lw_at lw_m4 97 rfl) rfl
theorem q909 : (Jvm.Cond.selects "ClassFileReader$Field" ({ cls := "ClassFileReader$Holder", name := "known", desc := "(Ljava/lang/String;)I" } : Jvm.MethodName) ({ cls := "ClassFileReader$Field", name := "known", desc := "(Ljava/lang/String;)I" } : Jvm.MethodName)) ∈ lw_all := lw_g (lw_at lw_m4 113 rfl) rfl
theorem q910 : (Jvm.Cond.instanceMethod ({ cls := "ClassFileReader$Field", name := "known", desc := "(Ljava/lang/String;)I" } : Jvm.MethodName)) ∈ lw_all := lw_g (lw_at lw_m4 114 rfl) rfl
theorem q911 : (Jvm.Cond.code ({ cls := "ClassFileReader$Field", name := "known", desc := "(Ljava/lang/String;)I" } : Jvm.MethodName) prog_4_method_2_code (2 : Nat) (Option.some Jvm.ClassFile.FieldType.int)) ∈ lw_all := lw_g (lw_at lw_m4 115 rfl) rfl
theorem q912 : (Jvm.Cond.stringRef "ClassFileReader$Field" (17 : Nat) "ConstantValue") ∈ lw_tbl := lw_at lw_m4 116 rfl
theorem q913 : (Jvm.Cond.methodLink "ClassFileReader$Field" (19 : Nat) ({ cls := "java/lang/String", name := "equals", desc := "(Ljava/lang/Object;)Z" } : Jvm.MethodName)) ∈ lw_all := lw_g (lw_at lw_m4 117 rfl) rfl
theorem q914 : (Jvm.Cond.methodLink "ClassFileReader$Field" (25 : Nat) ({ cls := "ClassFileReader$Member", name := "known", desc := "(Ljava/lang/String;)I" } : Jvm.MethodName)) ∈ lw_all := lw_g (lw_at lw_m4 118 rfl) rfl
theorem q992 : (Jvm.Cond.selects "ClassFileReader$Field" ({ cls := "ClassFileReader$Holder", name := "again", desc := "(I)Z" } : Jvm.MethodName) ({ cls := "ClassFileReader$Holder", name := "again", desc := "(I)Z" } : Jvm.MethodName)) ∈ lw_all := lw_g (lw_at lw_m4 196 rfl) rfl
theorem in_X15 : ∀ w ∈ wsX150, w ∈ lw_all := lw_in wsX150 [890, 891, 892, 886, 887, 888, 889, 884] (by decide +kernel) (by decide +kernel)
def RX2 : String := "ClassFileReader$Holder"
abbrev cX2_init : ByteArray := prog_5_method_1_code
def yX2_init : MethodName := ⟨RX2, "<init>", "()V"⟩
abbrev cX2_known : ByteArray := prog_5_method_2_code
def yX2_known : MethodName := ⟨RX2, "known", "(Ljava/lang/String;)I"⟩
abbrev cX2_again : ByteArray := prog_5_method_3_code
def yX2_again : MethodName := ⟨RX2, "again", "(I)Z"⟩
theorem q83 : (Jvm.Cond.initialized "ClassFileReader$Holder") ∈ lw_all := lw_g (lw_at lw_m1 7 rfl) rfl
theorem q202 : (Jvm.Cond.instanceMethod ({ cls := "ClassFileReader$Holder", name := "<init>", desc := "()V" } : Jvm.MethodName)) ∈ lw_all := lw_g (lw_at lw_m1 126 rfl) rfl
theorem q203 : (Jvm.Cond.code ({ cls := "ClassFileReader$Holder", name := "<init>", desc := "()V" } : Jvm.MethodName) prog_5_method_1_code (1 : Nat) (Option.none : Option Jvm.ClassFile.FieldType)) ∈ lw_all := lw_g (lw_at lw_m1 127 rfl) rfl
theorem q204 : (Jvm.Cond.methodLink "ClassFileReader$Holder" (1 : Nat) ({ cls := "java/lang/Object", name := "<init>", desc := "()V" } : Jvm.MethodName)) ∈ lw_all := lw_g (lw_at lw_m1 128 rfl) rfl
theorem q277 : (Jvm.Cond.fieldLink "ClassFileReader$Holder" (21 : Nat) "ClassFileReader$Holder" "seen" "I") ∈ lw_all := lw_g (lw_at lw_m1 201 rfl) rfl
theorem q313 : (Jvm.Cond.soleField "ClassFileReader$Holder" "signature") ∈ lw_all := lw_g (lw_at lw_m1 237 rfl) rfl
theorem q315 : (Jvm.Cond.soleField "ClassFileReader$Holder" "deprecated") ∈ lw_all := lw_g (lw_at lw_m1 239 rfl) rfl
theorem q317 : (Jvm.Cond.soleField "ClassFileReader$Holder" "seen") ∈ lw_all := lw_g (lw_at lw_m2 1 rfl) rfl
theorem q907 : (Jvm.Cond.instanceMethod ({ cls := "ClassFileReader$Holder", name := "known", desc := "(Ljava/lang/String;)I" } : Jvm.MethodName)) ∈ lw_all := lw_g (lw_at lw_m4 111 rfl) rfl
theorem q908 : (Jvm.Cond.sameMethod "ClassFileReader$Holder" "ClassFileReader$Holder" "known" "(Ljava/lang/String;)I") ∈ lw_all := lw_g (lw_at lw_m4 112 rfl) rfl
theorem q916 : (Jvm.Cond.declares ({ cls := "ClassFileReader$Holder", name := "known", desc := "(Ljava/lang/String;)I" } : Jvm.MethodName)) ∈ lw_tbl := lw_at lw_m4 120 rfl
theorem q984 : (Jvm.Cond.code ({ cls := "ClassFileReader$Holder", name := "known", desc := "(Ljava/lang/String;)I" } : Jvm.MethodName) prog_5_method_2_code (4 : Nat) (Option.some Jvm.ClassFile.FieldType.int)) ∈ lw_all := lw_g (lw_at lw_m4 188 rfl) rfl
theorem q985 : (Jvm.Cond.methodLink "ClassFileReader$Holder" (7 : Nat) ({ cls := "java/lang/String", name := "hashCode", desc := "()I" } : Jvm.MethodName)) ∈ lw_all := lw_g (lw_at lw_m4 189 rfl) rfl
theorem q986 : (Jvm.Cond.stringRef "ClassFileReader$Holder" (13 : Nat) "Signature") ∈ lw_tbl := lw_at lw_m4 190 rfl
theorem q987 : (Jvm.Cond.methodLink "ClassFileReader$Holder" (15 : Nat) ({ cls := "java/lang/String", name := "equals", desc := "(Ljava/lang/Object;)Z" } : Jvm.MethodName)) ∈ lw_all := lw_g (lw_at lw_m4 191 rfl) rfl
theorem q988 : (Jvm.Cond.stringRef "ClassFileReader$Holder" (19 : Nat) "Deprecated") ∈ lw_tbl := lw_at lw_m4 192 rfl
theorem q990 : (Jvm.Cond.instanceMethod ({ cls := "ClassFileReader$Holder", name := "again", desc := "(I)Z" } : Jvm.MethodName)) ∈ lw_all := lw_g (lw_at lw_m4 194 rfl) rfl
theorem q991 : (Jvm.Cond.sameMethod "ClassFileReader$Holder" "ClassFileReader$Holder" "again" "(I)Z") ∈ lw_all := lw_g (lw_at lw_m4 195 rfl) rfl
theorem q996 : (Jvm.Cond.code ({ cls := "ClassFileReader$Holder", name := "again", desc := "(I)Z" } : Jvm.MethodName) prog_5_method_3_code (3 : Nat) (Option.some Jvm.ClassFile.FieldType.boolean)) ∈ lw_all := lw_g (lw_at lw_m4 200 rfl) rfl
def RX3 : String := "ClassFileReader$Mirror"
def TX3 : u_T := fun k => match k with
  | 0 => ("ClassFileReader$Holder", "signature", "Ljava/lang/String;", false)
  | 1 => ("ClassFileReader$Holder", "deprecated", "Z", false)
  | 2 => ("ClassFileReader$Holder", "seen", "I", false)
  | 3 => ("ClassFileReader$Mirror", "major", "I", false)
  | 4 => ("ClassFileReader$Mirror", "flags", "I", false)
  | 5 => ("ClassFileReader$Mirror", "pool", "I", false)
  | 6 => ("ClassFileReader$Mirror", "name", "Ljava/lang/String;", false)
  | 7 => ("ClassFileReader$Mirror", "parent", "Ljava/lang/String;", false)
  | 8 => ("ClassFileReader$Mirror", "host", "Ljava/lang/String;", false)
  | 9 => ("ClassFileReader$Mirror", "record", "Z", false)
  | 10 => ("ClassFileReader$Mirror", "interfaces", "LClassFileReader$Links;", true)
  | 11 => ("ClassFileReader$Mirror", "fields", "LClassFileReader$Members;", true)
  | 12 => ("ClassFileReader$Mirror", "methods", "LClassFileReader$Members;", true)
  | 13 => ("ClassFileReader$Mirror", "components", "LClassFileReader$Members;", true)
  | 14 => ("ClassFileReader$Mirror", "inner", "LClassFileReader$Links;", true)
  | 15 => ("ClassFileReader$Mirror", "outer", "LClassFileReader$Links;", true)
  | 16 => ("ClassFileReader$Mirror", "simple", "LClassFileReader$Links;", true)
  | 17 => ("ClassFileReader$Mirror", "innerFlags", "[I", true)
  | 18 => ("ClassFileReader$Mirror", "mates", "LClassFileReader$Links;", true)
  | _ => ("ClassFileReader$Mirror", "permitted", "LClassFileReader$Links;", true)
def tyX3 : Nat → FieldType := fun k => match k with
  | 0 => .object "java/lang/String"
  | 1 => .boolean
  | 2 => .int
  | 3 => .int
  | 4 => .int
  | 5 => .int
  | 6 => .object "java/lang/String"
  | 7 => .object "java/lang/String"
  | 8 => .object "java/lang/String"
  | 9 => .boolean
  | 10 => .object "ClassFileReader$Links"
  | 11 => .object "ClassFileReader$Members"
  | 12 => .object "ClassFileReader$Members"
  | 13 => .object "ClassFileReader$Members"
  | 14 => .object "ClassFileReader$Links"
  | 15 => .object "ClassFileReader$Links"
  | 16 => .object "ClassFileReader$Links"
  | 17 => .array .int
  | 18 => .object "ClassFileReader$Links"
  | _ => .object "ClassFileReader$Links"
abbrev wsX30 : List Cond := u_ws RX3 TX3 20
theorem nmX3 : ∀ a, a < 20 → ∀ b, b < 20 → a ≠ b → (TX3 a).2.1 ≠ (TX3 b).2.1 := by decide +kernel
theorem tyX3_ok : ∀ k, k < 20 → parseFieldDescriptor (TX3 k).2.2.1 = some (tyX3 k) := by decide +kernel
abbrev cX3_init : ByteArray := prog_12_method_1_code
def yX3_init : MethodName := ⟨RX3, "<init>", "()V"⟩
abbrev cX3_known : ByteArray := prog_12_method_2_code
def yX3_known : MethodName := ⟨RX3, "known", "(Ljava/lang/String;)I"⟩
theorem q84 : (Jvm.Cond.initialized "ClassFileReader$Mirror") ∈ lw_all := lw_g (lw_at lw_m1 8 rfl) rfl
theorem q197 : (Jvm.Cond.instantiable "ClassFileReader$Mirror" (20 : Nat)) ∈ lw_all := lw_g (lw_at lw_m1 121 rfl) rfl
theorem q199 : (Jvm.Cond.instanceMethod ({ cls := "ClassFileReader$Mirror", name := "<init>", desc := "()V" } : Jvm.MethodName)) ∈ lw_all := lw_g (lw_at lw_m1 123 rfl) rfl
theorem q200 : (Jvm.Cond.code ({ cls := "ClassFileReader$Mirror", name := "<init>", desc := "()V" } : Jvm.MethodName) prog_12_method_1_code (1 : Nat) (Option.none : Option Jvm.ClassFile.FieldType)) ∈ lw_all := lw_g (lw_at lw_m1 124 rfl) rfl
theorem q201 : (Jvm.Cond.methodLinkNest "ClassFileReader$Mirror" (1 : Nat) ({ cls := "ClassFileReader$Holder", name := "<init>", desc := "()V" } : Jvm.MethodName) "ClassFileReader") ∈ lw_tbl := lw_at lw_m1 125 rfl
theorem q205 : (Jvm.Cond.classLink "ClassFileReader$Mirror" (7 : Nat) "ClassFileReader$Links") ∈ lw_all := lw_g (lw_at lw_m1 129 rfl) rfl
theorem q207 : (Jvm.Cond.methodLinkNest "ClassFileReader$Mirror" (9 : Nat) ({ cls := "ClassFileReader$Links", name := "<init>", desc := "()V" } : Jvm.MethodName) "ClassFileReader") ∈ lw_tbl := lw_at lw_m1 131 rfl
theorem q223 : (Jvm.Cond.classLink "ClassFileReader$Mirror" (16 : Nat) "ClassFileReader$Members") ∈ lw_all := lw_g (lw_at lw_m1 147 rfl) rfl
theorem q225 : (Jvm.Cond.methodLinkNest "ClassFileReader$Mirror" (18 : Nat) ({ cls := "ClassFileReader$Members", name := "<init>", desc := "()V" } : Jvm.MethodName) "ClassFileReader") ∈ lw_tbl := lw_at lw_m1 149 rfl
theorem q247 : (Jvm.Cond.fieldLink "ClassFileReader$Mirror" (10 : Nat) "ClassFileReader$Mirror" "interfaces" "LClassFileReader$Links;") ∈ lw_all := lw_g (lw_at lw_m1 171 rfl) rfl
theorem q249 : (Jvm.Cond.fieldLink "ClassFileReader$Mirror" (19 : Nat) "ClassFileReader$Mirror" "fields" "LClassFileReader$Members;") ∈ lw_all := lw_g (lw_at lw_m1 173 rfl) rfl
theorem q251 : (Jvm.Cond.fieldLink "ClassFileReader$Mirror" (23 : Nat) "ClassFileReader$Mirror" "methods" "LClassFileReader$Members;") ∈ lw_all := lw_g (lw_at lw_m1 175 rfl) rfl
theorem q253 : (Jvm.Cond.fieldLink "ClassFileReader$Mirror" (26 : Nat) "ClassFileReader$Mirror" "components" "LClassFileReader$Members;") ∈ lw_all := lw_g (lw_at lw_m1 177 rfl) rfl
theorem q255 : (Jvm.Cond.fieldLink "ClassFileReader$Mirror" (29 : Nat) "ClassFileReader$Mirror" "inner" "LClassFileReader$Links;") ∈ lw_all := lw_g (lw_at lw_m1 179 rfl) rfl
theorem q257 : (Jvm.Cond.fieldLink "ClassFileReader$Mirror" (32 : Nat) "ClassFileReader$Mirror" "outer" "LClassFileReader$Links;") ∈ lw_all := lw_g (lw_at lw_m1 181 rfl) rfl
theorem q259 : (Jvm.Cond.fieldLink "ClassFileReader$Mirror" (35 : Nat) "ClassFileReader$Mirror" "simple" "LClassFileReader$Links;") ∈ lw_all := lw_g (lw_at lw_m1 183 rfl) rfl
theorem q261 : (Jvm.Cond.fieldLink "ClassFileReader$Mirror" (38 : Nat) "ClassFileReader$Mirror" "innerFlags" "[I") ∈ lw_all := lw_g (lw_at lw_m1 185 rfl) rfl
theorem q263 : (Jvm.Cond.fieldLink "ClassFileReader$Mirror" (42 : Nat) "ClassFileReader$Mirror" "mates" "LClassFileReader$Links;") ∈ lw_all := lw_g (lw_at lw_m1 187 rfl) rfl
theorem q265 : (Jvm.Cond.fieldLink "ClassFileReader$Mirror" (45 : Nat) "ClassFileReader$Mirror" "permitted" "LClassFileReader$Links;") ∈ lw_all := lw_g (lw_at lw_m1 189 rfl) rfl
theorem q271 : (Jvm.Cond.sameField "ClassFileReader$Mirror" "ClassFileReader$Holder" "signature" "Ljava/lang/String;") ∈ lw_all := lw_g (lw_at lw_m1 195 rfl) rfl
theorem q274 : (Jvm.Cond.sameField "ClassFileReader$Mirror" "ClassFileReader$Holder" "deprecated" "Z") ∈ lw_all := lw_g (lw_at lw_m1 198 rfl) rfl
theorem q278 : (Jvm.Cond.lays "ClassFileReader$Mirror" "ClassFileReader$Mirror" "major" "I") ∈ lw_all := lw_g (lw_at lw_m1 202 rfl) rfl
theorem q279 : (Jvm.Cond.soleField "ClassFileReader$Mirror" "major") ∈ lw_all := lw_g (lw_at lw_m1 203 rfl) rfl
theorem q280 : (Jvm.Cond.lays "ClassFileReader$Mirror" "ClassFileReader$Mirror" "flags" "I") ∈ lw_all := lw_g (lw_at lw_m1 204 rfl) rfl
theorem q281 : (Jvm.Cond.soleField "ClassFileReader$Mirror" "flags") ∈ lw_all := lw_g (lw_at lw_m1 205 rfl) rfl
theorem q282 : (Jvm.Cond.lays "ClassFileReader$Mirror" "ClassFileReader$Mirror" "pool" "I") ∈ lw_all := lw_g (lw_at lw_m1 206 rfl) rfl
theorem q283 : (Jvm.Cond.soleField "ClassFileReader$Mirror" "pool") ∈ lw_all := lw_g (lw_at lw_m1 207 rfl) rfl
theorem q284 : (Jvm.Cond.lays "ClassFileReader$Mirror" "ClassFileReader$Mirror" "name" "Ljava/lang/String;") ∈ lw_all := lw_g (lw_at lw_m1 208 rfl) rfl
theorem q285 : (Jvm.Cond.soleField "ClassFileReader$Mirror" "name") ∈ lw_all := lw_g (lw_at lw_m1 209 rfl) rfl
theorem q286 : (Jvm.Cond.lays "ClassFileReader$Mirror" "ClassFileReader$Mirror" "parent" "Ljava/lang/String;") ∈ lw_all := lw_g (lw_at lw_m1 210 rfl) rfl
theorem q287 : (Jvm.Cond.soleField "ClassFileReader$Mirror" "parent") ∈ lw_all := lw_g (lw_at lw_m1 211 rfl) rfl
theorem q288 : (Jvm.Cond.lays "ClassFileReader$Mirror" "ClassFileReader$Mirror" "host" "Ljava/lang/String;") ∈ lw_all := lw_g (lw_at lw_m1 212 rfl) rfl
theorem q289 : (Jvm.Cond.soleField "ClassFileReader$Mirror" "host") ∈ lw_all := lw_g (lw_at lw_m1 213 rfl) rfl
theorem q290 : (Jvm.Cond.lays "ClassFileReader$Mirror" "ClassFileReader$Mirror" "record" "Z") ∈ lw_all := lw_g (lw_at lw_m1 214 rfl) rfl
theorem q291 : (Jvm.Cond.soleField "ClassFileReader$Mirror" "record") ∈ lw_all := lw_g (lw_at lw_m1 215 rfl) rfl
theorem q292 : (Jvm.Cond.laysFinal "ClassFileReader$Mirror" "ClassFileReader$Mirror" "interfaces" "LClassFileReader$Links;") ∈ lw_all := lw_g (lw_at lw_m1 216 rfl) rfl
theorem q293 : (Jvm.Cond.soleField "ClassFileReader$Mirror" "interfaces") ∈ lw_all := lw_g (lw_at lw_m1 217 rfl) rfl
theorem q294 : (Jvm.Cond.laysFinal "ClassFileReader$Mirror" "ClassFileReader$Mirror" "fields" "LClassFileReader$Members;") ∈ lw_all := lw_g (lw_at lw_m1 218 rfl) rfl
theorem q295 : (Jvm.Cond.soleField "ClassFileReader$Mirror" "fields") ∈ lw_all := lw_g (lw_at lw_m1 219 rfl) rfl
theorem q296 : (Jvm.Cond.laysFinal "ClassFileReader$Mirror" "ClassFileReader$Mirror" "methods" "LClassFileReader$Members;") ∈ lw_all := lw_g (lw_at lw_m1 220 rfl) rfl
theorem q297 : (Jvm.Cond.soleField "ClassFileReader$Mirror" "methods") ∈ lw_all := lw_g (lw_at lw_m1 221 rfl) rfl
theorem q298 : (Jvm.Cond.laysFinal "ClassFileReader$Mirror" "ClassFileReader$Mirror" "components" "LClassFileReader$Members;") ∈ lw_all := lw_g (lw_at lw_m1 222 rfl) rfl
theorem q299 : (Jvm.Cond.soleField "ClassFileReader$Mirror" "components") ∈ lw_all := lw_g (lw_at lw_m1 223 rfl) rfl
theorem q300 : (Jvm.Cond.laysFinal "ClassFileReader$Mirror" "ClassFileReader$Mirror" "inner" "LClassFileReader$Links;") ∈ lw_all := lw_g (lw_at lw_m1 224 rfl) rfl
theorem q301 : (Jvm.Cond.soleField "ClassFileReader$Mirror" "inner") ∈ lw_all := lw_g (lw_at lw_m1 225 rfl) rfl
theorem q302 : (Jvm.Cond.laysFinal "ClassFileReader$Mirror" "ClassFileReader$Mirror" "outer" "LClassFileReader$Links;") ∈ lw_all := lw_g (lw_at lw_m1 226 rfl) rfl
theorem q303 : (Jvm.Cond.soleField "ClassFileReader$Mirror" "outer") ∈ lw_all := lw_g (lw_at lw_m1 227 rfl) rfl
theorem q304 : (Jvm.Cond.laysFinal "ClassFileReader$Mirror" "ClassFileReader$Mirror" "simple" "LClassFileReader$Links;") ∈ lw_all := lw_g (lw_at lw_m1 228 rfl) rfl
theorem q305 : (Jvm.Cond.soleField "ClassFileReader$Mirror" "simple") ∈ lw_all := lw_g (lw_at lw_m1 229 rfl) rfl
theorem q306 : (Jvm.Cond.laysFinal "ClassFileReader$Mirror" "ClassFileReader$Mirror" "innerFlags" "[I") ∈ lw_all := lw_g (lw_at lw_m1 230 rfl) rfl
theorem q307 : (Jvm.Cond.soleField "ClassFileReader$Mirror" "innerFlags") ∈ lw_all := lw_g (lw_at lw_m1 231 rfl) rfl
theorem q308 : (Jvm.Cond.laysFinal "ClassFileReader$Mirror" "ClassFileReader$Mirror" "mates" "LClassFileReader$Links;") ∈ lw_all := lw_g (lw_at lw_m1 232 rfl) rfl
theorem q309 : (Jvm.Cond.soleField "ClassFileReader$Mirror" "mates") ∈ lw_all := lw_g (lw_at lw_m1 233 rfl) rfl
theorem q310 : (Jvm.Cond.laysFinal "ClassFileReader$Mirror" "ClassFileReader$Mirror" "permitted" "LClassFileReader$Links;") ∈ lw_all := lw_g (lw_at lw_m1 234 rfl) rfl
theorem q311 : (Jvm.Cond.soleField "ClassFileReader$Mirror" "permitted") ∈ lw_all := lw_g (lw_at lw_m1 235 rfl) rfl
theorem q312 : (Jvm.Cond.lays "ClassFileReader$Mirror" "ClassFileReader$Holder" "signature" "Ljava/lang/String;") ∈ lw_all := lw_g (lw_at lw_m1 236 rfl) rfl
theorem q314 : (Jvm.Cond.lays "ClassFileReader$Mirror" "ClassFileReader$Holder" "deprecated" "Z") ∈ lw_all := lw_g (lw_at lw_m1 238 rfl) rfl
theorem q316 : (Jvm.Cond.lays "ClassFileReader$Mirror" "ClassFileReader$Holder" "seen" "I") ∈ lw_all := lw_g (lw_at lw_m2 0 rfl) rfl
theorem q318 : (Jvm.Cond.superclass "ClassFileReader$Mirror" "ClassFileReader$Holder") ∈ lw_all := lw_g (lw_at lw_m2 2 rfl) rfl
theorem q925 : (Jvm.Cond.selects "ClassFileReader$Mirror" ({ cls := "ClassFileReader$Holder", name := "known", desc := "(Ljava/lang/String;)I" } : Jvm.MethodName) ({ cls := "ClassFileReader$Mirror", name := "known", desc := "(Ljava/lang/String;)I" } : Jvm.MethodName)) ∈ lw_all := lw_g (lw_at lw_m4 129 rfl) rfl
theorem q926 : (Jvm.Cond.instanceMethod ({ cls := "ClassFileReader$Mirror", name := "known", desc := "(Ljava/lang/String;)I" } : Jvm.MethodName)) ∈ lw_all := lw_g (lw_at lw_m4 130 rfl) rfl
theorem q927 : (Jvm.Cond.code ({ cls := "ClassFileReader$Mirror", name := "known", desc := "(Ljava/lang/String;)I" } : Jvm.MethodName) prog_12_method_2_code (4 : Nat) (Option.some Jvm.ClassFile.FieldType.int)) ∈ lw_all := lw_g (lw_at lw_m4 131 rfl) rfl
theorem q928 : (Jvm.Cond.methodLink "ClassFileReader$Mirror" (48 : Nat) ({ cls := "java/lang/String", name := "hashCode", desc := "()I" } : Jvm.MethodName)) ∈ lw_all := lw_g (lw_at lw_m4 132 rfl) rfl
theorem q977 : (Jvm.Cond.stringRef "ClassFileReader$Mirror" (54 : Nat) "InnerClasses") ∈ lw_tbl := lw_at lw_m4 181 rfl
theorem q978 : (Jvm.Cond.methodLink "ClassFileReader$Mirror" (56 : Nat) ({ cls := "java/lang/String", name := "equals", desc := "(Ljava/lang/Object;)Z" } : Jvm.MethodName)) ∈ lw_all := lw_g (lw_at lw_m4 182 rfl) rfl
theorem q979 : (Jvm.Cond.stringRef "ClassFileReader$Mirror" (60 : Nat) "NestMembers") ∈ lw_tbl := lw_at lw_m4 183 rfl
theorem q980 : (Jvm.Cond.stringRef "ClassFileReader$Mirror" (62 : Nat) "PermittedSubclasses") ∈ lw_tbl := lw_at lw_m4 184 rfl
theorem q981 : (Jvm.Cond.stringRef "ClassFileReader$Mirror" (64 : Nat) "NestHost") ∈ lw_tbl := lw_at lw_m4 185 rfl
theorem q982 : (Jvm.Cond.stringRef "ClassFileReader$Mirror" (66 : Nat) "Record") ∈ lw_tbl := lw_at lw_m4 186 rfl
theorem q983 : (Jvm.Cond.methodLink "ClassFileReader$Mirror" (68 : Nat) ({ cls := "ClassFileReader$Holder", name := "known", desc := "(Ljava/lang/String;)I" } : Jvm.MethodName)) ∈ lw_all := lw_g (lw_at lw_m4 187 rfl) rfl
theorem q995 : (Jvm.Cond.selects "ClassFileReader$Mirror" ({ cls := "ClassFileReader$Holder", name := "again", desc := "(I)Z" } : Jvm.MethodName) ({ cls := "ClassFileReader$Holder", name := "again", desc := "(I)Z" } : Jvm.MethodName)) ∈ lw_all := lw_g (lw_at lw_m4 199 rfl) rfl
theorem in_X3 : ∀ w ∈ wsX30, w ∈ lw_all := lw_in wsX30 [312, 314, 316, 278, 280, 282, 284, 286, 288, 290, 292, 294, 296, 298, 300, 302, 304, 306, 308, 310] (by decide +kernel) (by decide +kernel)
def RX4 : String := "ClassFileReader$Links"
def TX4 : u_T := fun k => match k with
  | 0 => ("ClassFileReader$Links", "first", "LClassFileReader$Link;", false)
  | 1 => ("ClassFileReader$Links", "last", "LClassFileReader$Link;", false)
  | _ => ("ClassFileReader$Links", "count", "I", false)
def tyX4 : Nat → FieldType := fun k => match k with
  | 0 => .object "ClassFileReader$Link"
  | 1 => .object "ClassFileReader$Link"
  | _ => .int
abbrev wsX40 : List Cond := u_ws RX4 TX4 3
theorem nmX4 : ∀ a, a < 3 → ∀ b, b < 3 → a ≠ b → (TX4 a).2.1 ≠ (TX4 b).2.1 := by decide +kernel
theorem tyX4_ok : ∀ k, k < 3 → parseFieldDescriptor (TX4 k).2.2.1 = some (tyX4 k) := by decide +kernel
abbrev cX4_init : ByteArray := prog_7_method_1_code
def yX4_init : MethodName := ⟨RX4, "<init>", "()V"⟩
abbrev cX4_add : ByteArray := prog_7_method_2_code
def yX4_add : MethodName := ⟨RX4, "add", "(Ljava/lang/String;)V"⟩
abbrev cX4_at : ByteArray := prog_7_method_3_code
def yX4_at : MethodName := ⟨RX4, "at", "(I)Ljava/lang/String;"⟩
theorem q85 : (Jvm.Cond.initialized "ClassFileReader$Links") ∈ lw_all := lw_g (lw_at lw_m1 9 rfl) rfl
theorem q206 : (Jvm.Cond.instantiable "ClassFileReader$Links" (3 : Nat)) ∈ lw_all := lw_g (lw_at lw_m1 130 rfl) rfl
theorem q208 : (Jvm.Cond.instanceMethod ({ cls := "ClassFileReader$Links", name := "<init>", desc := "()V" } : Jvm.MethodName)) ∈ lw_all := lw_g (lw_at lw_m1 132 rfl) rfl
theorem q209 : (Jvm.Cond.code ({ cls := "ClassFileReader$Links", name := "<init>", desc := "()V" } : Jvm.MethodName) prog_7_method_1_code (1 : Nat) (Option.none : Option Jvm.ClassFile.FieldType)) ∈ lw_all := lw_g (lw_at lw_m1 133 rfl) rfl
theorem q210 : (Jvm.Cond.methodLink "ClassFileReader$Links" (1 : Nat) ({ cls := "java/lang/Object", name := "<init>", desc := "()V" } : Jvm.MethodName)) ∈ lw_all := lw_g (lw_at lw_m1 134 rfl) rfl
theorem q211 : (Jvm.Cond.fieldLink "ClassFileReader$Links" (18 : Nat) "ClassFileReader$Links" "first" "LClassFileReader$Link;") ∈ lw_all := lw_g (lw_at lw_m1 135 rfl) rfl
theorem q213 : (Jvm.Cond.fieldLink "ClassFileReader$Links" (12 : Nat) "ClassFileReader$Links" "last" "LClassFileReader$Link;") ∈ lw_all := lw_g (lw_at lw_m1 137 rfl) rfl
theorem q214 : (Jvm.Cond.fieldLink "ClassFileReader$Links" (24 : Nat) "ClassFileReader$Links" "count" "I") ∈ lw_all := lw_g (lw_at lw_m1 138 rfl) rfl
theorem q216 : (Jvm.Cond.lays "ClassFileReader$Links" "ClassFileReader$Links" "first" "LClassFileReader$Link;") ∈ lw_all := lw_g (lw_at lw_m1 140 rfl) rfl
theorem q217 : (Jvm.Cond.soleField "ClassFileReader$Links" "first") ∈ lw_all := lw_g (lw_at lw_m1 141 rfl) rfl
theorem q218 : (Jvm.Cond.lays "ClassFileReader$Links" "ClassFileReader$Links" "last" "LClassFileReader$Link;") ∈ lw_all := lw_g (lw_at lw_m1 142 rfl) rfl
theorem q219 : (Jvm.Cond.soleField "ClassFileReader$Links" "last") ∈ lw_all := lw_g (lw_at lw_m1 143 rfl) rfl
theorem q220 : (Jvm.Cond.lays "ClassFileReader$Links" "ClassFileReader$Links" "count" "I") ∈ lw_all := lw_g (lw_at lw_m1 144 rfl) rfl
theorem q221 : (Jvm.Cond.soleField "ClassFileReader$Links" "count") ∈ lw_all := lw_g (lw_at lw_m1 145 rfl) rfl
theorem q222 : (Jvm.Cond.superclass "ClassFileReader$Links" "java/lang/Object") ∈ lw_all := lw_g (lw_at lw_m1 146 rfl) rfl
theorem q788 : (Jvm.Cond.instanceMethod ({ cls := "ClassFileReader$Links", name := "add", desc := "(Ljava/lang/String;)V" } : Jvm.MethodName)) ∈ lw_all := lw_g (lw_at lw_m3 232 rfl) rfl
theorem q789 : (Jvm.Cond.selects "ClassFileReader$Links" ({ cls := "ClassFileReader$Links", name := "add", desc := "(Ljava/lang/String;)V" } : Jvm.MethodName) ({ cls := "ClassFileReader$Links", name := "add", desc := "(Ljava/lang/String;)V" } : Jvm.MethodName)) ∈ lw_all := lw_g (lw_at lw_m3 233 rfl) rfl
theorem q790 : (Jvm.Cond.code ({ cls := "ClassFileReader$Links", name := "add", desc := "(Ljava/lang/String;)V" } : Jvm.MethodName) prog_7_method_2_code (3 : Nat) (Option.none : Option Jvm.ClassFile.FieldType)) ∈ lw_all := lw_g (lw_at lw_m3 234 rfl) rfl
theorem q791 : (Jvm.Cond.classLink "ClassFileReader$Links" (7 : Nat) "ClassFileReader$Link") ∈ lw_all := lw_g (lw_at lw_m3 235 rfl) rfl
theorem q793 : (Jvm.Cond.methodLink "ClassFileReader$Links" (9 : Nat) ({ cls := "ClassFileReader$Link", name := "<init>", desc := "(Ljava/lang/String;)V" } : Jvm.MethodName)) ∈ lw_all := lw_g (lw_at lw_m3 237 rfl) rfl
theorem q798 : (Jvm.Cond.fieldLinkNest "ClassFileReader$Links" (28 : Nat) "ClassFileReader$Link" "text" "Ljava/lang/String;" "ClassFileReader") ∈ lw_tbl := lw_at lw_m4 2 rfl
theorem q800 : (Jvm.Cond.fieldLinkNest "ClassFileReader$Links" (21 : Nat) "ClassFileReader$Link" "next" "LClassFileReader$Link;" "ClassFileReader") ∈ lw_tbl := lw_at lw_m4 4 rfl
theorem q1072 : (Jvm.Cond.instanceMethod ({ cls := "ClassFileReader$Links", name := "at", desc := "(I)Ljava/lang/String;" } : Jvm.MethodName)) ∈ lw_all := lw_g (lw_at lw_m5 36 rfl) rfl
theorem q1073 : (Jvm.Cond.selects "ClassFileReader$Links" ({ cls := "ClassFileReader$Links", name := "at", desc := "(I)Ljava/lang/String;" } : Jvm.MethodName) ({ cls := "ClassFileReader$Links", name := "at", desc := "(I)Ljava/lang/String;" } : Jvm.MethodName)) ∈ lw_all := lw_g (lw_at lw_m5 37 rfl) rfl
theorem q1074 : (Jvm.Cond.code ({ cls := "ClassFileReader$Links", name := "at", desc := "(I)Ljava/lang/String;" } : Jvm.MethodName) prog_7_method_3_code (4 : Nat) (Option.some (Jvm.ClassFile.FieldType.object "java/lang/String"))) ∈ lw_all := lw_g (lw_at lw_m5 38 rfl) rfl
theorem in_X4 : ∀ w ∈ wsX40, w ∈ lw_all := lw_in wsX40 [216, 218, 220] (by decide +kernel) (by decide +kernel)
def RX5 : String := "ClassFileReader$Members"
def TX5 : u_T := fun k => match k with
  | 0 => ("ClassFileReader$Members", "first", "LClassFileReader$Member;", false)
  | 1 => ("ClassFileReader$Members", "last", "LClassFileReader$Member;", false)
  | _ => ("ClassFileReader$Members", "count", "I", false)
def tyX5 : Nat → FieldType := fun k => match k with
  | 0 => .object "ClassFileReader$Member"
  | 1 => .object "ClassFileReader$Member"
  | _ => .int
abbrev wsX50 : List Cond := u_ws RX5 TX5 3
theorem nmX5 : ∀ a, a < 3 → ∀ b, b < 3 → a ≠ b → (TX5 a).2.1 ≠ (TX5 b).2.1 := by decide +kernel
theorem tyX5_ok : ∀ k, k < 3 → parseFieldDescriptor (TX5 k).2.2.1 = some (tyX5 k) := by decide +kernel
abbrev cX5_init : ByteArray := prog_10_method_1_code
def yX5_init : MethodName := ⟨RX5, "<init>", "()V"⟩
abbrev cX5_find : ByteArray := prog_10_method_2_code
def yX5_find : MethodName := ⟨RX5, "find", "(Ljava/lang/String;Ljava/lang/String;)LClassFileReader$Member;"⟩
abbrev cX5_add : ByteArray := prog_10_method_3_code
def yX5_add : MethodName := ⟨RX5, "add", "(LClassFileReader$Member;)V"⟩
abbrev cX5_at : ByteArray := prog_10_method_4_code
def yX5_at : MethodName := ⟨RX5, "at", "(I)LClassFileReader$Member;"⟩
theorem q86 : (Jvm.Cond.initialized "ClassFileReader$Members") ∈ lw_all := lw_g (lw_at lw_m1 10 rfl) rfl
theorem q224 : (Jvm.Cond.instantiable "ClassFileReader$Members" (3 : Nat)) ∈ lw_all := lw_g (lw_at lw_m1 148 rfl) rfl
theorem q226 : (Jvm.Cond.instanceMethod ({ cls := "ClassFileReader$Members", name := "<init>", desc := "()V" } : Jvm.MethodName)) ∈ lw_all := lw_g (lw_at lw_m1 150 rfl) rfl
theorem q227 : (Jvm.Cond.code ({ cls := "ClassFileReader$Members", name := "<init>", desc := "()V" } : Jvm.MethodName) prog_10_method_1_code (1 : Nat) (Option.none : Option Jvm.ClassFile.FieldType)) ∈ lw_all := lw_g (lw_at lw_m1 151 rfl) rfl
theorem q228 : (Jvm.Cond.methodLink "ClassFileReader$Members" (1 : Nat) ({ cls := "java/lang/Object", name := "<init>", desc := "()V" } : Jvm.MethodName)) ∈ lw_all := lw_g (lw_at lw_m1 152 rfl) rfl
theorem q229 : (Jvm.Cond.fieldLink "ClassFileReader$Members" (7 : Nat) "ClassFileReader$Members" "first" "LClassFileReader$Member;") ∈ lw_all := lw_g (lw_at lw_m1 153 rfl) rfl
theorem q230 : (Jvm.Cond.fieldLink "ClassFileReader$Members" (31 : Nat) "ClassFileReader$Members" "last" "LClassFileReader$Member;") ∈ lw_all := lw_g (lw_at lw_m1 154 rfl) rfl
theorem q231 : (Jvm.Cond.fieldLink "ClassFileReader$Members" (34 : Nat) "ClassFileReader$Members" "count" "I") ∈ lw_all := lw_g (lw_at lw_m1 155 rfl) rfl
theorem q233 : (Jvm.Cond.lays "ClassFileReader$Members" "ClassFileReader$Members" "first" "LClassFileReader$Member;") ∈ lw_all := lw_g (lw_at lw_m1 157 rfl) rfl
theorem q234 : (Jvm.Cond.soleField "ClassFileReader$Members" "first") ∈ lw_all := lw_g (lw_at lw_m1 158 rfl) rfl
theorem q235 : (Jvm.Cond.lays "ClassFileReader$Members" "ClassFileReader$Members" "last" "LClassFileReader$Member;") ∈ lw_all := lw_g (lw_at lw_m1 159 rfl) rfl
theorem q236 : (Jvm.Cond.soleField "ClassFileReader$Members" "last") ∈ lw_all := lw_g (lw_at lw_m1 160 rfl) rfl
theorem q237 : (Jvm.Cond.lays "ClassFileReader$Members" "ClassFileReader$Members" "count" "I") ∈ lw_all := lw_g (lw_at lw_m1 161 rfl) rfl
theorem q238 : (Jvm.Cond.soleField "ClassFileReader$Members" "count") ∈ lw_all := lw_g (lw_at lw_m1 162 rfl) rfl
theorem q239 : (Jvm.Cond.superclass "ClassFileReader$Members" "java/lang/Object") ∈ lw_all := lw_g (lw_at lw_m1 163 rfl) rfl
theorem q833 : (Jvm.Cond.instanceMethod ({ cls := "ClassFileReader$Members", name := "find", desc := "(Ljava/lang/String;Ljava/lang/String;)LClassFileReader$Member;" } : Jvm.MethodName)) ∈ lw_all := lw_g (lw_at lw_m4 37 rfl) rfl
theorem q834 : (Jvm.Cond.selects "ClassFileReader$Members" ({ cls := "ClassFileReader$Members", name := "find", desc := "(Ljava/lang/String;Ljava/lang/String;)LClassFileReader$Member;" } : Jvm.MethodName) ({ cls := "ClassFileReader$Members", name := "find", desc := "(Ljava/lang/String;Ljava/lang/String;)LClassFileReader$Member;" } : Jvm.MethodName)) ∈ lw_all := lw_g (lw_at lw_m4 38 rfl) rfl
theorem q835 : (Jvm.Cond.code ({ cls := "ClassFileReader$Members", name := "find", desc := "(Ljava/lang/String;Ljava/lang/String;)LClassFileReader$Member;" } : Jvm.MethodName) prog_10_method_2_code (4 : Nat) (Option.some (Jvm.ClassFile.FieldType.object "ClassFileReader$Member"))) ∈ lw_all := lw_g (lw_at lw_m4 39 rfl) rfl
theorem q836 : (Jvm.Cond.methodLink "ClassFileReader$Members" (19 : Nat) ({ cls := "java/lang/String", name := "equals", desc := "(Ljava/lang/Object;)Z" } : Jvm.MethodName)) ∈ lw_all := lw_g (lw_at lw_m4 40 rfl) rfl
theorem q853 : (Jvm.Cond.fieldLink "ClassFileReader$Members" (13 : Nat) "ClassFileReader$Member" "name" "Ljava/lang/String;") ∈ lw_all := lw_g (lw_at lw_m4 57 rfl) rfl
theorem q856 : (Jvm.Cond.fieldLink "ClassFileReader$Members" (25 : Nat) "ClassFileReader$Member" "type" "Ljava/lang/String;") ∈ lw_all := lw_g (lw_at lw_m4 60 rfl) rfl
theorem q860 : (Jvm.Cond.fieldLink "ClassFileReader$Members" (28 : Nat) "ClassFileReader$Member" "next" "LClassFileReader$Member;") ∈ lw_all := lw_g (lw_at lw_m4 64 rfl) rfl
theorem q895 : (Jvm.Cond.instanceMethod ({ cls := "ClassFileReader$Members", name := "add", desc := "(LClassFileReader$Member;)V" } : Jvm.MethodName)) ∈ lw_all := lw_g (lw_at lw_m4 99 rfl) rfl
theorem q896 : (Jvm.Cond.selects "ClassFileReader$Members" ({ cls := "ClassFileReader$Members", name := "add", desc := "(LClassFileReader$Member;)V" } : Jvm.MethodName) ({ cls := "ClassFileReader$Members", name := "add", desc := "(LClassFileReader$Member;)V" } : Jvm.MethodName)) ∈ lw_all := lw_g (lw_at lw_m4 100 rfl) rfl
theorem q897 : (Jvm.Cond.code ({ cls := "ClassFileReader$Members", name := "add", desc := "(LClassFileReader$Member;)V" } : Jvm.MethodName) prog_10_method_3_code (2 : Nat) (Option.none : Option Jvm.ClassFile.FieldType)) ∈ lw_all := lw_g (lw_at lw_m4 101 rfl) rfl
theorem q1060 : (Jvm.Cond.instanceMethod ({ cls := "ClassFileReader$Members", name := "at", desc := "(I)LClassFileReader$Member;" } : Jvm.MethodName)) ∈ lw_all := lw_g (lw_at lw_m5 24 rfl) rfl
theorem q1061 : (Jvm.Cond.selects "ClassFileReader$Members" ({ cls := "ClassFileReader$Members", name := "at", desc := "(I)LClassFileReader$Member;" } : Jvm.MethodName) ({ cls := "ClassFileReader$Members", name := "at", desc := "(I)LClassFileReader$Member;" } : Jvm.MethodName)) ∈ lw_all := lw_g (lw_at lw_m5 25 rfl) rfl
theorem q1062 : (Jvm.Cond.code ({ cls := "ClassFileReader$Members", name := "at", desc := "(I)LClassFileReader$Member;" } : Jvm.MethodName) prog_10_method_4_code (4 : Nat) (Option.some (Jvm.ClassFile.FieldType.object "ClassFileReader$Member"))) ∈ lw_all := lw_g (lw_at lw_m5 26 rfl) rfl
theorem in_X5 : ∀ w ∈ wsX50, w ∈ lw_all := lw_in wsX50 [233, 235, 237] (by decide +kernel) (by decide +kernel)
def RX6 : String := "ClassFileReader$Malformed"
def TX6 : u_T := fun k => match k with
  | 0 => ("java/lang/Throwable", "cause", "Ljava/lang/Throwable;", false)
  | 1 => ("java/lang/Throwable", "stackTrace", "[Ljava/lang/StackTraceElement;", false)
  | 2 => ("java/lang/Throwable", "suppressedExceptions", "Ljava/util/List;", false)
  | 3 => ("java/lang/Throwable", "detailMessage", "Ljava/lang/String;", false)
  | 4 => ("java/lang/Throwable", "backtrace", "Ljava/lang/Object;", false)
  | 5 => ("java/lang/Throwable", "depth", "I", false)
  | 6 => ("ClassFileReader$Malformed", "code", "I", true)
  | _ => ("ClassFileReader$Malformed", "place", "I", true)
def tyX6 : Nat → FieldType := fun k => match k with
  | 0 => .object "java/lang/Throwable"
  | 1 => .array (.object "java/lang/StackTraceElement")
  | 2 => .object "java/util/List"
  | 3 => .object "java/lang/String"
  | 4 => .object "java/lang/Object"
  | 5 => .int
  | 6 => .int
  | _ => .int
abbrev wsX60 : List Cond := u_ws RX6 TX6 8
theorem nmX6 : ∀ a, a < 8 → ∀ b, b < 8 → a ≠ b → (TX6 a).2.1 ≠ (TX6 b).2.1 := by decide +kernel
theorem tyX6_ok : ∀ k, k < 8 → parseFieldDescriptor (TX6 k).2.2.1 = some (tyX6 k) := by decide +kernel
abbrev cX6_init : ByteArray := prog_8_method_1_code
def yX6_init : MethodName := ⟨RX6, "<init>", "(II)V"⟩
theorem q90 : (Jvm.Cond.initialized "ClassFileReader$Malformed") ∈ lw_all := lw_g (lw_at lw_m1 14 rfl) rfl
theorem q332 : (Jvm.Cond.instantiable "ClassFileReader$Malformed" (8 : Nat)) ∈ lw_all := lw_g (lw_at lw_m2 16 rfl) rfl
theorem q333 : (Jvm.Cond.castable "ClassFileReader$Malformed" "ClassFileReader$Malformed") ∈ lw_tbl := lw_at lw_m2 17 rfl
theorem q340 : (Jvm.Cond.selects "ClassFileReader$Malformed" ({ cls := "java/lang/Throwable", name := "fillInStackTrace", desc := "(I)Ljava/lang/Throwable;" } : Jvm.MethodName) ({ cls := "java/lang/Throwable", name := "fillInStackTrace", desc := "(I)Ljava/lang/Throwable;" } : Jvm.MethodName)) ∈ lw_all := lw_g (lw_at lw_m2 24 rfl) rfl
theorem q341 : (Jvm.Cond.selects "ClassFileReader$Malformed" ({ cls := "java/lang/Throwable", name := "fillInStackTrace", desc := "()Ljava/lang/Throwable;" } : Jvm.MethodName) ({ cls := "java/lang/Throwable", name := "fillInStackTrace", desc := "()Ljava/lang/Throwable;" } : Jvm.MethodName)) ∈ lw_all := lw_g (lw_at lw_m2 25 rfl) rfl
theorem q342 : (Jvm.Cond.lays "ClassFileReader$Malformed" "java/lang/Throwable" "cause" "Ljava/lang/Throwable;") ∈ lw_all := lw_g (lw_at lw_m2 26 rfl) rfl
theorem q344 : (Jvm.Cond.lays "ClassFileReader$Malformed" "java/lang/Throwable" "stackTrace" "[Ljava/lang/StackTraceElement;") ∈ lw_all := lw_g (lw_at lw_m2 28 rfl) rfl
theorem q346 : (Jvm.Cond.lays "ClassFileReader$Malformed" "java/lang/Throwable" "suppressedExceptions" "Ljava/util/List;") ∈ lw_all := lw_g (lw_at lw_m2 30 rfl) rfl
theorem q348 : (Jvm.Cond.lays "ClassFileReader$Malformed" "java/lang/Throwable" "detailMessage" "Ljava/lang/String;") ∈ lw_all := lw_g (lw_at lw_m2 32 rfl) rfl
theorem q350 : (Jvm.Cond.lays "ClassFileReader$Malformed" "java/lang/Throwable" "backtrace" "Ljava/lang/Object;") ∈ lw_all := lw_g (lw_at lw_m2 34 rfl) rfl
theorem q371 : (Jvm.Cond.instanceMethod ({ cls := "ClassFileReader$Malformed", name := "<init>", desc := "(II)V" } : Jvm.MethodName)) ∈ lw_all := lw_g (lw_at lw_m2 55 rfl) rfl
theorem q372 : (Jvm.Cond.code ({ cls := "ClassFileReader$Malformed", name := "<init>", desc := "(II)V" } : Jvm.MethodName) prog_8_method_1_code (3 : Nat) (Option.none : Option Jvm.ClassFile.FieldType)) ∈ lw_all := lw_g (lw_at lw_m2 56 rfl) rfl
theorem q373 : (Jvm.Cond.methodLink "ClassFileReader$Malformed" (1 : Nat) ({ cls := "java/lang/RuntimeException", name := "<init>", desc := "()V" } : Jvm.MethodName)) ∈ lw_all := lw_g (lw_at lw_m2 57 rfl) rfl
theorem q380 : (Jvm.Cond.fieldLink "ClassFileReader$Malformed" (7 : Nat) "ClassFileReader$Malformed" "code" "I") ∈ lw_all := lw_g (lw_at lw_m2 64 rfl) rfl
theorem q382 : (Jvm.Cond.fieldLink "ClassFileReader$Malformed" (13 : Nat) "ClassFileReader$Malformed" "place" "I") ∈ lw_all := lw_g (lw_at lw_m2 66 rfl) rfl
theorem q388 : (Jvm.Cond.laysFinal "ClassFileReader$Malformed" "ClassFileReader$Malformed" "code" "I") ∈ lw_all := lw_g (lw_at lw_m2 72 rfl) rfl
theorem q389 : (Jvm.Cond.soleField "ClassFileReader$Malformed" "code") ∈ lw_all := lw_g (lw_at lw_m2 73 rfl) rfl
theorem q390 : (Jvm.Cond.laysFinal "ClassFileReader$Malformed" "ClassFileReader$Malformed" "place" "I") ∈ lw_all := lw_g (lw_at lw_m2 74 rfl) rfl
theorem q391 : (Jvm.Cond.soleField "ClassFileReader$Malformed" "place") ∈ lw_all := lw_g (lw_at lw_m2 75 rfl) rfl
theorem q396 : (Jvm.Cond.lays "ClassFileReader$Malformed" "java/lang/Throwable" "depth" "I") ∈ lw_all := lw_g (lw_at lw_m2 80 rfl) rfl
theorem q399 : (Jvm.Cond.superclass "ClassFileReader$Malformed" "java/lang/RuntimeException") ∈ lw_all := lw_g (lw_at lw_m2 83 rfl) rfl
theorem in_X6 : ∀ w ∈ wsX60, w ∈ lw_all := lw_in wsX60 [342, 344, 346, 348, 350, 396, 388, 390] (by decide +kernel) (by decide +kernel)
def RX7 : String := "ClassFileReader$Entry"
abbrev cX7_init : ByteArray := prog_3_method_1_code
def yX7_init : MethodName := ⟨RX7, "<init>", "(I)V"⟩
theorem q97 : (Jvm.Cond.initialized "ClassFileReader$Entry") ∈ lw_all := lw_g (lw_at lw_m1 21 rfl) rfl
theorem q610 : (Jvm.Cond.instanceMethod ({ cls := "ClassFileReader$Entry", name := "<init>", desc := "(I)V" } : Jvm.MethodName)) ∈ lw_all := lw_g (lw_at lw_m3 54 rfl) rfl
theorem q611 : (Jvm.Cond.code ({ cls := "ClassFileReader$Entry", name := "<init>", desc := "(I)V" } : Jvm.MethodName) prog_3_method_1_code (2 : Nat) (Option.none : Option Jvm.ClassFile.FieldType)) ∈ lw_all := lw_g (lw_at lw_m3 55 rfl) rfl
theorem q612 : (Jvm.Cond.methodLink "ClassFileReader$Entry" (1 : Nat) ({ cls := "java/lang/Object", name := "<init>", desc := "()V" } : Jvm.MethodName)) ∈ lw_all := lw_g (lw_at lw_m3 56 rfl) rfl
theorem q615 : (Jvm.Cond.fieldLink "ClassFileReader$Entry" (7 : Nat) "ClassFileReader$Entry" "place" "I") ∈ lw_all := lw_g (lw_at lw_m3 59 rfl) rfl
theorem q623 : (Jvm.Cond.soleField "ClassFileReader$Entry" "place") ∈ lw_all := lw_g (lw_at lw_m3 67 rfl) rfl
theorem q678 : (Jvm.Cond.declares ({ cls := "ClassFileReader$Entry", name := "check", desc := "(LClassFileReader;)V" } : Jvm.MethodName)) ∈ lw_tbl := lw_at lw_m3 122 rfl
theorem q679 : (Jvm.Cond.sameMethod "ClassFileReader$Entry" "ClassFileReader$Entry" "check" "(LClassFileReader;)V") ∈ lw_all := lw_g (lw_at lw_m3 123 rfl) rfl
def RX8 : String := "ClassFileReader$Text"
def TX8 : u_T := fun k => match k with
  | 0 => ("ClassFileReader$Entry", "place", "I", true)
  | _ => ("ClassFileReader$Text", "text", "Ljava/lang/String;", true)
def tyX8 : Nat → FieldType := fun k => match k with
  | 0 => .int
  | _ => .object "java/lang/String"
abbrev wsX80 : List Cond := u_ws RX8 TX8 2
theorem nmX8 : ∀ a, a < 2 → ∀ b, b < 2 → a ≠ b → (TX8 a).2.1 ≠ (TX8 b).2.1 := by decide +kernel
theorem tyX8_ok : ∀ k, k < 2 → parseFieldDescriptor (TX8 k).2.2.1 = some (tyX8 k) := by decide +kernel
abbrev cX8_init : ByteArray := prog_15_method_1_code
def yX8_init : MethodName := ⟨RX8, "<init>", "(ILjava/lang/String;)V"⟩
abbrev cX8_check : ByteArray := prog_15_method_2_code
def yX8_check : MethodName := ⟨RX8, "check", "(LClassFileReader;)V"⟩
theorem q98 : (Jvm.Cond.initialized "ClassFileReader$Text") ∈ lw_all := lw_g (lw_at lw_m1 22 rfl) rfl
theorem q542 : (Jvm.Cond.instantiable "ClassFileReader$Text" (2 : Nat)) ∈ lw_all := lw_g (lw_at lw_m2 226 rfl) rfl
theorem q607 : (Jvm.Cond.instanceMethod ({ cls := "ClassFileReader$Text", name := "<init>", desc := "(ILjava/lang/String;)V" } : Jvm.MethodName)) ∈ lw_all := lw_g (lw_at lw_m3 51 rfl) rfl
theorem q608 : (Jvm.Cond.code ({ cls := "ClassFileReader$Text", name := "<init>", desc := "(ILjava/lang/String;)V" } : Jvm.MethodName) prog_15_method_1_code (3 : Nat) (Option.none : Option Jvm.ClassFile.FieldType)) ∈ lw_all := lw_g (lw_at lw_m3 52 rfl) rfl
theorem q609 : (Jvm.Cond.methodLink "ClassFileReader$Text" (1 : Nat) ({ cls := "ClassFileReader$Entry", name := "<init>", desc := "(I)V" } : Jvm.MethodName)) ∈ lw_all := lw_g (lw_at lw_m3 53 rfl) rfl
theorem q613 : (Jvm.Cond.fieldLink "ClassFileReader$Text" (7 : Nat) "ClassFileReader$Text" "text" "Ljava/lang/String;") ∈ lw_all := lw_g (lw_at lw_m3 57 rfl) rfl
theorem q620 : (Jvm.Cond.laysFinal "ClassFileReader$Text" "ClassFileReader$Text" "text" "Ljava/lang/String;") ∈ lw_all := lw_g (lw_at lw_m3 64 rfl) rfl
theorem q621 : (Jvm.Cond.soleField "ClassFileReader$Text" "text") ∈ lw_all := lw_g (lw_at lw_m3 65 rfl) rfl
theorem q622 : (Jvm.Cond.laysFinal "ClassFileReader$Text" "ClassFileReader$Entry" "place" "I") ∈ lw_all := lw_g (lw_at lw_m3 66 rfl) rfl
theorem q624 : (Jvm.Cond.superclass "ClassFileReader$Text" "ClassFileReader$Entry") ∈ lw_all := lw_g (lw_at lw_m3 68 rfl) rfl
theorem q768 : (Jvm.Cond.selects "ClassFileReader$Text" ({ cls := "ClassFileReader$Entry", name := "check", desc := "(LClassFileReader;)V" } : Jvm.MethodName) ({ cls := "ClassFileReader$Text", name := "check", desc := "(LClassFileReader;)V" } : Jvm.MethodName)) ∈ lw_all := lw_g (lw_at lw_m3 212 rfl) rfl
theorem q769 : (Jvm.Cond.instanceMethod ({ cls := "ClassFileReader$Text", name := "check", desc := "(LClassFileReader;)V" } : Jvm.MethodName)) ∈ lw_all := lw_g (lw_at lw_m3 213 rfl) rfl
theorem q770 : (Jvm.Cond.code ({ cls := "ClassFileReader$Text", name := "check", desc := "(LClassFileReader;)V" } : Jvm.MethodName) prog_15_method_2_code (2 : Nat) (Option.none : Option Jvm.ClassFile.FieldType)) ∈ lw_all := lw_g (lw_at lw_m3 214 rfl) rfl
theorem q1431 : (Jvm.Cond.castable "ClassFileReader$Text" "ClassFileReader$Entry") ∈ lw_tbl := lw_at lw_m6 155 rfl
theorem in_X8 : ∀ w ∈ wsX80, w ∈ lw_all := lw_in wsX80 [622, 620] (by decide +kernel) (by decide +kernel)
def RX9 : String := "ClassFileReader$Constant"
def TX9 : u_T := fun k => match k with
  | 0 => ("ClassFileReader$Entry", "place", "I", true)
  | 1 => ("ClassFileReader$Constant", "tag", "I", true)
  | _ => ("ClassFileReader$Constant", "value", "J", true)
def tyX9 : Nat → FieldType := fun k => match k with
  | 0 => .int
  | 1 => .int
  | _ => .long
abbrev wsX90 : List Cond := u_ws RX9 TX9 3
theorem nmX9 : ∀ a, a < 3 → ∀ b, b < 3 → a ≠ b → (TX9 a).2.1 ≠ (TX9 b).2.1 := by decide +kernel
theorem tyX9_ok : ∀ k, k < 3 → parseFieldDescriptor (TX9 k).2.2.1 = some (tyX9 k) := by decide +kernel
abbrev cX9_init : ByteArray := prog_2_method_1_code
def yX9_init : MethodName := ⟨RX9, "<init>", "(IIJ)V"⟩
abbrev cX9_check : ByteArray := prog_2_method_2_code
def yX9_check : MethodName := ⟨RX9, "check", "(LClassFileReader;)V"⟩
theorem q99 : (Jvm.Cond.initialized "ClassFileReader$Constant") ∈ lw_all := lw_g (lw_at lw_m1 23 rfl) rfl
theorem q626 : (Jvm.Cond.instantiable "ClassFileReader$Constant" (3 : Nat)) ∈ lw_all := lw_g (lw_at lw_m3 70 rfl) rfl
theorem q628 : (Jvm.Cond.instanceMethod ({ cls := "ClassFileReader$Constant", name := "<init>", desc := "(IIJ)V" } : Jvm.MethodName)) ∈ lw_all := lw_g (lw_at lw_m3 72 rfl) rfl
theorem q629 : (Jvm.Cond.code ({ cls := "ClassFileReader$Constant", name := "<init>", desc := "(IIJ)V" } : Jvm.MethodName) prog_2_method_1_code (5 : Nat) (Option.none : Option Jvm.ClassFile.FieldType)) ∈ lw_all := lw_g (lw_at lw_m3 73 rfl) rfl
theorem q630 : (Jvm.Cond.methodLink "ClassFileReader$Constant" (1 : Nat) ({ cls := "ClassFileReader$Entry", name := "<init>", desc := "(I)V" } : Jvm.MethodName)) ∈ lw_all := lw_g (lw_at lw_m3 74 rfl) rfl
theorem q631 : (Jvm.Cond.fieldLink "ClassFileReader$Constant" (7 : Nat) "ClassFileReader$Constant" "tag" "I") ∈ lw_all := lw_g (lw_at lw_m3 75 rfl) rfl
theorem q633 : (Jvm.Cond.fieldLink "ClassFileReader$Constant" (13 : Nat) "ClassFileReader$Constant" "value" "J") ∈ lw_all := lw_g (lw_at lw_m3 77 rfl) rfl
theorem q635 : (Jvm.Cond.laysFinal "ClassFileReader$Constant" "ClassFileReader$Constant" "tag" "I") ∈ lw_all := lw_g (lw_at lw_m3 79 rfl) rfl
theorem q636 : (Jvm.Cond.soleField "ClassFileReader$Constant" "tag") ∈ lw_all := lw_g (lw_at lw_m3 80 rfl) rfl
theorem q637 : (Jvm.Cond.laysFinal "ClassFileReader$Constant" "ClassFileReader$Constant" "value" "J") ∈ lw_all := lw_g (lw_at lw_m3 81 rfl) rfl
theorem q638 : (Jvm.Cond.soleField "ClassFileReader$Constant" "value") ∈ lw_all := lw_g (lw_at lw_m3 82 rfl) rfl
theorem q639 : (Jvm.Cond.laysFinal "ClassFileReader$Constant" "ClassFileReader$Entry" "place" "I") ∈ lw_all := lw_g (lw_at lw_m3 83 rfl) rfl
theorem q640 : (Jvm.Cond.superclass "ClassFileReader$Constant" "ClassFileReader$Entry") ∈ lw_all := lw_g (lw_at lw_m3 84 rfl) rfl
theorem q680 : (Jvm.Cond.selects "ClassFileReader$Constant" ({ cls := "ClassFileReader$Entry", name := "check", desc := "(LClassFileReader;)V" } : Jvm.MethodName) ({ cls := "ClassFileReader$Constant", name := "check", desc := "(LClassFileReader;)V" } : Jvm.MethodName)) ∈ lw_all := lw_g (lw_at lw_m3 124 rfl) rfl
theorem q681 : (Jvm.Cond.instanceMethod ({ cls := "ClassFileReader$Constant", name := "check", desc := "(LClassFileReader;)V" } : Jvm.MethodName)) ∈ lw_all := lw_g (lw_at lw_m3 125 rfl) rfl
theorem q682 : (Jvm.Cond.code ({ cls := "ClassFileReader$Constant", name := "check", desc := "(LClassFileReader;)V" } : Jvm.MethodName) prog_2_method_2_code (2 : Nat) (Option.none : Option Jvm.ClassFile.FieldType)) ∈ lw_all := lw_g (lw_at lw_m3 126 rfl) rfl
theorem q1432 : (Jvm.Cond.castable "ClassFileReader$Constant" "ClassFileReader$Entry") ∈ lw_tbl := lw_at lw_m6 156 rfl
theorem in_X9 : ∀ w ∈ wsX90, w ∈ lw_all := lw_in wsX90 [639, 635, 637] (by decide +kernel) (by decide +kernel)
theorem q76 : (Jvm.Cond.initialized "ClassFileReaderLaw") ∈ lw_all := lw_g (lw_at lw_m1 0 rfl) rfl
theorem q107 : (Jvm.Cond.classLink "ClassFileReaderLaw" (7 : Nat) "ClassFileReader") ∈ lw_all := lw_g (lw_at lw_m1 31 rfl) rfl
theorem q109 : (Jvm.Cond.methodLink "ClassFileReaderLaw" (9 : Nat) ({ cls := "ClassFileReader", name := "<init>", desc := "()V" } : Jvm.MethodName)) ∈ lw_all := lw_g (lw_at lw_m1 33 rfl) rfl
theorem q179 : (Jvm.Cond.methodLink "ClassFileReaderLaw" (15 : Nat) ({ cls := "ClassFileReader", name := "put", desc := "(JI)I" } : Jvm.MethodName)) ∈ lw_all := lw_g (lw_at lw_m1 103 rfl) rfl
theorem q183 : (Jvm.Cond.methodLink "ClassFileReaderLaw" (20 : Nat) ({ cls := "ClassFileReader", name := "patch", desc := "(II)I" } : Jvm.MethodName)) ∈ lw_all := lw_g (lw_at lw_m1 107 rfl) rfl
theorem q187 : (Jvm.Cond.methodLink "ClassFileReaderLaw" (25 : Nat) ({ cls := "ClassFileReader", name := "drop", desc := "()I" } : Jvm.MethodName)) ∈ lw_all := lw_g (lw_at lw_m1 111 rfl) rfl
theorem q191 : (Jvm.Cond.methodLink "ClassFileReaderLaw" (30 : Nat) ({ cls := "ClassFileReader", name := "read", desc := "()I" } : Jvm.MethodName)) ∈ lw_all := lw_g (lw_at lw_m1 115 rfl) rfl
theorem q1047 : (Jvm.Cond.methodLink "ClassFileReaderLaw" (34 : Nat) ({ cls := "ClassFileReader", name := "place", desc := "()I" } : Jvm.MethodName)) ∈ lw_all := lw_g (lw_at lw_m5 11 rfl) rfl
theorem q1051 : (Jvm.Cond.methodLink "ClassFileReaderLaw" (38 : Nat) ({ cls := "ClassFileReader", name := "number", desc := "(I)I" } : Jvm.MethodName)) ∈ lw_all := lw_g (lw_at lw_m5 15 rfl) rfl
theorem q1055 : (Jvm.Cond.methodLink "ClassFileReaderLaw" (43 : Nat) ({ cls := "ClassFileReader", name := "flags", desc := "(II)I" } : Jvm.MethodName)) ∈ lw_all := lw_g (lw_at lw_m5 19 rfl) rfl
theorem q1063 : (Jvm.Cond.methodLink "ClassFileReaderLaw" (47 : Nat) ({ cls := "ClassFileReader", name := "text", desc := "(III)I" } : Jvm.MethodName)) ∈ lw_all := lw_g (lw_at lw_m5 27 rfl) rfl
theorem q1081 : (Jvm.Cond.methodLink "ClassFileReaderLaw" (52 : Nat) ({ cls := "ClassFileReader", name := "exceptions", desc := "(I)I" } : Jvm.MethodName)) ∈ lw_all := lw_g (lw_at lw_m5 45 rfl) rfl
theorem q1089 : (Jvm.Cond.methodLink "ClassFileReaderLaw" (56 : Nat) ({ cls := "ClassFileReader", name := "exception", desc := "(III)I" } : Jvm.MethodName)) ∈ lw_all := lw_g (lw_at lw_m5 53 rfl) rfl
theorem q1093 : (Jvm.Cond.methodLink "ClassFileReaderLaw" (60 : Nat) ({ cls := "ClassFileReader", name := "constant", desc := "(I)J" } : Jvm.MethodName)) ∈ lw_all := lw_g (lw_at lw_m5 57 rfl) rfl
theorem q1097 : (Jvm.Cond.methodLink "ClassFileReaderLaw" (65 : Nat) ({ cls := "ClassFileReader", name := "deprecated", desc := "(II)I" } : Jvm.MethodName)) ∈ lw_all := lw_g (lw_at lw_m5 61 rfl) rfl
theorem q1101 : (Jvm.Cond.classLink "ClassFileReaderLaw" (10 : Nat) "ClassFileReaderModel") ∈ lw_all := lw_g (lw_at lw_m5 65 rfl) rfl
theorem q1103 : (Jvm.Cond.methodLink "ClassFileReaderLaw" (12 : Nat) ({ cls := "ClassFileReaderModel", name := "<init>", desc := "()V" } : Jvm.MethodName)) ∈ lw_all := lw_g (lw_at lw_m5 67 rfl) rfl
theorem q1138 : (Jvm.Cond.methodLink "ClassFileReaderLaw" (19 : Nat) ({ cls := "ClassFileReaderModel", name := "put", desc := "(JI)I" } : Jvm.MethodName)) ∈ lw_all := lw_g (lw_at lw_m5 102 rfl) rfl
theorem q1143 : (Jvm.Cond.methodLink "ClassFileReaderLaw" (24 : Nat) ({ cls := "ClassFileReaderModel", name := "patch", desc := "(II)I" } : Jvm.MethodName)) ∈ lw_all := lw_g (lw_at lw_m5 107 rfl) rfl
theorem q1147 : (Jvm.Cond.methodLink "ClassFileReaderLaw" (29 : Nat) ({ cls := "ClassFileReaderModel", name := "drop", desc := "()I" } : Jvm.MethodName)) ∈ lw_all := lw_g (lw_at lw_m5 111 rfl) rfl
theorem q1151 : (Jvm.Cond.methodLink "ClassFileReaderLaw" (33 : Nat) ({ cls := "ClassFileReaderModel", name := "read", desc := "()I" } : Jvm.MethodName)) ∈ lw_all := lw_g (lw_at lw_m5 115 rfl) rfl
theorem q1361 : (Jvm.Cond.methodLink "ClassFileReaderLaw" (37 : Nat) ({ cls := "ClassFileReaderModel", name := "place", desc := "()I" } : Jvm.MethodName)) ∈ lw_all := lw_g (lw_at lw_m6 85 rfl) rfl
theorem q1365 : (Jvm.Cond.methodLink "ClassFileReaderLaw" (42 : Nat) ({ cls := "ClassFileReaderModel", name := "number", desc := "(I)I" } : Jvm.MethodName)) ∈ lw_all := lw_g (lw_at lw_m6 89 rfl) rfl
theorem q1369 : (Jvm.Cond.methodLink "ClassFileReaderLaw" (46 : Nat) ({ cls := "ClassFileReaderModel", name := "flags", desc := "(II)I" } : Jvm.MethodName)) ∈ lw_all := lw_g (lw_at lw_m6 93 rfl) rfl
theorem q1381 : (Jvm.Cond.methodLink "ClassFileReaderLaw" (51 : Nat) ({ cls := "ClassFileReaderModel", name := "text", desc := "(III)I" } : Jvm.MethodName)) ∈ lw_all := lw_g (lw_at lw_m6 105 rfl) rfl
theorem q1401 : (Jvm.Cond.methodLink "ClassFileReaderLaw" (55 : Nat) ({ cls := "ClassFileReaderModel", name := "exceptions", desc := "(I)I" } : Jvm.MethodName)) ∈ lw_all := lw_g (lw_at lw_m6 125 rfl) rfl
theorem q1405 : (Jvm.Cond.methodLink "ClassFileReaderLaw" (59 : Nat) ({ cls := "ClassFileReaderModel", name := "exception", desc := "(III)I" } : Jvm.MethodName)) ∈ lw_all := lw_g (lw_at lw_m6 129 rfl) rfl
theorem q1409 : (Jvm.Cond.methodLink "ClassFileReaderLaw" (64 : Nat) ({ cls := "ClassFileReaderModel", name := "constant", desc := "(I)J" } : Jvm.MethodName)) ∈ lw_all := lw_g (lw_at lw_m6 133 rfl) rfl
theorem q1420 : (Jvm.Cond.methodLink "ClassFileReaderLaw" (68 : Nat) ({ cls := "ClassFileReaderModel", name := "deprecated", desc := "(II)I" } : Jvm.MethodName)) ∈ lw_all := lw_g (lw_at lw_m6 144 rfl) rfl
theorem q1424 : (Jvm.Cond.constantLong "ClassFileReaderLaw" (13 : Nat) (4294967295 : Int64)) ∈ lw_all := lw_g (lw_at lw_m6 148 rfl) rfl
theorem q456 : (Jvm.Cond.sameMethod "[B" "java/lang/Object" "clone" "()Ljava/lang/Object;") ∈ lw_all := lw_g (lw_at lw_m2 140 rfl) rfl
theorem q459 : (Jvm.Cond.selects "[B" ({ cls := "[B", name := "clone", desc := "()Ljava/lang/Object;" } : Jvm.MethodName) ({ cls := "java/lang/Object", name := "clone", desc := "()Ljava/lang/Object;" } : Jvm.MethodName)) ∈ lw_all := lw_g (lw_at lw_m2 143 rfl) rfl
theorem q460 : (Jvm.Cond.castable "[B" "java/lang/Cloneable") ∈ lw_tbl := lw_at lw_m2 144 rfl
theorem q94 : (Jvm.Cond.initialized "java/lang/System") ∈ lw_all := lw_g (lw_at lw_m1 18 rfl) rfl
theorem q466 : (Jvm.Cond.static ({ cls := "java/lang/System", name := "arraycopy", desc := "(Ljava/lang/Object;ILjava/lang/Object;II)V" } : Jvm.MethodName)) ∈ lw_all := lw_g (lw_at lw_m2 150 rfl) rfl
theorem q467 : (Jvm.Cond.native ({ cls := "java/lang/System", name := "arraycopy", desc := "(Ljava/lang/Object;ILjava/lang/Object;II)V" } : Jvm.MethodName)) ∈ lw_all := lw_g (lw_at lw_m2 151 rfl) rfl
theorem q949 : (Jvm.Cond.interfaceMethod "jdk/internal/access/JavaLangAccess" "jdk/internal/access/JavaLangAccess" "getUTF16Char" "([BI)C") ∈ lw_tbl := lw_at lw_m4 153 rfl
theorem q950 : (Jvm.Cond.declares ({ cls := "jdk/internal/access/JavaLangAccess", name := "getUTF16Char", desc := "([BI)C" } : Jvm.MethodName)) ∈ lw_tbl := lw_at lw_m4 154 rfl
theorem q116 : (Jvm.Cond.arrayOver (Jvm.ClassFile.FieldType.object "ClassFileReader$Entry")) ∈ lw_tbl := lw_at lw_m1 40 rfl
theorem q149 : (Jvm.Cond.arrayClass Jvm.ClassFile.FieldType.int) ∈ lw_all := lw_g (lw_at lw_m1 73 rfl) rfl
theorem q150 : (Jvm.Cond.arrayClass Jvm.ClassFile.FieldType.byte) ∈ lw_all := lw_g (lw_at lw_m1 74 rfl) rfl
theorem q1435 : (Jvm.Cond.arrayClass Jvm.ClassFile.FieldType.char) ∈ lw_all := lw_g (lw_at lw_m6 159 rfl) rfl
theorem q1436 : (Jvm.Cond.arrayClass Jvm.ClassFile.FieldType.short) ∈ lw_all := lw_g (lw_at lw_m6 160 rfl) rfl
